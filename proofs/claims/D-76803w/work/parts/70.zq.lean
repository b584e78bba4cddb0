/-! A METHOD'S CONTRACT OUT OF ITS TABLE -/
def ZOk (mt : Nat → ZY) (y : ZY) (T : ZT) : Prop := ∀ (n : Nat) (b : List (Nat × ZO)), (n, b) ∈ T → ∀ (pc : Nat) (o : ZO), (pc, o) ∈ b → ZSn mt y.1.cls y.1.name y.1.desc y.2.1 y.2.2.1 y.2.2.2 pc o
theorem zlk1_mem : ∀ {b : List (Nat × ZO)} {pc : Nat} {o : ZO}, zlk1 b pc = some o → (pc, o) ∈ b
  | [], pc, o, h => by cases h
  | (n, o') :: b, pc, o, h => by
    unfold zlk1 at h
    split at h
    · next e =>
      cases h
      rw [← Nat.eq_of_beq_eq_true e]
      exact List.mem_cons_self
    · exact List.mem_cons_of_mem _ (zlk1_mem h)
theorem zlk_mem : ∀ {T : ZT} {pc : Nat} {o : ZO}, zlk T pc = some o → ∃ n b, (n, b) ∈ T ∧ (pc, o) ∈ b
  | [], pc, o, h => by cases h
  | (n, b) :: T, pc, o, h => by
    unfold zlk at h
    split at h
    · exact ⟨n, b, List.mem_cons_self, zlk1_mem h⟩
    · obtain ⟨n', b', h1, h2⟩ := zlk_mem h
      exact ⟨n', b', List.mem_cons_of_mem _ h1, h2⟩
theorem zflat_sl : ∀ (as : ZS), (zflat as).length = (lg_sl (as.map zval)).length ∧ ∀ (i : Nat) (v : ZV), (zflat as)[i]? = some (some v) → (lg_sl (as.map zval))[i]? = some (.val (zval v))
  | [] => ⟨rfl, fun i v h => by simp [zflat] at h⟩
  | v :: as => by
    obtain ⟨ih1, ih2⟩ := zflat_sl as
    rw [zflat, List.map_cons]
    by_cases hv : (zval v).category = 2
    · obtain ⟨x, rfl⟩ := (zcat_J v).mp hv
      have e : lg_sl (zval (zJ x) :: as.map zval) = [.val (zval (zJ x)), .second] ++ lg_sl (as.map zval) := by
        simp [lg_sl, zval, Value.category]
      have e3 : zfl1 (zJ x) = [some (zJ x), none] := rfl
      rw [e, e3]
      refine ⟨by simp [ih1], fun i w h => ?_⟩
      match i, h with
      | 0, h => cases h; rfl
      | 1, h => cases h
      | i + 2, h => exact ih2 i w h
    · have e : lg_sl (zval v :: as.map zval) = [.val (zval v)] ++ lg_sl (as.map zval) := by
        simp [lg_sl, hv]
      have e2 : zfl1 v = [some v] := by
        rcases v with x | x | r
        · rfl
        · exact absurd ((zcat_J _).mpr ⟨x, rfl⟩) hv
        · rfl
      rw [e, e2]
      refine ⟨by simp [ih1], fun i w h => ?_⟩
      match i, h with
      | 0, h => cases h; rfl
      | i + 1, h => exact ih2 i w h
theorem zent_ls {as : ZS} {nL : Nat} (h : (zflat as).length ≤ nL) : ZLs ((lg_sl (as.map zval) ++ List.replicate (nL - (lg_sl (as.map zval)).length) Slot.unset).toArray) nL (zent nL as) := by
  obtain ⟨h1, h2⟩ := zflat_sl as
  have hl := lv_entry (as.map zval) (n := nL) (by rw [← h1]; exact h)
  refine ⟨by simp [zent]; omega, hl.1, hl.2.1, fun i v hv => ?_⟩
  unfold zent at hv
  by_cases hi : i < (zflat as).length
  · rw [List.getElem?_append_left hi] at hv
    rw [List.getElem?_toArray, List.getElem?_append_left (by rw [← h1]; exact hi)]
    exact h2 i v hv
  · rw [List.getElem?_append_right (by omega), List.getElem?_replicate] at hv
    split at hv <;> cases hv
theorem zle_ls {L0 L : ZL} {ls : Array Slot} {nL : Nat} (h : zle L0 L) (hl : ZLs ls nL L) : ZLs ls nL L0 := ⟨h.1.trans hl.1, hl.2.1, hl.2.2.1, fun i v hv => hl.2.2.2 i v (h.2 i v hv)⟩
theorem zmet_step {mt : Nat → ZY} {tb : Nat → Nat × ZT} {l : Launch} {G : ZG} {d : Nat} {y : ZY} {T : ZT} (hy : plainName y.1.cls = true) (hok : ZOk mt y T) (hn : y.2.2.1 ≤ 32) (hC : ∀ k as H Q, zcall tb d k as H Q → zlim H → ZMet l G d (mt k) as H Q)
    {as : ZS} {H : ZH} {Q : ZQ} (hl : (zflat as).length ≤ y.2.2.1) (hw : zwp (zcall tb d) T Q 0 (zent y.2.2.1 as) [] H) (hlim : zlim H) : ZMet l G (d + 1) y as H Q := by
  obtain ⟨yn, cc, nL, rt⟩ := y
  refine Met.ofW (cc := cc) (maxL := nL) (ret := rt) hy rfl ?_
  intro p e s m args below meth c s₁ B hml hv
  obtain ⟨rfl, hH, hV⟩ := hv
  have hts := atoms_spec (ws := ws_ yn cc nL rt) B.pre
  have hts : ∀ w ∈ lw_all, w.before _ s = true := fun w h => hts w (List.mem_cons_of_mem _ h)
  have hown : s.vm.findClass yn.cls = some m.cls := findClass_of_methodNamed B.named
  have hin : meth.name = yn.name := (name_of_methodNamed B.named B.method).1
  have hsz : s.heap.size + 1 = hN H := hH.1.symm
  have hsu : zsum s.heap = hS H := hH.2.1.symm
  have cx : ZCx p (zroom (d + 1) H) s m (as.map zval).toArray meth c G H d yn.cls yn.name yn.desc cc nL rt := ⟨B.exec, B.bytes, B.returns, B.notSynchronized, hml, hown, hts, hV, rfl, hsz, hsu, hin, hn, B.named⟩
  have key := hw (ZGd p l e (zroom (d + 1) H) s m (as.map zval).toArray below meth c (zQm below G H Q (as.map zval).toArray s) G H nL) (fun pc L0 L S H' hle hp ls M locs fr => hp ls M locs ⟨zle_ls hle fr.1, fr.2⟩) (fun P' pc L S H' hP hst => by
    unfold zstep at hst
    split at hst
    · next o ho =>
      obtain ⟨n, b, m1, m2⟩ := zlk_mem ho
      exact hok n b m1 pc o m2 p l e _ s m _ below meth c G H d _ Q P' cx hC hP L S H' hst
    · exact hst.elim)
  have hfr : ZFr G H H nL (zent nL as) ((lg_sl (as.map zval) ++ List.replicate (nL - (lg_sl (as.map zval)).length) Slot.unset).toArray) s.heap [] := ⟨zent_ls hl, hH, ⟨Nat.le_refl _, Nat.le_refl _, fun _ => rfl, hlim⟩, fun q hq => by cases hq⟩
  have hW := key _ s.heap [] hfr
  rw [Nat.sub_self, Nat.sub_self] at hW
  rw [lg_entry_eq]
  exact hW
