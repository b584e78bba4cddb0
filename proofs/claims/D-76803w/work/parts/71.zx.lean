/-! SMALL ROWS FOR THE PRINTED TABLES -/
section SN7
variable {mt : Nat → ZY} {own nm de : String} {cc : ByteArray} {nL : Nat} {rt : Option FieldType} {pc : Nat}
theorem sn_ldcw {index : Nat} {x : Int32} {v : Int} (hd : decode cc pc = .ok (.ldc_w index, 3)) (hw : Cond.constant own index x ∈ lw_all) (hv : x = Int32.ofInt v) : ZSn mt own nm de cc nL rt pc (oconst (zI v) (pc + 3)) := by
  intro p l e R s m args below meth c G H0 d C Q P cx hC hP L S H ho ls M locs fr
  subst hv
  exact lv_ldcw cx.1 cx.2.1 cx.2.2.2.2.2.1 (cx.2.2.2.2.2.2.1 _ hw) hd (hP _ _ _ _ ho ls M locs fr)
theorem sn_tsw2 {df lo hi : Int} {offs : Array Int} {len dt : Nat} {tgs : List Nat} (hd : decode cc pc = .ok (.tableswitch df lo hi offs, len)) (hdf : (pc : Int) + df = (dt : Int)) (hn : hi = lo + tgs.length - 1) (hof : offs.toList.map (fun o => (pc : Int) + o) = tgs.map (fun t : Nat => (t : Int))) : ZSn mt own nm de cc nL rt pc (otsw lo hi tgs dt) := by
  refine sn_tsw hd hdf hn (fun i t h => ?_)
  have h1 := congrArg (fun l => l[i]?) hof
  simp only [List.getElem?_map, h, Option.map_some, Array.getElem?_toList] at h1
  cases ho : offs[i]? with
  | none => rw [ho] at h1; cases h1
  | some o =>
    rw [ho] at h1
    exact ⟨o, rfl, Option.some.inj h1⟩
theorem sn_bzald (hd : decode cc pc = .ok (.baload, 1)) : ZSn mt own nm de cc nL rt pc (oald [102, 122, 103] (pc + 1)) := by
  intro p l e R s m args below meth c G H0 d C Q P cx hC hP L S H ho
  simp only [oald] at ho
  split at ho
  · next i r S' =>
    obtain ⟨ht, ho⟩ := ho
    by_cases h3 : hT H r = 103
    · exact sn_zald (ts := [103]) (mt := mt) hd (by unfold zarrk; decide) (by decide) p l e R s m args below meth c G H0 d C Q P cx hC hP L _ H ⟨by rw [h3]; decide, ho⟩
    · have h4 : hT H r ∈ [102, 122] := by
        simp only [List.mem_cons, List.not_mem_nil, or_false] at ht ⊢
        omega
      exact sn_bald (ts := [102, 122]) (mt := mt) hd (by unfold zarrk; decide) (by decide) p l e R s m args below meth c G H0 d C Q P cx hC hP L _ H ⟨h4, ho⟩
  · exact ho.elim
theorem sn_castO {idx : Nat} (hd : decode cc pc = .ok (.checkcast idx, 3)) (hl : Cond.classLink own idx "[Ljava/lang/Object;" ∈ lw_all) : ZSn mt own nm de cc nL rt pc (ocast [110] (pc + 3)) := by
  intro p l e R s m args below meth c G H0 d C Q P cx hC hP L S H ho ls M locs fr
  simp only [ocast] at ho
  split at ho
  · next r S' =>
    obtain ⟨hr, ho⟩ := ho
    have hw := hP _ _ _ _ ho ls M locs fr
    have hV := cx.2.2.2.2.2.2.2.1
    by_cases hr0 : r = 0
    · subst hr0
      exact lv_castN cx.1 cx.2.1 hd hw
    · have ht : hT H r = 110 := by simpa using hr.resolve_left hr0
      have hz : hT H r ∈ zarrs := by rw [ht]; decide
      obtain ⟨a, rfl, e2, -⟩ := zarr_at fr.2.1 hz
      have h3 := (hV.2.2.1 _ hz).2
      rw [ht] at h3 e2
      obtain ⟨kA, comp, g1, g2, g3, g4⟩ := h3
      intro T hT X
      obtain ⟨vm', X', st⟩ := X.checkcastYes cx.1 cx.2.2.2.2.2.1 (cx.2.2.2.2.2.2.1 _ hl) (by rw [hT]; exact e2) rfl g4 (by exact va_asg _ _) (g := F0 m pc ls (Value.ref a :: S'.map zval)) rfl rfl (by rw [cx.2.1]; exact hd)
      obtain ⟨t, a1, b1⟩ := hw (T.setVm vm') hT X'
      exact ⟨t, st t a1, b1⟩
  · exact ho.elim
theorem sn_call2 {k n : Nat} {y : ZY} (hm : mt k = y) (hr : ZRunS own nm de cc nL rt pc y n) : ZSn mt own nm de cc nL rt pc (ocall k n (pc + 3)) := sn_call (by rw [hm]; exact hr)
theorem sn_callv2 {ts : List Nat} {k n : Nat} {y : ZY} (hm : mt k = y) (h0 : ¬ 0 ∈ ts) (hr : ∀ t ∈ ts, ZRunV own nm de cc nL rt pc y n t) : ZSn mt own nm de cc nL rt pc (ocallv ts k n (pc + 3)) := sn_callv h0 (by rw [hm]; exact hr)
theorem zrv_m {k n t : Nat} {y : ZY} (hm : mt k = y) (hr : ZRunV own nm de cc nL rt pc y n t) : ZRunV own nm de cc nL rt pc (mt k) n t := by rw [hm]; exact hr
theorem zrf_m {k n t : Nat} {y : ZY} (hm : mt k = y) (hr : ZRunF own nm de cc nL rt pc y n t) : ZRunF own nm de cc nL rt pc (mt k) n t := by rw [hm]; exact hr
theorem zface_mem {q : String × MethodName × MethodName} (h : zfaces.contains q = true) : q ∈ zfaces := List.contains_iff_mem.mp h
end SN7
