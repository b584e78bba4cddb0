/-! MAKING, ARRAYS, CASTS -/
theorem ztyk0 : (List.range zNF).all (fun f => match parseFieldDescriptor (zfo f).2.2.1 with
  | some ty => (match ty with
    | .long => zft f == 1
    | .object _ => zft f == 2
    | .array _ => zft f == 2
    | .float => false
    | .double => false
    | _ => zft f == 0)
  | none => false) = true := by decide +kernel
theorem zdef {f : Nat} (hf : f < zNF) {ty : FieldType} (h : parseFieldDescriptor (zfo f).2.2.1 = some ty) : defaultValue ty = (match zft f with
  | 0 => .int (Int32.ofInt 0)
  | 1 => .long (Int64.ofInt 0)
  | _ => zref 0) := by
  have h1 := List.all_eq_true.mp ztyk0 f (List.mem_range.mpr hf)
  simp only [h] at h1
  cases ty <;> simp only [beq_iff_eq, Bool.false_eq_true] at h1 <;> rw [h1] <;> rfl
theorem zheap_new {G : ZG} {H H' : ZH} {M M' : Heap} {cell : Cell} {n : Nat} (hH : ZHeap G H M) (m1 : M'[M.size]? = some cell) (m2 : M'.size = M.size + 1) (m3 : ∀ q : Nat, q < M.size → M'[q]? = M[q]?) (hsz : cell.slots.size = n)
    (hN' : hN H' = hN H + 1) (hS' : hS H' = hS H + n) (hT' : ∀ r, r ≠ hN H → hT H' r = hT H r) (hL' : ∀ r, r ≠ hN H → hL H' r = hL H r) (hE' : ∀ k, hE H' k = hE H k) (hav : ∀ t r, r ≠ hN H → zav H' t r = zav H t r) (hfv : ∀ g r, r ≠ hN H → zfv H' g r = zfv H g r) (hc : ZCell G H' (hN H) cell) : ZHeap G H' M' := by
  have hn := hH.1
  refine ⟨by rw [hN', m2, hn], by rw [hS', hH.2.1, zsum_push m2 m1 hsz m3], by rw [hT' 0 (by omega)]; exact hH.2.2.1, fun r hr => ?_, fun a ha h0 => ?_, fun q hq => ?_, by rw [m2]; exact Nat.le_succ_of_le hH.2.2.2.2.2.2.1, fun k => (hE' k).trans (hH.2.2.2.2.2.2.2 k)⟩
  · by_cases e : r = hN H
    · exact ⟨M.size, cell, by omega, m1, by rw [e]; exact hc⟩
    · rw [hT' r e] at hr
      obtain ⟨a, cl, q1, q2, q3, q4, q5⟩ := hH.2.2.2.1 r hr
      have hlt := (Array.getElem?_eq_some_iff.mp q2).1
      refine ⟨a, cl, q1, by rw [m3 a hlt]; exact q2, q3, by rw [hT' r e]; exact q4, ?_⟩
      rw [hT' r e, hL' r e, hav _ r e]
      split
      · next h1 =>
        rw [if_pos h1] at q5
        intro g hg
        rw [hfv g r e]
        exact q5 g hg
      · next h1 =>
        rw [if_neg h1] at q5
        exact q5
  · by_cases e : a + 1 = hN H
    · have := hH.2.2.2.2.2.2.1
      omega
    · rw [hT' _ e] at ha h0
      exact hH.2.2.2.2.1 a ha h0
  · have hb := hH.2.2.2.2.2.2.1
    rw [m3 q (by omega)]
    exact hH.2.2.2.2.2.1 q hq
theorem znx_new {H0 H H' : ZH} (h : ZNx H0 H) {n : Nat} (hN' : hN H' = hN H + 1) (hS' : hS H' = hS H + n) (hE' : ∀ k, hE H' k = hE H k) (h1 : hN H < hE H 0) (h2 : hS H + n ≤ hE H 1) : ZNx H0 H' := by
  obtain ⟨a, b, c, d, e⟩ := h
  refine ⟨by omega, by omega, fun k => (hE' k).trans (c k), ?_, ?_⟩
  · rw [hE', hN']; exact h1
  · rw [hE', hS']; exact h2
section SN5
variable {mt : Nat → ZY} {own nm de : String} {cc : ByteArray} {nL : Nat} {rt : Option FieldType} {pc : Nat}
theorem sn_new {idx t n : Nat} (hd : decode cc pc = .ok (.new idx, 3)) (hl : Cond.classLink own idx (znm t) ∈ lw_all) (hi : Cond.instantiable (znm t) n ∈ lw_all) (hini : Cond.initialized (znm t) ∈ lw_all) (h0 : 0 < t) (ht : t < 47) : ZSn mt own nm de cc nL rt pc (onew t n (pc + 3)) := by
  intro p l e R s m args below meth c G H0 d C Q P cx hC hP L S H ho ls M locs fr
  obtain ⟨h1, h2, ho⟩ := ho
  have hts := cx.2.2.2.2.2.2.1
  have hV := cx.2.2.2.2.2.2.2.1
  have hRm : R = zroom (d + 1) H0 := cx.2.2.2.2.2.2.2.2.1
  have hnx := fr.2.2.1
  have hfit := zfits (d := d) hnx
  have e0 := hnx.2.2.1 0
  have e1 := hnx.2.2.1 1
  have l0 := hnx.1
  have l1 := hnx.2.1
  have hsize := fr.2.1.1
  refine W.newcK cx.1 cx.2.1 cx.2.2.2.2.2.1 (hts _ hl) (hts _ hi) (hts _ hini) rfl hd (by rw [hRm]; show _ ≤ hE H0 0 - hN H0; omega) (by rw [hRm]; show _ ≤ hE H0 1 - hS H0; omega) (zcls_at hV h0 (by omega)) (h := M.size) rfl (fun M' kC k1 m1 m2 m3 => ?_)
  have hkC : kC.instanceTypes.size = n := by
    obtain ⟨c1, k2, f1, f2, -, -, -, f3⟩ := Cond.instantiable_spec (hts _ hi)
    cases (zcls_at hV h0 (by omega)).symm.trans f1
    cases k1.symm.trans f2
    exact f3
  have hZ : ZHeap G (uO H t n) M' := by
    refine zheap_new fr.2.1 m1 m2 m3 (n := n) (by simp [blank, hkC]) rfl rfl (fun r hr => if_neg hr) (fun r hr => rfl) (fun _ => rfl) (fun t r hr => rfl) (fun g r hr => ?_) ?_
    · simp only [zfv, uO, hI, hR, if_neg hr]
    · have htag : hT (uO H t n) (hN H) = t := if_pos rfl
      refine ⟨rfl, by rw [htag]; rfl, ?_⟩
      rw [htag, if_pos (by omega)]
      intro f hf
      have hlt := zfl_lt t (by omega) f hf
      obtain ⟨cf, kf, fi, fd, hi2, he, -⟩ := zfld_st hts hV hlt
      obtain ⟨ty, hty⟩ := Option.isSome_iff_exists.mp (zty_ok f hlt)
      have h3 := (u_facts (zcls_at hV h0 (by omega)) k1 (zly_use hts (zly t h0 ht f hf)) hi2).2.2
      rw [(State.fieldFound?_type hi2 hty).2] at h3
      rw [← he, k2_blank h3, zdef hlt hty]
      simp only [zfv, uO, hI, hR, if_true]
      generalize zft f = k
      match k with
      | 0 => rfl
      | 1 => rfl
      | k + 2 => rfl
  have hw := hP _ _ _ _ ho ls M' locs ⟨fr.1, hZ, znx_new (n := n) hnx rfl rfl (fun _ => rfl) h1 h2, fr.2.2.2⟩
  refine W.cs (cells' := hN (uO H t n) - hN H0) (slots' := hS (uO H t n) - hS H0) (by show _ = hN H + 1 - hN H0; omega) (by show _ = hS H + n - hS H0; omega) ?_
  have e9 : zval (zR (hN H)) = .ref M.size := by rw [hsize]; rfl
  simp only [List.map_cons, e9] at hw
  exact hw
theorem zidx {i : Int} {n : Nat} (h0 : 0 ≤ i) (h1 : i < n) (hn : n < 1073741824) : ¬ (Int32.ofInt i < 0 ∨ n ≤ (Int32.ofInt i).toNatClampNeg) ∧ (Int32.ofInt i).toNatClampNeg = i.toNat := by
  have e : (Int32.ofInt i).toInt = i := by rw [ofi_w, zw, Int.bmod_eq_of_le (by omega) (by omega)]
  have e2 : (Int32.ofInt i).toNatClampNeg = i.toNat := by
    show (Int32.ofInt i).toInt.toNat = _
    rw [e]
  refine ⟨?_, e2⟩
  rw [e2, Int32.lt_iff_toInt_lt, e]
  show ¬ (i < 0 ∨ n ≤ i.toNat)
  omega
theorem zarr_of {G : ZG} {s : State} (hV : ZVm G s) {t n : Nat} {f : Nat → Value} (ht : t ∈ zarrs) : s.isArrayOf (arrV (G.1 t) n f) (zaty t) := (hV.2.2.1 t ht).1 n f
/-- an array with a tag of ts: where it lies -/
theorem zarr_at {G : ZG} {H : ZH} {M : Heap} (hH : ZHeap G H M) {r : Nat} (h : hT H r ∈ zarrs) : ∃ a, r = a + 1 ∧ M[a]? = some (arrV (G.1 (hT H r)) (hL H r) (zav H (hT H r) r)) ∧ hL H r < 1073741824 := by
  have h100 : ¬ hT H r < 100 := by
    intro q
    have : ∀ t ∈ zarrs, ¬ t < 100 := by decide
    exact this _ h q
  obtain ⟨a, cell, e1, e2, -, -, -, e5⟩ := zobj hH rfl (show hT H r ≠ 0 by omega)
  obtain ⟨-, e6, e7⟩ := e5 h100
  exact ⟨a, e1, by rw [e2, e6], e7⟩
def zarrk (ts : List Nat) (ty : FieldType) : Prop := ∀ t ∈ ts, t ∈ zarrs ∧ zaty t = ty
theorem sn_len {ts : List Nat} (hd : decode cc pc = .ok (.arraylength, 1)) (hts : ∀ t ∈ ts, t ∈ zarrs) : ZSn mt own nm de cc nL rt pc (olen ts (pc + 1)) := by
  intro p l e R s m args below meth c G H0 d C Q P cx hC hP L S H ho ls M locs fr
  simp only [olen] at ho
  split at ho
  · next r S' =>
    obtain ⟨ht, ho⟩ := ho
    obtain ⟨a, rfl, e2, e3⟩ := zarr_at fr.2.1 (hts _ ht)
    have hw := hP _ _ _ _ ho ls M locs fr
    exact W.alen cx.1 cx.2.1 e2 (zarr_of cx.2.2.2.2.2.2.2.1 (hts _ ht)) (by rw [arrV_size]; rfl) rfl rfl hd hw
  · exact ho.elim
theorem sn_iald {ts : List Nat} (hd : decode cc pc = .ok (.iaload, 1)) (hts : zarrk ts .int) (hk : ∀ t ∈ ts, zak t = 0) : ZSn mt own nm de cc nL rt pc (oald ts (pc + 1)) := by
  intro p l e R s m args below meth c G H0 d C Q P cx hC hP L S H ho ls M locs fr
  simp only [oald] at ho
  split at ho
  · next i r S' =>
    obtain ⟨ht, ⟨i0, i1⟩, ho⟩ := ho
    obtain ⟨a, rfl, e2, e3⟩ := zarr_at fr.2.1 (hts _ ht).1
    obtain ⟨z1, z2⟩ := zidx i0 i1 e3
    have hw := hP _ _ _ _ ho ls M locs fr
    have harr := zarr_of (n := hL H (a + 1)) (f := zav H (hT H (a + 1)) (a + 1)) cx.2.2.2.2.2.2.2.1 (hts _ ht).1
    rw [(hts _ ht).2] at harr
    refine W.iald cx.1 cx.2.1 e2 harr (by exact fun q => by cases q) (by rw [arrV_size]; exact z1) (by rw [z2]; exact arrV_read _ _ (by omega)) rfl rfl hd ?_
    simp only [zav, hk _ ht]
    exact hw
  · exact ho.elim
theorem sn_bald {ts : List Nat} (hd : decode cc pc = .ok (.baload, 1)) (hts : zarrk ts .byte) (hk : ∀ t ∈ ts, zak t = 0) : ZSn mt own nm de cc nL rt pc (oald ts (pc + 1)) := by
  intro p l e R s m args below meth c G H0 d C Q P cx hC hP L S H ho ls M locs fr
  simp only [oald] at ho
  split at ho
  · next i r S' =>
    obtain ⟨ht, ⟨i0, i1⟩, ho⟩ := ho
    obtain ⟨a, rfl, e2, e3⟩ := zarr_at fr.2.1 (hts _ ht).1
    obtain ⟨z1, z2⟩ := zidx i0 i1 e3
    have hw := hP _ _ _ _ ho ls M locs fr
    have harr := zarr_of (n := hL H (a + 1)) (f := zav H (hT H (a + 1)) (a + 1)) cx.2.2.2.2.2.2.2.1 (hts _ ht).1
    rw [(hts _ ht).2] at harr
    refine W.bald cx.1 cx.2.1 e2 harr (by exact fun q => by cases q) (by rw [arrV_size]; exact z1) (by rw [z2]; exact arrV_read _ _ (by omega)) rfl rfl hd ?_
    simp only [zav, hk _ ht]
    exact hw
  · exact ho.elim
theorem sn_zald {ts : List Nat} (hd : decode cc pc = .ok (.baload, 1)) (hts : zarrk ts .boolean) (hk : ∀ t ∈ ts, zak t = 0) : ZSn mt own nm de cc nL rt pc (oald ts (pc + 1)) := by
  intro p l e R s m args below meth c G H0 d C Q P cx hC hP L S H ho ls M locs fr
  simp only [oald] at ho
  split at ho
  · next i r S' =>
    obtain ⟨ht, ⟨i0, i1⟩, ho⟩ := ho
    obtain ⟨a, rfl, e2, e3⟩ := zarr_at fr.2.1 (hts _ ht).1
    obtain ⟨z1, z2⟩ := zidx i0 i1 e3
    have hw := hP _ _ _ _ ho ls M locs fr
    have harr := zarr_of (n := hL H (a + 1)) (f := zav H (hT H (a + 1)) (a + 1)) cx.2.2.2.2.2.2.2.1 (hts _ ht).1
    rw [(hts _ ht).2] at harr
    refine W.zald cx.1 cx.2.1 e2 harr (by exact fun q => by cases q) (by rw [arrV_size]; exact z1) (by rw [z2]; exact arrV_read _ _ (by omega)) rfl rfl hd ?_
    simp only [zav, hk _ ht]
    exact hw
  · exact ho.elim
theorem sn_lald {ts : List Nat} (hd : decode cc pc = .ok (.laload, 1)) (hts : zarrk ts .long) (hk : ∀ t ∈ ts, zak t = 1) : ZSn mt own nm de cc nL rt pc (oaldJ ts (pc + 1)) := by
  intro p l e R s m args below meth c G H0 d C Q P cx hC hP L S H ho ls M locs fr
  simp only [oaldJ] at ho
  split at ho
  · next i r S' =>
    obtain ⟨ht, ⟨i0, i1⟩, ho⟩ := ho
    obtain ⟨a, rfl, e2, e3⟩ := zarr_at fr.2.1 (hts _ ht).1
    obtain ⟨z1, z2⟩ := zidx i0 i1 e3
    have hw := hP _ _ _ _ ho ls M locs fr
    have harr := zarr_of (n := hL H (a + 1)) (f := zav H (hT H (a + 1)) (a + 1)) cx.2.2.2.2.2.2.2.1 (hts _ ht).1
    rw [(hts _ ht).2] at harr
    refine W.lald cx.1 cx.2.1 e2 harr (by exact fun q => by cases q) (by rw [arrV_size]; exact z1) (by rw [z2]; exact arrV_read _ _ (by omega)) rfl rfl hd ?_
    simp only [zav, hk _ ht]
    exact hw
  · exact ho.elim
theorem sn_aald {ts : List Nat} (hd : decode cc pc = .ok (.aaload, 1)) (hts : ∀ t ∈ ts, t ∈ zarrs ∧ (zaty t).isReference = true ∧ zak t = 2) : ZSn mt own nm de cc nL rt pc (oaldQ ts (pc + 1)) := by
  intro p l e R s m args below meth c G H0 d C Q P cx hC hP L S H ho ls M locs fr
  simp only [oaldQ] at ho
  split at ho
  · next i r S' =>
    obtain ⟨ht, ⟨i0, i1⟩, ho⟩ := ho
    obtain ⟨a, rfl, e2, e3⟩ := zarr_at fr.2.1 (hts _ ht).1
    obtain ⟨z1, z2⟩ := zidx i0 i1 e3
    have hw := hP _ _ _ _ ho ls M locs fr
    have harr := zarr_of (n := hL H (a + 1)) (f := zav H (hT H (a + 1)) (a + 1)) cx.2.2.2.2.2.2.2.1 (hts _ ht).1
    refine W.aald cx.1 cx.2.1 e2 harr (hts _ ht).2.1 (by exact fun q => by cases q) (by rw [arrV_size]; exact z1) (by rw [z2]; exact arrV_read _ _ (by omega)) rfl rfl hd ?_
    simp only [zav, (hts _ ht).2.2]
    exact hw
  · exact ho.elim
/-- a store into an array -/
theorem zheap_arr {G : ZG} {H H' : ZH} {M M' : Heap} (hH : ZHeap G H M) {a k : Nat} {v : Value} (ht : hT H (a + 1) ∈ zarrs) (hrw : zrw (hT H (a + 1)) = true)
    (m1 : M'[a]? = some ((arrV (G.1 (hT H (a + 1))) (hL H (a + 1)) (zav H (hT H (a + 1)) (a + 1))).setSlot k v)) (m2 : M'.size = M.size) (m3 : ∀ q, q ≠ a → M'[q]? = M[q]?)
    (hT' : ∀ r, hT H' r = hT H r) (hN' : hN H' = hN H) (hS' : hS H' = hS H) (hL' : ∀ r, hL H' r = hL H r) (hE' : ∀ k, hE H' k = hE H k) (hfv : ∀ g r, zfv H' g r = zfv H g r) (hav : ∀ t r, r ≠ a + 1 → zav H' t r = zav H t r) (hv : zav H' (hT H (a + 1)) (a + 1) = updV (zav H (hT H (a + 1)) (a + 1)) k v) : ZHeap G H' M' := by
  obtain ⟨a', e1, e2, e3⟩ := zarr_at hH ht
  have : a' = a := by omega
  subst this
  have hn0 : hT H (a' + 1) ≠ 0 := by
    intro q
    rw [q] at ht
    revert ht
    decide
  have h100 : ¬ hT H (a' + 1) < 100 := by
    intro q
    have : ∀ t ∈ zarrs, ¬ t < 100 := by decide
    exact this _ ht q
  have hbase := hH.2.2.2.2.1 a' hrw hn0
  refine ⟨by rw [hN', m2]; exact hH.1, ?_, by rw [hT']; exact hH.2.2.1, fun r hr => ?_, fun b hb hb0 => hH.2.2.2.2.1 b (by rw [← hT']; exact hb) (by rw [← hT']; exact hb0), fun q hq => ?_, by rw [m2]; exact hH.2.2.2.2.2.2.1, fun k => (hE' k).trans (hH.2.2.2.2.2.2.2 k)⟩
  · rw [hS', hH.2.1]
    symm
    refine zsum_congr m2 (fun i => ?_)
    by_cases q : i = a'
    · subst q
      rw [m1, e2]
      simp [k2_slotsz]
    · rw [m3 i q]
  · rw [hT'] at hr
    by_cases q : r = a' + 1
    · subst q
      refine ⟨a', _, rfl, m1, ?_, ?_, ?_⟩
      · rw [arrV_store]; rfl
      · rw [hT', arrV_store]; rfl
      · rw [hT', if_neg h100, hL']
        exact ⟨ht, by rw [arrV_store, hv], e3⟩
    · obtain ⟨b, cb, r1, r2, r3⟩ := hH.2.2.2.1 r hr
      refine ⟨b, cb, r1, by rw [m3 b (by omega)]; exact r2, r3.1, by rw [hT']; exact r3.2.1, ?_⟩
      have r4 := r3.2.2
      rw [hT', hL', hav _ r q]
      split
      · next h1 =>
        rw [if_pos h1] at r4
        intro g hg
        rw [hfv g r]
        exact r4 g hg
      · next h1 =>
        rw [if_neg h1] at r4
        exact r4
  · rw [m3 q (by omega)]
    exact hH.2.2.2.2.2.1 q hq
theorem zheap_uA {G : ZG} {H : ZH} {M M' : Heap} (hH : ZHeap G H M) {a k : Nat} {v : Value} {x : Int} (ht : hT H (a + 1) ∈ zarrs) (hrw : zrw (hT H (a + 1)) = true)
    (m1 : M'[a]? = some ((arrV (G.1 (hT H (a + 1))) (hL H (a + 1)) (zav H (hT H (a + 1)) (a + 1))).setSlot k v)) (m2 : M'.size = M.size) (m3 : ∀ q, q ≠ a → M'[q]? = M[q]?)
    (hv : v = (match zak (hT H (a + 1)) with
      | 0 => .int (Int32.ofInt x)
      | 1 => .long (Int64.ofInt x)
      | _ => v)) (hk : zak (hT H (a + 1)) < 2) : ZHeap G (uA H (a + 1) k x) M' := by
  refine zheap_arr hH ht hrw m1 m2 m3 (fun _ => rfl) rfl rfl (fun _ => rfl) (fun _ => rfl) (fun _ _ => rfl) (fun t r hr => ?_) ?_
  · funext i
    simp only [zav, uA, hA, hQ, hr, false_and, if_false]
  · funext i
    generalize hT H (a + 1) = t at *
    match hz : zak t, hk with
    | 0, _ =>
      rw [hz] at hv
      by_cases q : i = k
      · simp [zav, hz, uA, hA, updV, q, hv]
      · simp [zav, hz, uA, hA, updV, q]
    | 1, _ =>
      rw [hz] at hv
      by_cases q : i = k
      · simp [zav, hz, uA, hA, updV, q, hv]
      · simp [zav, hz, uA, hA, updV, q]
theorem zheap_uQ {G : ZG} {H : ZH} {M M' : Heap} (hH : ZHeap G H M) {a k : Nat} {x : Nat} (ht : hT H (a + 1) ∈ zarrs) (hrw : zrw (hT H (a + 1)) = true)
    (m1 : M'[a]? = some ((arrV (G.1 (hT H (a + 1))) (hL H (a + 1)) (zav H (hT H (a + 1)) (a + 1))).setSlot k (zref x))) (m2 : M'.size = M.size) (m3 : ∀ q, q ≠ a → M'[q]? = M[q]?)
    (hk : zak (hT H (a + 1)) = 2) : ZHeap G (uQ H (a + 1) k x) M' := by
  refine zheap_arr hH ht hrw m1 m2 m3 (fun _ => rfl) rfl rfl (fun _ => rfl) (fun _ => rfl) (fun _ _ => rfl) (fun t r hr => ?_) ?_
  · funext i
    simp only [zav, uQ, hA, hQ, hr, false_and, if_false]
  · funext i
    by_cases q : i = k
    · simp [zav, hk, uQ, hQ, updV, q]
    · simp [zav, hk, uQ, hQ, updV, q]
theorem sn_iast {ts : List Nat} (hd : decode cc pc = .ok (.iastore, 1)) (hts : zarrk ts .int) (hk : ∀ t ∈ ts, zak t = 0 ∧ zrw t = true) : ZSn mt own nm de cc nL rt pc (oast ts (pc + 1)) := by
  intro p l e R s m args below meth c G H0 d C Q P cx hC hP L S H ho ls M locs fr
  simp only [oast] at ho
  split at ho
  · next v i r S' =>
    obtain ⟨ht, ⟨i0, i1⟩, ho⟩ := ho
    obtain ⟨a, rfl, e2, e3⟩ := zarr_at fr.2.1 (hts _ ht).1
    obtain ⟨z1, z2⟩ := zidx i0 i1 e3
    have harr := zarr_of (n := hL H (a + 1)) (f := zav H (hT H (a + 1)) (a + 1)) cx.2.2.2.2.2.2.2.1 (hts _ ht).1
    rw [(hts _ ht).2] at harr
    refine W.iast cx.1 cx.2.1 e2 harr (by exact fun q => by cases q) (by rw [arrV_size]; exact z1) rfl rfl hd (fun M' m1 m2 m3 => ?_)
    rw [z2] at m1 ⊢
    refine hP _ _ _ _ ho ls M' _ ⟨fr.1, zheap_uA fr.2.1 (hts _ ht).1 (hk _ ht).2 m1 m2 m3 (by rw [(hk _ ht).1]; exact rfl) (by rw [(hk _ ht).1]; decide), fr.2.2.1, fun q hq => ?_⟩
    rcases List.mem_append.mp hq with q1 | q1
    · exact fr.2.2.2 q q1
    · rw [List.mem_singleton.mp q1]
      exact fr.2.1.2.2.2.2.1 a (hk _ ht).2 (fun z => by have h9 := (hts _ ht).1; rw [z] at h9; revert h9; decide)
  · exact ho.elim
theorem sn_zast {ts : List Nat} (hd : decode cc pc = .ok (.bastore, 1)) (hts : zarrk ts .boolean) (hk : ∀ t ∈ ts, zak t = 0 ∧ zrw t = true) : ZSn mt own nm de cc nL rt pc (oastZ ts (pc + 1)) := by
  intro p l e R s m args below meth c G H0 d C Q P cx hC hP L S H ho ls M locs fr
  simp only [oastZ] at ho
  split at ho
  · next v i r S' =>
    obtain ⟨ht, ⟨i0, i1⟩, hb, ho⟩ := ho
    obtain ⟨a, rfl, e2, e3⟩ := zarr_at fr.2.1 (hts _ ht).1
    obtain ⟨z1, z2⟩ := zidx i0 i1 e3
    have harr := zarr_of (n := hL H (a + 1)) (f := zav H (hT H (a + 1)) (a + 1)) cx.2.2.2.2.2.2.2.1 (hts _ ht).1
    rw [(hts _ ht).2] at harr
    refine W.zast cx.1 cx.2.1 e2 harr (by exact fun q => by cases q) (by rw [arrV_size]; exact z1) rfl rfl hd (fun M' m1 m2 m3 => ?_)
    rw [z2] at m1 ⊢
    refine hP _ _ _ _ ho ls M' _ ⟨fr.1, zheap_uA fr.2.1 (hts _ ht).1 (hk _ ht).2 m1 m2 m3 (by rw [(hk _ ht).1]; exact (zbool hb).1) (by rw [(hk _ ht).1]; decide), fr.2.2.1, fun q hq => ?_⟩
    rcases List.mem_append.mp hq with q1 | q1
    · exact fr.2.2.2 q q1
    · rw [List.mem_singleton.mp q1]
      exact fr.2.1.2.2.2.2.1 a (hk _ ht).2 (fun z => by have h9 := (hts _ ht).1; rw [z] at h9; revert h9; decide)
  · exact ho.elim
theorem sn_bast {ts : List Nat} (hd : decode cc pc = .ok (.bastore, 1)) (hts : zarrk ts .byte) (hk : ∀ t ∈ ts, zak t = 0 ∧ zrw t = true) : ZSn mt own nm de cc nL rt pc (oastB ts (pc + 1)) := by
  intro p l e R s m args below meth c G H0 d C Q P cx hC hP L S H ho ls M locs fr
  simp only [oastB] at ho
  split at ho
  · next v i r S' =>
    obtain ⟨ht, ⟨i0, i1⟩, ho⟩ := ho
    obtain ⟨a, rfl, e2, e3⟩ := zarr_at fr.2.1 (hts _ ht).1
    obtain ⟨z1, z2⟩ := zidx i0 i1 e3
    have harr := zarr_of (n := hL H (a + 1)) (f := zav H (hT H (a + 1)) (a + 1)) cx.2.2.2.2.2.2.2.1 (hts _ ht).1
    rw [(hts _ ht).2] at harr
    refine W.bast cx.1 cx.2.1 e2 harr (by exact fun q => by cases q) (by rw [arrV_size]; exact z1) rfl rfl hd (fun M' m1 m2 m3 => ?_)
    rw [z2] at m1 ⊢
    refine hP _ _ _ _ ho ls M' _ ⟨fr.1, zheap_uA fr.2.1 (hts _ ht).1 (hk _ ht).2 m1 m2 m3 (by rw [(hk _ ht).1]; exact (by show Value.int (vp_nar .byte (Int32.ofInt v)) = _; rw [vp_nar_byte, ofi_i2b]; rfl)) (by rw [(hk _ ht).1]; decide), fr.2.2.1, fun q hq => ?_⟩
    rcases List.mem_append.mp hq with q1 | q1
    · exact fr.2.2.2 q q1
    · rw [List.mem_singleton.mp q1]
      exact fr.2.1.2.2.2.2.1 a (hk _ ht).2 (fun z => by have h9 := (hts _ ht).1; rw [z] at h9; revert h9; decide)
  · exact ho.elim
theorem sn_last {ts : List Nat} (hd : decode cc pc = .ok (.lastore, 1)) (hts : zarrk ts .long) (hk : ∀ t ∈ ts, zak t = 1 ∧ zrw t = true) : ZSn mt own nm de cc nL rt pc (oastJ ts (pc + 1)) := by
  intro p l e R s m args below meth c G H0 d C Q P cx hC hP L S H ho ls M locs fr
  simp only [oastJ] at ho
  split at ho
  · next v i r S' =>
    obtain ⟨ht, ⟨i0, i1⟩, ho⟩ := ho
    obtain ⟨a, rfl, e2, e3⟩ := zarr_at fr.2.1 (hts _ ht).1
    obtain ⟨z1, z2⟩ := zidx i0 i1 e3
    have harr := zarr_of (n := hL H (a + 1)) (f := zav H (hT H (a + 1)) (a + 1)) cx.2.2.2.2.2.2.2.1 (hts _ ht).1
    rw [(hts _ ht).2] at harr
    refine W.last cx.1 cx.2.1 e2 harr (by exact fun q => by cases q) (by rw [arrV_size]; exact z1) rfl rfl hd (fun M' m1 m2 m3 => ?_)
    rw [z2] at m1 ⊢
    refine hP _ _ _ _ ho ls M' _ ⟨fr.1, zheap_uA fr.2.1 (hts _ ht).1 (hk _ ht).2 m1 m2 m3 (by rw [(hk _ ht).1]; exact rfl) (by rw [(hk _ ht).1]; decide), fr.2.2.1, fun q hq => ?_⟩
    rcases List.mem_append.mp hq with q1 | q1
    · exact fr.2.2.2 q q1
    · rw [List.mem_singleton.mp q1]
      exact fr.2.1.2.2.2.2.1 a (hk _ ht).2 (fun z => by have h9 := (hts _ ht).1; rw [z] at h9; revert h9; decide)
  · exact ho.elim

end SN5
