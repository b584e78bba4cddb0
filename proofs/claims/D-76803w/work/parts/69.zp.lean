/-! NEW ARRAYS, STORES OF REFERENCES, CASTS, CONSTANTS OF THE WORLD -/
theorem zcnt {n : Int} (h0 : 0 ≤ n) (h1 : n ≤ 1000000) : ¬ Int32.ofInt n < 0 ∧ (Int32.ofInt n).toNatClampNeg = n.toNat := by
  have e : (Int32.ofInt n).toInt = n := by rw [ofi_w, zw, Int.bmod_eq_of_le (by omega) (by omega)]
  refine ⟨?_, ?_⟩
  · rw [Int32.lt_iff_toInt_lt, e]
    show ¬ n < 0
    omega
  · show (Int32.ofInt n).toInt.toNat = _
    rw [e]
theorem zheap_newa {G : ZG} {H : ZH} {M : Heap} {t n : Nat} {v : Value} (hH : ZHeap G H M) (ht : t ∈ zarrs) (hn : n < 1073741824) (hv : v = (match zak t with
  | 0 => .int (Int32.ofInt 0)
  | 1 => .long (Int64.ofInt 0)
  | _ => zref 0)) : ZHeap G (uY H t n) (M.push { cls := G.1 t, slots := Array.replicate n v, vm := .none }) := by
  have h100 : ¬ t < 100 := by
    intro q
    have : ∀ t ∈ zarrs, ¬ t < 100 := by decide
    exact this _ ht q
  refine zheap_new hH (cell := { cls := G.1 t, slots := Array.replicate n v, vm := .none }) (n := n) (by simp) (by simp) (fun q hq => by rw [Array.getElem?_push, if_neg (by omega)]) (by simp) rfl rfl (fun r hr => if_neg hr) (fun r hr => if_neg hr) (fun _ => rfl) (fun t r hr => ?_) (fun g r hr => rfl) ?_
  · funext i
    simp only [zav, uY, hA, hQ, if_neg hr]
  · have htag : hT (uY H t n) (hN H) = t := if_pos rfl
    have hlen : hL (uY H t n) (hN H) = n := if_pos rfl
    refine ⟨rfl, by rw [htag], ?_⟩
    rw [htag, if_neg h100, hlen, arrV_new]
    refine ⟨ht, ?_, hn⟩
    congr 1
    funext i
    rw [hv]
    simp only [zav, uY, hA, hQ, if_true]
    generalize zak t = k
    match k with
    | 0 => rfl
    | 1 => rfl
    | k + 2 => rfl
section SN6
variable {mt : Nat → ZY} {own nm de : String} {cc : ByteArray} {nL : Nat} {rt : Option FieldType} {pc : Nat}
theorem sn_newa {atype : ArrayType} {t : Nat} (hd : decode cc pc = .ok (.newarray atype, 2)) (ht : t ∈ zarrs) (hty : zaty t = newarray.typeOf atype) (hcl : Cond.arrayClass (newarray.typeOf atype) ∈ lw_all) (hra : ∀ U c, va_RA U c (newarray.typeOf atype) = (U.vm.findClass ("[" ++ (newarray.typeOf atype).toString) = some c)) (hcb : componentBytes (newarray.typeOf atype) ≤ 8) (hv : defaultValue (newarray.typeOf atype) = (match zak t with
  | 0 => .int (Int32.ofInt 0)
  | 1 => .long (Int64.ofInt 0)
  | _ => zref 0)) : ZSn mt own nm de cc nL rt pc (onewa t (pc + 2)) := by
  intro p l e R s m args below meth c G H0 d C Q P cx hC hP L S H ho ls M locs fr
  simp only [onewa] at ho
  split at ho
  · next n S' =>
    obtain ⟨⟨n0, n1⟩, h1, h2, ho⟩ := ho
    obtain ⟨z1, z2⟩ := zcnt n0 n1
    have hts := cx.2.2.2.2.2.2.1
    have hV := cx.2.2.2.2.2.2.2.1
    have hRm : R = zroom (d + 1) H0 := cx.2.2.2.2.2.2.2.2.1
    have hnx := fr.2.2.1
    have e0 := hnx.2.2.1 0
    have e1 := hnx.2.2.1 1
    have l0 := hnx.1
    have l1 := hnx.2.1
    have hsize := fr.2.1.1
    refine W.newa cx.1 cx.2.1 (hts _ hcl) rfl hd (n := Int32.ofInt n) rfl z1 (by rw [z2]; exact Nat.le_trans (Nat.mul_le_mul (show n.toNat ≤ 1000000 by omega) hcb) (by decide)) (by rw [hRm]; show _ ≤ hE H0 0 - hN H0; omega) (by rw [z2, hRm]; show _ ≤ hE H0 1 - hS H0; omega) (fun cA kA comp f1 f2 f3 => ?_)
    have h3 := (hV.2.2.1 t ht).2
    rw [hty, hra] at h3
    cases h3.symm.trans f1
    rw [z2]
    have hw := hP _ _ _ _ ho ls _ locs ⟨fr.1, zheap_newa (v := defaultValue (newarray.typeOf atype)) fr.2.1 ht (by omega) hv, znx_new (n := n.toNat) hnx rfl rfl (fun _ => rfl) h1 h2, fr.2.2.2⟩
    refine W.cs (cells' := hN (uY H t n.toNat) - hN H0) (slots' := hS (uY H t n.toNat) - hS H0) (by show _ = hN H + 1 - hN H0; omega) (by show _ = hS H + n.toNat - hS H0; omega) ?_
    have e9 : zval (zR (hN H)) = .ref M.size := by rw [hsize]; rfl
    simp only [List.map_cons, e9] at hw
    exact hw
  · exact ho.elim
theorem sn_anew {idx t : Nat} {K : String} (hd : decode cc pc = .ok (.anewarray idx, 3)) (ht : t ∈ zarrs) (hty : zaty t = .object K) (hl : Cond.classLink own idx K ∈ lw_all) (hov : Cond.arrayOver (.object K) ∈ lw_tbl) (hk : zak t = 2) : ZSn mt own nm de cc nL rt pc (onewa t (pc + 3)) := by
  intro p l e R s m args below meth c G H0 d C Q P cx hC hP L S H ho ls M locs fr
  simp only [onewa] at ho
  split at ho
  · next n S' =>
    obtain ⟨⟨n0, n1⟩, h1, h2, ho⟩ := ho
    obtain ⟨z1, z2⟩ := zcnt n0 n1
    have hts := cx.2.2.2.2.2.2.1
    have hV := cx.2.2.2.2.2.2.2.1
    have hRm : R = zroom (d + 1) H0 := cx.2.2.2.2.2.2.2.2.1
    have hnx := fr.2.2.1
    have e0 := hnx.2.2.1 0
    have e1 := hnx.2.2.1 1
    have l0 := hnx.1
    have l1 := hnx.2.1
    have hsize := fr.2.1.1
    refine W.anew cx.1 cx.2.1 cx.2.2.2.2.2.1 (hts _ hl) (va_AO.use (hV.2.2.2.1 _ hov rfl)) rfl hd (n := Int32.ofInt n) rfl z1 (by rw [z2]; omega) (by rw [hRm]; show _ ≤ hE H0 0 - hN H0; omega) (by rw [z2, hRm]; show _ ≤ hE H0 1 - hS H0; omega) (fun cA kA comp f1 f2 f3 f4 => ?_)
    have h3 := (hV.2.2.1 t ht).2
    rw [hty] at h3
    obtain ⟨kA', comp', g1, g2, g3, g4⟩ := h3
    cases g4.symm.trans f1
    rw [z2]
    have hw := hP _ _ _ _ ho ls _ locs ⟨fr.1, zheap_newa (v := .null) fr.2.1 ht (by omega) (by rw [hk]; rfl), znx_new (n := n.toNat) hnx rfl rfl (fun _ => rfl) h1 h2, fr.2.2.2⟩
    refine W.cs (cells' := hN (uY H t n.toNat) - hN H0) (slots' := hS (uY H t n.toNat) - hS H0) (by show _ = hN H + 1 - hN H0; omega) (by show _ = hS H + n.toNat - hS H0; omega) ?_
    have e9 : zval (zR (hN H)) = .ref M.size := by rw [hsize]; rfl
    simp only [List.map_cons, e9] at hw
    exact hw
  · exact ho.elim
/-- objects of the tag t are what a cast to nm, or a store into an array of nm, asks -/
def zcst (nm : String) (t : Nat) : Prop := (0 < t ∧ t < 50) ∧ (znm t = nm ∨ Cond.castable (znm t) nm ∈ lw_tbl)
theorem zcst_asg {G : ZG} {s : State} (hV : ZVm G s) {nm : String} {t : Nat} (h : zcst nm t) {cT : ClassId} (hT : s.vm.findClass nm = some cT) : s.vm.assignable (G.1 t) cT = true := by
  obtain ⟨⟨h0, ht⟩, h⟩ := h
  have hc := hV.1 t h0 (by unfold zNO; omega)
  rcases h with e | h
  · rw [e] at hc
    cases hc.1.symm.trans hT
    exact va_assign hc
  · obtain ⟨c0, t0, f1, f2, f3⟩ := Cond.castable_spec (va_Nw.use (A := #[]) rfl (hV.2.2.2.1 _ h rfl))
    cases hc.1.symm.trans f1
    cases hT.symm.trans f2
    exact f3
theorem sn_aast {ts vs : List Nat} {K : String} (hd : decode cc pc = .ok (.aastore, 1)) (hts : ∀ t ∈ ts, t ∈ zarrs ∧ zaty t = .object K ∧ zak t = 2 ∧ zrw t = true) (hvs : ∀ t ∈ vs, zcst K t) : ZSn mt own nm de cc nL rt pc (oastQ ts vs (pc + 1)) := by
  intro p l e R s m args below meth c G H0 d C Q P cx hC hP L S H ho ls M locs fr
  simp only [oastQ] at ho
  split at ho
  · next v i r S' =>
    obtain ⟨ht, ⟨i0, i1⟩, hv, ho⟩ := ho
    obtain ⟨q1, q2, q3, q4⟩ := hts _ ht
    obtain ⟨a, rfl, e2, e3⟩ := zarr_at fr.2.1 q1
    obtain ⟨z1, z2⟩ := zidx i0 i1 e3
    have hV := cx.2.2.2.2.2.2.2.1
    have harr := zarr_of (n := hL H (a + 1)) (f := zav H (hT H (a + 1)) (a + 1)) hV q1
    rw [q2] at harr
    have hlocs : ∀ q ∈ locs ++ [(⟨a, i.toNat⟩ : Loc)], (zB G).size ≤ q.base := fun q hq => by
      rcases List.mem_append.mp hq with y1 | y1
      · exact fr.2.2.2 q y1
      · rw [List.mem_singleton.mp y1]
        exact fr.2.1.2.2.2.2.1 a q4 (fun z => by rw [z] at q1; revert q1; decide)
    cases v with
    | zero =>
      refine va_WaastN cx.1 cx.2.1 e2 harr (by exact fun q => by cases q) (by rw [arrV_size]; exact z1) rfl rfl hd (fun M' m1 m2 m3 => ?_)
      rw [z2] at m1 ⊢
      exact hP _ _ _ _ ho ls M' _ ⟨fr.1, zheap_uQ fr.2.1 q1 q4 m1 m2 m3 q3, fr.2.2.1, hlocs⟩
    | succ b =>
      have hvt : hT H (b + 1) ∈ vs := hv.resolve_left (Nat.succ_ne_zero b)
      have hc := hvs _ hvt
      obtain ⟨b', cv, y1, y2, y3, y4, -, -⟩ := zobj fr.2.1 rfl (show hT H (b + 1) ≠ 0 from Nat.pos_iff_ne_zero.mp hc.1.1)
      have : b' = b := by omega
      subst this
      have h3 := (hV.2.2.1 _ q1).2
      rw [q2] at h3
      obtain ⟨kA, comp, g1, g2, g3, g4⟩ := h3
      obtain ⟨-, kv, k1, -⟩ := hV.1 _ hc.1.1 (by have := hc.1.2; unfold zNO; omega)
      have hkc : ∃ kcomp, s.vm.classes[comp]? = some kcomp := by
        obtain ⟨hlt, -, -⟩ := Array.findIdx?_eq_some_iff_getElem.mp g3
        exact ⟨_, Array.getElem?_eq_getElem hlt⟩
      obtain ⟨kcomp, k2⟩ := hkc
      have hin2 : ¬ Int32.ofInt i < 0 ∧ (Int32.ofInt i).toNatClampNeg < (arrV (G.1 (hT H (a + 1))) (hL H (a + 1)) (zav H (hT H (a + 1)) (a + 1))).slots.size := by
        rw [arrV_size]
        refine ⟨fun z => z1 (Or.inl z), ?_⟩
        rw [z2]
        omega
      refine W.aast cx.1 cx.2.1 e2 (by intro q z; cases z) (by intro z; cases z) g1 g2 rfl k2 hin2 y2 (by intro q z; rw [y3] at z; cases z) (by rw [y4]; exact k1) (by rw [y4]; exact zcst_asg hV hc g3) rfl rfl hd (fun M' m1 m2 m3 => ?_)
      rw [z2] at m1 ⊢
      exact hP _ _ _ _ ho ls M' _ ⟨fr.1, zheap_uQ (x := b' + 1) fr.2.1 q1 q4 m1 m2 m3 q3, fr.2.2.1, hlocs⟩
  · exact ho.elim
theorem sn_cast {idx : Nat} {ts : List Nat} {K : String} (hd : decode cc pc = .ok (.checkcast idx, 3)) (hl : Cond.classLink own idx K ∈ lw_all) (hts : ∀ t ∈ ts, zcst K t) : ZSn mt own nm de cc nL rt pc (ocast ts (pc + 3)) := by
  intro p l e R s m args below meth c G H0 d C Q P cx hC hP L S H ho ls M locs fr
  simp only [ocast] at ho
  split at ho
  · next r S' =>
    obtain ⟨hr, ho⟩ := ho
    have hw := hP _ _ _ _ ho ls M locs fr
    have hV := cx.2.2.2.2.2.2.2.1
    cases r with
    | zero => exact lv_castN cx.1 cx.2.1 hd hw
    | succ a =>
      have ht := hts _ (hr.resolve_left (Nat.succ_ne_zero a))
      obtain ⟨a', cell, y1, y2, y3, y4, -, -⟩ := zobj fr.2.1 rfl (show hT H (a + 1) ≠ 0 from Nat.pos_iff_ne_zero.mp ht.1.1)
      have : a' = a := by omega
      subst this
      have hcl := hV.1 _ ht.1.1 (by have := ht.1.2; unfold zNO; omega)
      rcases ht.2 with z | z
      · rw [z] at hcl
        exact va_castS cx.1 cx.2.1 cx.2.2.2.2.2.1 (cx.2.2.2.2.2.2.1 _ hl) hcl ⟨cell, y2, by rw [y3]; rfl, by rw [y4]; exact hcl.1⟩ hd hw
      · exact va_castY cx.1 cx.2.1 cx.2.2.2.2.2.1 (cx.2.2.2.2.2.2.1 _ hl) (hV.2.2.2.1 _ z rfl) ⟨cell, y2, by rw [y3]; rfl, by rw [y4]; exact hcl.1⟩ hd hw
  · exact ho.elim
theorem sn_inst {idx : Nat} {ys ns : List Nat} {K : String} (hd : decode cc pc = .ok (.instanceof idx, 3)) (hl : Cond.classLink own idx K ∈ lw_all) (hys : ∀ t ∈ ys, zcst K t) (hns : ∀ t ∈ ns, (0 < t ∧ t < 50) ∧ (znm t, K) ∈ znc ∧ ¬ t ∈ ys) : ZSn mt own nm de cc nL rt pc (oinst ys ns (pc + 3)) := by
  intro p l e R s m args below meth c G H0 d C Q P cx hC hP L S H ho ls M locs fr
  simp only [oinst] at ho
  split at ho
  · next r S' =>
    obtain ⟨hr, hy, hn⟩ := ho
    have hV := cx.2.2.2.2.2.2.2.1
    cases r with
    | zero =>
      have h0 : ¬ hT H 0 ∈ ys := by
        rw [fr.2.1.2.2.1]
        intro z
        exact absurd (hys 0 z).1.1 (by omega)
      exact lv_instN cx.1 cx.2.1 hd (hP _ _ _ _ (hn h0) ls M locs fr)
    | succ a =>
      rcases hr.resolve_left (Nat.succ_ne_zero a) with hm | hm
      · have ht := hys _ hm
        have hw := hP _ _ _ _ (hy hm) ls M locs fr
        obtain ⟨a', cell, y1, y2, y3, y4, -, -⟩ := zobj fr.2.1 rfl (show hT H (a + 1) ≠ 0 from Nat.pos_iff_ne_zero.mp ht.1.1)
        have : a' = a := by omega
        subst this
        have hcl := hV.1 _ ht.1.1 (by have := ht.1.2; unfold zNO; omega)
        rcases ht.2 with z | z
        · rw [z] at hcl
          exact va_instS cx.1 cx.2.1 cx.2.2.2.2.2.1 (cx.2.2.2.2.2.2.1 _ hl) hcl ⟨cell, y2, by rw [y3]; rfl, by rw [y4]; exact hcl.1⟩ hd hw
        · exact va_instY cx.1 cx.2.1 cx.2.2.2.2.2.1 (cx.2.2.2.2.2.2.1 _ hl) (hV.2.2.2.1 _ z rfl) ⟨cell, y2, by rw [y3]; rfl, by rw [y4]; exact hcl.1⟩ hd hw
      · obtain ⟨⟨t0, t1⟩, t2, t3⟩ := hns _ hm
        have hw := hP _ _ _ _ (hn t3) ls M locs fr
        obtain ⟨a', cell, y1, y2, y3, y4, -, -⟩ := zobj fr.2.1 rfl (show hT H (a + 1) ≠ 0 from Nat.pos_iff_ne_zero.mp t0)
        have : a' = a := by omega
        subst this
        have hcl := hV.1 _ t0 (by unfold zNO; omega)
        exact va_instNo cx.1 cx.2.1 cx.2.2.2.2.2.1 (cx.2.2.2.2.2.2.1 _ hl) (hV.2.2.2.2.1 _ t2) ⟨cell, y2, by rw [y3]; rfl, by rw [y4]; exact hcl.1⟩ hd hw
  · exact ho.elim
/-- Object.<init> -/
theorem sn_skip {idx : Nat} (hd : decode cc pc = .ok (.invokespecial idx, 3)) (hl : Cond.methodLink own idx Lib.objectInit ∈ lw_all) (h2 : Cond.instanceMethod Lib.objectInit ∈ lw_all) (h3 : Cond.code Lib.objectInit ⟨#[0xb1]⟩ 1 none ∈ lw_all) : ZSn mt own nm de cc nL rt pc (oskip (pc + 3)) := by
  intro p l e R s m args below meth c G H0 d C Q P cx hC hP L S H ho ls M locs fr
  simp only [oskip] at ho
  split at ho
  · next r S' =>
    split at ho
    · next hb =>
      obtain ⟨hr, ho⟩ := ho
      have hw := hP _ _ _ _ ho ls M locs fr
      have hts := cx.2.2.2.2.2.2.1
      have hRm : R = zroom (d + 1) H0 := cx.2.2.2.2.2.2.2.2.1
      obtain ⟨a, cell, rfl, -⟩ := zobj fr.2.1 rfl hr
      have hsum := zcat2 S'
      have hle := Nat.le_of_ble_eq_true hb
      exact W.objInit cx.1 cx.2.1 cx.2.2.2.2.2.1 (hts _ hl) (hts _ h2) (hts _ h3) rfl (fr.1.2.1.trans cx.2.2.2.2.1.symm) rfl hd (by rw [hRm]; show 1 ≤ 2 * (d + 1); omega) (by rw [hRm]; show 2 * 0 + _ + 12 ≤ 3100 + 128 * (d + 1); omega) hw
    · exact ho.elim
  · exact ho.elim
/-- getstatic of a reference -/
theorem sn_stat {idx k : Nat} {K n dsc : String} (hd : decode cc pc = .ok (.getstatic idx, 3)) (hq : (K, n, dsc, Sum.inr k) ∈ zstats) (hl : Cond.fieldLink own idx K n dsc ∈ lw_all) : ZSn mt own nm de cc nL rt pc (ostat k (pc + 3)) := by
  intro p l e R s m args below meth c G H0 d C Q P cx hC hP L S H ho ls M locs fr
  have hw := hP _ _ _ _ ho ls M locs fr
  have hV := cx.2.2.2.2.2.2.2.1
  obtain ⟨cf, kf, fi, f, a, cell, h1, h2, h3, h4, h5, h6, h7, h8⟩ := hV.2.2.2.2.2.1 _ hq
  have hlt := (Array.getElem?_eq_some_iff.mp h5).1
  refine W.gets cx.1 cx.2.1 cx.2.2.2.2.2.1 (cx.2.2.2.2.2.2.1 _ hl) h1 h2 h3 h4 (by rw [fr.2.1.2.2.2.2.2.1 a hlt]; exact h5) (fun z => by rw [z] at h6; cases h6) h7 rfl hd ?_
  simp only [List.map_cons, zval, fr.2.1.2.2.2.2.2.2.2] at hw
  exact hw
theorem sn_stati {idx : Nat} {v : Int} {K n dsc : String} (hd : decode cc pc = .ok (.getstatic idx, 3)) (hq : (K, n, dsc, Sum.inl v) ∈ zstats) (hl : Cond.fieldLink own idx K n dsc ∈ lw_all) : ZSn mt own nm de cc nL rt pc (oconst (zI v) (pc + 3)) := by
  intro p l e R s m args below meth c G H0 d C Q P cx hC hP L S H ho ls M locs fr
  have hw := hP _ _ _ _ ho ls M locs fr
  have hV := cx.2.2.2.2.2.2.2.1
  obtain ⟨cf, kf, fi, f, a, cell, h1, h2, h3, h4, h5, h6, h7, h8⟩ := hV.2.2.2.2.2.1 _ hq
  have hlt := (Array.getElem?_eq_some_iff.mp h5).1
  exact W.gets cx.1 cx.2.1 cx.2.2.2.2.2.1 (cx.2.2.2.2.2.2.1 _ hl) h1 h2 h3 h4 (by rw [fr.2.1.2.2.2.2.2.1 a hlt]; exact h5) (fun z => by rw [z] at h6; cases h6) h7 rfl hd hw
/-- a String constant -/
theorem sn_ldcS {idx k : Nat} {tx : String} (hd : decode cc pc = .ok (.ldc idx, 2)) (hq : (own, idx, tx, k) ∈ zstrs) : ZSn mt own nm de cc nL rt pc (ostat k (pc + 2)) := by
  intro p l e R s m args below meth c G H0 d C Q P cx hC hP L S H ho ls M locs fr
  have hw := hP _ _ _ _ ho ls M locs fr
  have hV := cx.2.2.2.2.2.2.2.1
  obtain ⟨h1, h2⟩ := hV.2.2.2.2.2.2.1 _ hq
  have e9 : zval (zR (hE H k)) = .ref (zEE G k - 1) := by
    rw [fr.2.1.2.2.2.2.2.2.2]
    show zref (zEE G k) = _
    generalize hx : zEE G k = x at h2
    cases x with
    | zero => exact absurd h2 (Nat.lt_irrefl 0)
    | succ a => rfl
  simp only [List.map_cons, e9] at hw
  exact va_ldcS cx.1 cx.2.1 cx.2.2.2.2.2.1 h1 hd hw
/-- a Class constant -/
theorem sn_ldcM {idx k : Nat} {K : String} (hd : decode cc pc = .ok (.ldc idx, 2)) (hq : (K, k) ∈ zmirs) (hl : Cond.classLink own idx K ∈ lw_all) : ZSn mt own nm de cc nL rt pc (ostat k (pc + 2)) := by
  intro p l e R s m args below meth c G H0 d C Q P cx hC hP L S H ho ls M locs fr
  have hw := hP _ _ _ _ ho ls M locs fr
  have hV := cx.2.2.2.2.2.2.2.1
  obtain ⟨h1, h2⟩ := hV.2.2.2.2.2.2.2.1 _ hq
  have e9 : zval (zR (hE H k)) = .ref (zEE G k - 1) := by
    rw [fr.2.1.2.2.2.2.2.2.2]
    show zref (zEE G k) = _
    generalize hx : zEE G k = x at h2
    cases x with
    | zero => exact absurd h2 (Nat.lt_irrefl 0)
    | succ a => rfl
  simp only [List.map_cons, e9] at hw
  exact va_ldcM cx.1 cx.2.1 cx.2.2.2.2.2.1 (cx.2.2.2.2.2.2.1 _ hl) h1 hd hw
end SN6
