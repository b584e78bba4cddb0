/-! putfield -/
theorem zsum_congr {M M' : Heap} (hs : M'.size = M.size) (h : ∀ i : Nat, (M'[i]?).map (·.slots.size) = (M[i]?).map (·.slots.size)) : zsum M' = zsum M := by
  unfold zsum
  congr 1
  refine List.ext_getElem? (fun i => ?_)
  rw [List.getElem?_map, List.getElem?_map, Array.getElem?_toList, Array.getElem?_toList]
  exact h i
theorem zsum_push {M M' : Heap} {n : Nat} {x : Cell} (hs : M'.size = M.size + 1) (hx : M'[M.size]? = some x) (hn : x.slots.size = n) (h : ∀ q : Nat, q < M.size → M'[q]? = M[q]?) : zsum M' = zsum M + n := by
  have e : M' = M.push x := by
    refine Array.ext_getElem? (fun i => ?_)
    rw [Array.getElem?_push]
    split
    · next q => rw [q]; exact hx
    · next q =>
      by_cases hl : i < M.size
      · exact h i hl
      · rw [Array.getElem?_eq_none (by omega), Array.getElem?_eq_none (by omega)]
  subst e
  simp [zsum, hn]
theorem zheap_put {G : ZG} {H H' : ZH} {M M' : Heap} (hH : ZHeap G H M) {a f t : Nat} {cell : Cell} {v : Value} (e2 : M[a]? = some cell) (ht : hT H (a + 1) = t) (h0 : t ≠ 0) (h50 : t < 50) (hrw : zrw t = true) (hft : f ∈ zfl t) (hap : ∀ g ∈ zfl t, g ≠ f → G.2.1 f ≠ G.2.1 g)
    (m1 : M'[a]? = some (cell.setSlot (G.2.1 f) v)) (m2 : M'.size = M.size) (m3 : ∀ q, q ≠ a → M'[q]? = M[q]?)
    (hT' : ∀ r, hT H' r = hT H r) (hN' : hN H' = hN H) (hS' : hS H' = hS H) (hL' : ∀ r, hL H' r = hL H r) (hE' : ∀ k, hE H' k = hE H k) (hav : ∀ t r, zav H' t r = zav H t r) (hfv : ∀ g r, ¬ (g = f ∧ r = a + 1) → zfv H' g r = zfv H g r) (hv : zfv H' f (a + 1) = v) : ZHeap G H' M' := by
  have hcell := hH.2.2.2.1 (a + 1) (by rw [ht]; exact h0)
  obtain ⟨a', c', q1, q2, q3⟩ := hcell
  have : a' = a := by omega
  subst this
  cases e2.symm.trans q2
  have hbase := hH.2.2.2.2.1 a' (by rw [ht]; exact hrw) (by rw [ht]; exact h0)
  obtain ⟨w1, w2, w3⟩ := q3
  rw [ht] at w2 w3
  rw [if_pos (by omega)] at w3
  have hlt : G.2.1 f < cell.slots.size := k2_hasslot (w3 f hft)
  refine ⟨by rw [hN', m2]; exact hH.1, ?_, by rw [hT']; exact hH.2.2.1, fun r hr => ?_, fun b hb hb0 => hH.2.2.2.2.1 b (by rw [← hT']; exact hb) (by rw [← hT']; exact hb0), fun q hq => ?_, by rw [m2]; exact hH.2.2.2.2.2.2.1, fun k => (hE' k).trans (hH.2.2.2.2.2.2.2 k)⟩
  · rw [hS', hH.2.1]
    symm
    refine zsum_congr m2 (fun i => ?_)
    by_cases q : i = a'
    · subst q
      rw [m1, e2]
      simp [k2_slotsz]
    · rw [m3 i q]
  · rw [hT'] at hr
    obtain ⟨b, cb, r1, r2, r3⟩ := hH.2.2.2.1 r hr
    by_cases q : b = a'
    · subst q
      cases e2.symm.trans r2
      refine ⟨b, _, r1, m1, w1, ?_, ?_⟩
      · rw [hT', r1, ht]; exact w2
      · rw [hT', r1, ht, if_pos (by omega)]
        intro g hg
        by_cases qg : g = f
        · subst qg
          rw [hv]
          simp [Cell.setSlot, hlt]
        · rw [slot_ne _ _ (hap g hg qg), w3 g hg, hfv g _ (fun z => qg z.1)]
    · refine ⟨b, cb, r1, by rw [m3 b q]; exact r2, r3.1, by rw [hT']; exact r3.2.1, ?_⟩
      have r4 := r3.2.2
      rw [hT', hL', hav]
      split
      · next h1 =>
        rw [if_pos h1] at r4
        intro g hg
        rw [hfv g r (fun z => q (by omega))]
        exact r4 g hg
      · next h1 =>
        rw [if_neg h1] at r4
        exact r4
  · rw [m3 q (by omega)]
    exact hH.2.2.2.2.2.1 q hq
theorem zheap_uI {G : ZG} {H : ZH} {M M' : Heap} (hH : ZHeap G H M) {a f t : Nat} {cell : Cell} {x : Int} {v : Value} (e2 : M[a]? = some cell) (ht : hT H (a + 1) = t) (h0 : t ≠ 0) (h50 : t < 50) (hrw : zrw t = true) (hft : f ∈ zfl t) (hap : ∀ g ∈ zfl t, g ≠ f → G.2.1 f ≠ G.2.1 g)
    (m1 : M'[a]? = some (cell.setSlot (G.2.1 f) v)) (m2 : M'.size = M.size) (m3 : ∀ q, q ≠ a → M'[q]? = M[q]?) (hv : zfv (uI H f (a + 1) x) f (a + 1) = v) : ZHeap G (uI H f (a + 1) x) M' := by
  refine zheap_put hH e2 ht h0 h50 hrw hft hap m1 m2 m3 (fun _ => rfl) rfl rfl (fun _ => rfl) (fun _ => rfl) (fun _ _ => rfl) (fun g r hg => ?_) hv
  simp only [zfv, uI, hI, hR, if_neg hg]
theorem zheap_uR {G : ZG} {H : ZH} {M M' : Heap} (hH : ZHeap G H M) {a f t : Nat} {cell : Cell} {x : Nat} {v : Value} (e2 : M[a]? = some cell) (ht : hT H (a + 1) = t) (h0 : t ≠ 0) (h50 : t < 50) (hrw : zrw t = true) (hft : f ∈ zfl t) (hap : ∀ g ∈ zfl t, g ≠ f → G.2.1 f ≠ G.2.1 g)
    (m1 : M'[a]? = some (cell.setSlot (G.2.1 f) v)) (m2 : M'.size = M.size) (m3 : ∀ q, q ≠ a → M'[q]? = M[q]?) (hv : zfv (uR H f (a + 1) x) f (a + 1) = v) : ZHeap G (uR H f (a + 1) x) M' := by
  refine zheap_put hH e2 ht h0 h50 hrw hft hap m1 m2 m3 (fun _ => rfl) rfl rfl (fun _ => rfl) (fun _ => rfl) (fun _ _ => rfl) (fun g r hg => ?_) hv
  simp only [zfv, uR, hI, hR, if_neg hg]
/-- how a store into a field is linked: a plain field (of this class or a nest mate's), or a final one in a constructor -/
def zput (own nm : String) (idx : Nat) (ref : String) (f : Nat) (ts : List Nat) : Prop :=
  (zlink own idx ref f ∧ ∀ t ∈ ts, Cond.lays (znm t) (zfo f).1 (zfo f).2.1 (zfo f).2.2.1 ∈ lw_all) ∨ (Cond.fieldLink own idx ref (zfo f).2.1 (zfo f).2.2.1 ∈ lw_all ∧ (∀ t ∈ ts, Cond.laysFinal (znm t) (zfo f).1 (zfo f).2.1 (zfo f).2.2.1 ∈ lw_all) ∧ nm = "<init>" ∧ (zfo f).1 = own)
def zwr (ts : List Nat) : Bool := ts.all (fun t => Nat.blt t 47)
theorem zap_all {G : ZG} {s : State} {args : Array Value} (hts : ∀ w ∈ lw_all, w.before args s = true) (hV : ZVm G s) {t : Nat} (h0 : t ≠ 0) (ht : t < 47) : ∀ f ∈ zfl t, ∀ g ∈ zfl t, g ≠ f → G.2.1 f ≠ G.2.1 g := by
  intro f hf g hg hne
  by_cases h23 : t = 2 ∨ t = 3
  · have lf := zfl_lt t (by omega) f hf
    have lg := zfl_lt t (by omega) g hg
    by_cases hn : (zfo f).2.1 = (zfo g).2.1
    · obtain ⟨_, _, _, fa, hia, ea⟩ := hV.2.1 f lf
      obtain ⟨_, _, _, fb, hib, eb⟩ := hV.2.1 g lg
      rw [← ea, ← eb]
      rcases h23 with rfl | rfl
      · have hf' : f = 4 ∨ f = 5 ∨ f = 6 := by simpa [zfl, zcls] using hf
        have hg' : g = 4 ∨ g = 5 ∨ g = 6 := by simpa [zfl, zcls] using hg
        rcases hf' with rfl | rfl | rfl <;> rcases hg' with rfl | rfl | rfl <;> first | exact absurd rfl hne | exact absurd hn (by decide) | skip
        · exact zapart2 (hts _ q1935) (hts _ q1933) (by decide) hia hib
        · exact zapart2 (hts _ q1933) (hts _ q1935) (by decide) hia hib
      · have hf' : f = 4 ∨ f = 7 ∨ f = 8 := by simpa [zfl, zcls] using hf
        have hg' : g = 4 ∨ g = 7 ∨ g = 8 := by simpa [zfl, zcls] using hg
        rcases hf' with rfl | rfl | rfl <;> rcases hg' with rfl | rfl | rfl <;> first | exact absurd rfl hne | exact absurd hn (by decide) | skip
        · exact zapart2 (hts _ q1971) (hts _ q1969) (by decide) hia hib
        · exact zapart2 (hts _ q1969) (hts _ q1971) (by decide) hia hib
    · obtain ⟨_, _, _, fa, hia, ea⟩ := hV.2.1 f lf
      obtain ⟨_, _, _, fb, hib, eb⟩ := hV.2.1 g lg
      obtain ⟨ta, hta⟩ := Option.isSome_iff_exists.mp (zty_ok f lf)
      obtain ⟨tb, htb⟩ := Option.isSome_iff_exists.mp (zty_ok g lg)
      rw [← ea, ← eb]
      refine u_apart (zly_use hts (zly t (by omega) ht f hf)) (zly_use hts (zly t (by omega) ht g hg)) hia hib ?_
      rw [(State.fieldFound?_type hia hta).1, (State.fieldFound?_type hib htb).1]
      exact hn
  · exact zapart1 hts hV (by omega) ht (by omega) (by omega) hf hg (Ne.symm hne)
section HR2
variable {p : Program} {l : Launch} {e : Env} {R : Room} {s : State} {m : MethodId} {args : Array Value} {below : List Frame} {meth : Method} {c : Code} {G : ZG} {H0 H : ZH} {d : Nat} {own nm de : String} {cc : ByteArray} {nL : Nat} {rt : Option FieldType} {pc : Nat} {ls : Array Slot} {M : Heap} {locs : List Loc} {rest : List Value} {L : ZL} {Qm : State → Prop} {cells slots : Nat}
theorem zput_row {idx r f : Nat} {ref : String} {ts : List Nat} {ty : FieldType} {v : Value} (cx : ZCx p R s m args meth c G H0 d own nm de cc nL rt) (hH : ZHeap G H M) (hd : decode cc pc = .ok (.putfield idx, 3)) (hl : zput own nm idx ref f ts) (hs : zsamef ref f) (hz : zhas f ts = true) (hw : zwr ts = true) (ht : hT H r ∈ ts) (hty : parseFieldDescriptor (zfo f).2.2.1 = some ty) (hn : narrow ty v = v) (hfit : fits ty v = true)
    (kk : ∀ (M' : Heap) (a : Nat) (cell : Cell), r = a + 1 → M[a]? = some cell → M'[a]? = some (cell.setSlot (G.2.1 f) v) → M'.size = M.size → (∀ q, q ≠ a → M'[q]? = M[q]?) → (∀ g ∈ zfl (hT H (a + 1)), g ≠ f → G.2.1 f ≠ G.2.1 g) → hT H (a + 1) ≠ 0 → hT H (a + 1) < 50 → zrw (hT H (a + 1)) = true → f ∈ zfl (hT H (a + 1)) → W p l e R s m args below meth c M' (locs ++ [⟨a, G.2.1 f⟩]) cells slots Qm (F0 m (pc + 3) ls rest)) : W p l e R s m args below meth c M locs cells slots Qm (F0 m pc ls (v :: zref r :: rest)) := by
  obtain ⟨h50, hn0, hft, hf⟩ := zhas_of hz ht
  have h47 : hT H r < 47 := Nat.blt_eq.mp (List.all_eq_true.mp hw _ ht)
  obtain ⟨a, cell, rfl, e2, e3, e4, e5, -⟩ := zobj hH rfl hn0
  have hts := cx.2.2.2.2.2.2.1
  have hV := cx.2.2.2.2.2.2.2.1
  obtain ⟨cf, k, i, fd, hi, he, hst⟩ := zfld_st hts hV hf
  have hi2 : s.fieldFound? ref (zfo f).2.1 (zfo f).2.2.1 = some (cf, k, i, fd) := by
    rcases hs with rfl | hs
    · exact hi
    · exact u_same (hts _ hs) _ hi
  obtain ⟨hfc, kC, hkC, hkind⟩ := hV.1 (hT H (a + 1)) (by omega) (by unfold zNO; omega)
  have hlt : fd.slot < cell.slots.size := by rw [he]; exact k2_hasslot (e5 (by omega) f hft)
  have hrw : zrw (hT H (a + 1)) = true := by
    unfold zrw
    rw [Nat.blt_eq.mpr h47]
    rfl
  have fin : ∀ (M' : Heap), M'[a]? = some (cell.setSlot fd.slot v) → M'.size = M.size → (∀ q, q ≠ a → M'[q]? = M[q]?) → W p l e R s m args below meth c M' (locs ++ [⟨a, fd.slot⟩]) cells slots Qm (F0 m (pc + 3) ls rest) := by
    intro M' m1 m2 m3
    rw [he] at m1 ⊢
    exact kk M' a cell rfl e2 m1 m2 m3 (fun g hg hne => zap_all hts hV hn0 h47 f hft g hg hne) hn0 h50 hrw hft
  rcases hl with ⟨hl, hw2⟩ | ⟨hl, hw2, hnm, ho⟩
  · have hlay := hts _ (hw2 _ ht)
    have hS := u_store hfc hkC hkind hlay hi hty hn hfit
    rcases hl with hl | ⟨host, hl⟩
    · exact W.putK cx.1 cx.2.1 (f := fd) ⟨cx.2.2.2.2.2.1, hts _ hl, ⟨_, _, _, hi2⟩, hst⟩ (by rw [e4]; exact hS) e2 e3 hlt rfl rfl hd fin
    · exact va_WputK cx.1 cx.2.1 cx.2.2.2.2.2.1 (va_Nw.use rfl (hV.2.2.2.1 _ hl rfl)) hi2 hst (by rw [e4]; exact hS) e2 e3 hlt rfl rfl hd fin
  · have hlay := hts _ (hw2 _ ht)
    have hS := u_fits hfc hkC hkind (Or.inr hlay) hi hty hn hfit
    have hcf : m.cls = cf := by
      obtain ⟨_, _, c', _, _, _, -, -, hf', -, -, -, hown2, -⟩ := Cond.laysFinal_spec hlay
      have e1 : c' = cf := by have := hi.symm.trans hf'; simp at this; exact this.1.symm
      rw [ho] at hown2
      rw [← e1]; exact Option.some.inj (cx.2.2.2.2.2.1.symm.trans hown2)
    exact W.putFinK cx.1 cx.2.1 cx.2.2.2.2.2.1 (hts _ hl) hi2 hst hcf (cx.2.2.2.2.2.2.2.2.2.2.2.1.trans hnm) (by rw [e4]; exact hS) e2 e3 hlt rfl rfl hd fin
end HR2
section SN3
variable {mt : Nat → ZY} {own nm de : String} {cc : ByteArray} {nL : Nat} {rt : Option FieldType} {pc : Nat}
theorem ofi_bool {v : Int} (h : v = 0 ∨ v = 1) : Int32.ofInt v = 0 ∨ Int32.ofInt v = 1 := by
  rcases h with rfl | rfl
  · exact Or.inl rfl
  · exact Or.inr rfl
theorem zbool {v : Int} (h : v = 0 ∨ v = 1) : narrow .boolean (.int (Int32.ofInt v)) = .int (Int32.ofInt v) ∧ fits .boolean (.int (Int32.ofInt v)) = true := by
  rcases h with rfl | rfl
  · exact ⟨rfl, rfl⟩
  · exact ⟨rfl, rfl⟩
theorem zbyte {v : Int} (h : -128 ≤ v ∧ v < 128) : narrow .byte (.int (Int32.ofInt v)) = .int (Int32.ofInt v) ∧ fits .byte (.int (Int32.ofInt v)) = true := by
  have e : (Int32.ofInt v).toInt8.toInt32 = Int32.ofInt v := by
    rw [ofi_i2b, Int.bmod_eq_of_le (by omega) (by omega)]
  constructor
  · show Value.int (vp_nar .byte (Int32.ofInt v)) = _
    rw [vp_nar_byte, e]
  · rw [← e]
    exact pk_fb _
theorem sn_putI {idx f : Nat} {ref : String} {ts : List Nat} (hd : decode cc pc = .ok (.putfield idx, 3)) (hl : zput own nm idx ref f ts) (hs : zsamef ref f) (hz : zhas f ts = true) (hw : zwr ts = true) (hty : parseFieldDescriptor (zfo f).2.2.1 = some .int) (hk : zft f = 0) : ZSn mt own nm de cc nL rt pc (oputI f ts (pc + 3)) := by
  intro p l e R s m args below meth c G H0 d C Q P cx hC hP L S H ho ls M locs fr
  simp only [oputI] at ho
  split at ho
  · next v r S' =>
    obtain ⟨ht, ho⟩ := ho
    refine zput_row cx fr.2.1 hd hl hs hz hw ht hty rfl rfl (fun M' a cell e1 m0 m1 m2 m3 hap h0 h50 hrw hft => ?_)
    subst e1
    refine hP _ _ _ _ ho ls M' _ ⟨fr.1, zheap_uI fr.2.1 m0 rfl h0 h50 hrw hft hap m1 m2 m3 (by simp [zfv, hk, uI, hI, zval]), fr.2.2.1, fun q hq => ?_⟩
    rcases List.mem_append.mp hq with q1 | q1
    · exact fr.2.2.2 q q1
    · rw [List.mem_singleton.mp q1]
      exact fr.2.1.2.2.2.2.1 a hrw h0
  · exact ho.elim
theorem sn_putZ {idx f : Nat} {ref : String} {ts : List Nat} (hd : decode cc pc = .ok (.putfield idx, 3)) (hl : zput own nm idx ref f ts) (hs : zsamef ref f) (hz : zhas f ts = true) (hw : zwr ts = true) (hty : parseFieldDescriptor (zfo f).2.2.1 = some .boolean) (hk : zft f = 0) : ZSn mt own nm de cc nL rt pc (oputZ f ts (pc + 3)) := by
  intro p l e R s m args below meth c G H0 d C Q P cx hC hP L S H ho ls M locs fr
  simp only [oputZ] at ho
  split at ho
  · next v r S' =>
    obtain ⟨ht, hb, ho⟩ := ho
    refine zput_row cx fr.2.1 hd hl hs hz hw ht hty (zbool hb).1 (zbool hb).2 (fun M' a cell e1 m0 m1 m2 m3 hap h0 h50 hrw hft => ?_)
    subst e1
    refine hP _ _ _ _ ho ls M' _ ⟨fr.1, zheap_uI fr.2.1 m0 rfl h0 h50 hrw hft hap m1 m2 m3 (by simp [zfv, hk, uI, hI, zval]), fr.2.2.1, fun q hq => ?_⟩
    rcases List.mem_append.mp hq with q1 | q1
    · exact fr.2.2.2 q q1
    · rw [List.mem_singleton.mp q1]
      exact fr.2.1.2.2.2.2.1 a hrw h0
  · exact ho.elim
theorem sn_putB {idx f : Nat} {ref : String} {ts : List Nat} (hd : decode cc pc = .ok (.putfield idx, 3)) (hl : zput own nm idx ref f ts) (hs : zsamef ref f) (hz : zhas f ts = true) (hw : zwr ts = true) (hty : parseFieldDescriptor (zfo f).2.2.1 = some .byte) (hk : zft f = 0) : ZSn mt own nm de cc nL rt pc (oputB f ts (pc + 3)) := by
  intro p l e R s m args below meth c G H0 d C Q P cx hC hP L S H ho ls M locs fr
  simp only [oputB] at ho
  split at ho
  · next v r S' =>
    obtain ⟨ht, hb, ho⟩ := ho
    refine zput_row cx fr.2.1 hd hl hs hz hw ht hty (zbyte hb).1 (zbyte hb).2 (fun M' a cell e1 m0 m1 m2 m3 hap h0 h50 hrw hft => ?_)
    subst e1
    refine hP _ _ _ _ ho ls M' _ ⟨fr.1, zheap_uI fr.2.1 m0 rfl h0 h50 hrw hft hap m1 m2 m3 (by simp [zfv, hk, uI, hI, zval]), fr.2.2.1, fun q hq => ?_⟩
    rcases List.mem_append.mp hq with q1 | q1
    · exact fr.2.2.2 q q1
    · rw [List.mem_singleton.mp q1]
      exact fr.2.1.2.2.2.2.1 a hrw h0
  · exact ho.elim
theorem sn_putJ {idx f : Nat} {ref : String} {ts : List Nat} (hd : decode cc pc = .ok (.putfield idx, 3)) (hl : zput own nm idx ref f ts) (hs : zsamef ref f) (hz : zhas f ts = true) (hw : zwr ts = true) (hty : parseFieldDescriptor (zfo f).2.2.1 = some .long) (hk : zft f = 1) : ZSn mt own nm de cc nL rt pc (oputJ f ts (pc + 3)) := by
  intro p l e R s m args below meth c G H0 d C Q P cx hC hP L S H ho ls M locs fr
  simp only [oputJ] at ho
  split at ho
  · next v r S' =>
    obtain ⟨ht, ho⟩ := ho
    refine zput_row cx fr.2.1 hd hl hs hz hw ht hty rfl rfl (fun M' a cell e1 m0 m1 m2 m3 hap h0 h50 hrw hft => ?_)
    subst e1
    refine hP _ _ _ _ ho ls M' _ ⟨fr.1, zheap_uI fr.2.1 m0 rfl h0 h50 hrw hft hap m1 m2 m3 (by simp [zfv, hk, uI, hI, zval]), fr.2.2.1, fun q hq => ?_⟩
    rcases List.mem_append.mp hq with q1 | q1
    · exact fr.2.2.2 q q1
    · rw [List.mem_singleton.mp q1]
      exact fr.2.1.2.2.2.2.1 a hrw h0
  · exact ho.elim
def zrefty (ty : FieldType) : Bool := match ty with
  | .object _ => true
  | .array _ => true
  | _ => false
theorem zref_fits {ty : FieldType} (h : zrefty ty = true) (r : Nat) : narrow ty (zref r) = zref r ∧ fits ty (zref r) = true := by
  cases ty <;> simp [zrefty] at h <;> cases r <;> exact ⟨rfl, rfl⟩
theorem sn_putR {idx f : Nat} {ref : String} {ts : List Nat} (hd : decode cc pc = .ok (.putfield idx, 3)) (hl : zput own nm idx ref f ts) (hs : zsamef ref f) (hz : zhas f ts = true) (hw : zwr ts = true) (hty : ∃ ty, parseFieldDescriptor (zfo f).2.2.1 = some ty ∧ zrefty ty = true) (hk : zft f = 2) : ZSn mt own nm de cc nL rt pc (oputR f ts (pc + 3)) := by
  intro p l e R s m args below meth c G H0 d C Q P cx hC hP L S H ho ls M locs fr
  simp only [oputR] at ho
  split at ho
  · next v r S' =>
    obtain ⟨ht, ho⟩ := ho
    refine zput_row cx fr.2.1 hd hl hs hz hw ht hty.choose_spec.1 (zref_fits hty.choose_spec.2 v).1 (zref_fits hty.choose_spec.2 v).2 (fun M' a cell e1 m0 m1 m2 m3 hap h0 h50 hrw hft => ?_)
    subst e1
    refine hP _ _ _ _ ho ls M' _ ⟨fr.1, zheap_uR fr.2.1 m0 rfl h0 h50 hrw hft hap m1 m2 m3 (by simp [zfv, hk, uR, hR, zval]), fr.2.2.1, fun q hq => ?_⟩
    rcases List.mem_append.mp hq with q1 | q1
    · exact fr.2.2.2 q q1
    · rw [List.mem_singleton.mp q1]
      exact fr.2.1.2.2.2.2.1 a hrw h0
  · exact ho.elim
end SN3
