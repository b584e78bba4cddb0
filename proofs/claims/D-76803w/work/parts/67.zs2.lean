/-! CALLS -/
theorem zcatw : ∀ S : ZS, ((S.map zval).map fun v => v.category).sum = zcw S
  | [] => rfl
  | .inl x :: S => by
    show 1 + ((S.map zval).map fun v => v.category).sum = zcw S + 1
    rw [zcatw S, Nat.add_comm]
  | .inr (.inl x) :: S => by
    show 2 + ((S.map zval).map fun v => v.category).sum = zcw S + 2
    rw [zcatw S, Nat.add_comm]
  | .inr (.inr r) :: S => by
    have e : (zval (.inr (.inr r))).category = 1 := by cases r <;> rfl
    show (zval (.inr (.inr r))).category + ((S.map zval).map fun v => v.category).sum = zcw S + 1
    rw [zcatw S, e, Nat.add_comm]
theorem zcat2 (S : ZS) : ((S.map zval).map fun v => v.category).sum ≤ 2 * S.length := by
  induction S with
  | nil => simp
  | cons v S ih =>
    have h : (zval v).category ≤ 2 := by
      rcases v with x | x | r
      · simp [zval, Value.category]
      · simp [zval, Value.category]
      · cases r <;> simp [zval, zref, Value.category]
    simp only [List.map_cons, List.sum_cons, List.length_cons]
    omega
theorem zsplit {S : ZS} {n : Nat} {v : ZV} (h : S[n]? = some v) : S = S.take n ++ v :: S.drop (n + 1) := by
  obtain ⟨h1, h2⟩ := List.getElem?_eq_some_iff.mp h
  rw [← h2, ← List.drop_eq_getElem_cons h1, List.take_append_drop]
theorem ztake1 {S : ZS} {n : Nat} {v : ZV} (h : S[n]? = some v) : (S.take (n + 1)).reverse = v :: (S.take n).reverse := by
  obtain ⟨h1, h2⟩ := List.getElem?_eq_some_iff.mp h
  rw [← h2, ← List.take_append_getElem h1, List.reverse_append]
  rfl
section SN4
variable {mt : Nat → ZY} {own nm de : String} {cc : ByteArray} {nL : Nat} {rt : Option FieldType} {pc : Nat}
theorem sn_call {k n : Nat} (hr : ZRunS own nm de cc nL rt pc (mt k) n) : ZSn mt own nm de cc nL rt pc (ocall k n (pc + 3)) := by
  intro p l e R s m args below meth c G H0 d C Q P cx hC hP L S H ho ls M locs fr
  simp only [ocall] at ho
  split at ho
  · next hb =>
    simp only [Bool.and_eq_true] at hb
    have h1 := Nat.le_of_ble_eq_true hb.1
    have h2 := Nat.le_of_ble_eq_true hb.2
    have hM := hC _ _ _ _ ho fr.2.2.1.2.2.2
    have hr1 := hr p l e R s m args below meth c G H0 d cx H _ _ ls M locs ((S.drop n).map zval) hM (by simp; omega) fr.2.2.1 fr.1.2.1 fr.2.1 (by rw [zcatw]; exact h2)
    have hS : (((S.take n).reverse.map zval).reverse ++ (S.drop n).map zval) = S.map zval := by
      rw [List.map_reverse, List.reverse_reverse, ← List.map_append, List.take_append_drop]
    rw [hS] at hr1
    exact zafter hr1 rfl rfl (fun _ _ _ h => h) rfl cx.2.2.2.2.2.2.2.2.2.1 cx.2.2.2.2.2.2.2.2.2.2.1 fr.2.2.1 fr.2.2.2 (fun r H' M' locs' q1 q2 q3 q4 => hP _ _ _ _ q1 ls M' locs' ⟨fr.1, q2, q3, q4⟩)
  · exact ho.elim
theorem zcallv_go {S : ZS} {n r k t : Nat} {p : Program} {l : Launch} {e : Env} {R : Room} {s : State} {m : MethodId} {args : Array Value} {below : List Frame} {meth : Method} {c : Code} {G : ZG} {H0 H : ZH} {d : Nat} {C : ZC} {Q : ZQ} {P : ZN} {L : ZL} {ls : Array Slot} {M : Heap} {locs : List Loc} (cx : ZCx p R s m args meth c G H0 d own nm de cc nL rt) (hC : ∀ k as H Q, C k as H Q → zlim H → ZMet l G d (mt k) as H Q)
    (hP : ∀ pc L S H, P pc L S H → ZGd p l e R s m args below meth c (zQm below G H0 Q args s) G H0 nL pc L S H) (fr : ZFr G H0 H nL L ls M locs) (hSn : S[n]? = some (zR r)) (hb : zcw (S.drop (n + 1)) ≤ 8) (ht : hT H r = t) (h0 : t ≠ 0) (hr : ZRunV own nm de cc nL rt pc (mt k) n t)
    (ho : C k (S.take (n + 1)).reverse H (fun r H => P (pc + 3) L (r ++ S.drop (n + 1)) H)) : W p l e R s m args below meth c M locs (hN H - hN H0) (hS H - hS H0) (zQm below G H0 Q args s) (F0 m pc ls (S.map zval)) := by
  obtain ⟨a, cell, rfl, e2, e3, e4, -, -⟩ := zobj fr.2.1 ht h0
  rw [ztake1 hSn] at ho
  have hM := hC _ _ _ _ ho fr.2.2.1.2.2.2
  have hl := (List.getElem?_eq_some_iff.mp hSn).1
  have hr1 := hr p l e R s m args below meth c G H0 d cx H _ _ ls M locs a cell ((S.drop (n + 1)).map zval) hM (by simp; omega) fr.2.2.1 fr.1.2.1 e2 e3 e4 fr.2.1 (by rw [zcatw]; exact hb)
  have hS2 : (((S.take n).reverse.map zval).reverse ++ Value.ref a :: (S.drop (n + 1)).map zval) = S.map zval := by
    rw [List.map_reverse, List.reverse_reverse]
    conv => rhs; rw [zsplit hSn]
    simp [zval, zref]
  rw [hS2] at hr1
  exact zafter hr1 rfl rfl (fun _ _ _ h => h) rfl cx.2.2.2.2.2.2.2.2.2.1 cx.2.2.2.2.2.2.2.2.2.2.1 fr.2.2.1 fr.2.2.2 (fun r H' M' locs' q1 q2 q3 q4 => hP _ _ _ _ q1 ls M' locs' ⟨fr.1, q2, q3, q4⟩)
theorem sn_callv {ts : List Nat} {k n : Nat} (h0 : ¬ 0 ∈ ts) (hr : ∀ t ∈ ts, ZRunV own nm de cc nL rt pc (mt k) n t) : ZSn mt own nm de cc nL rt pc (ocallv ts k n (pc + 3)) := by
  intro p l e R s m args below meth c G H0 d C Q P cx hC hP L S H ho ls M locs fr
  simp only [ocallv] at ho
  split at ho
  · next r hS =>
    split at ho
    · next hb => exact zcallv_go cx hC hP fr hS (Nat.le_of_ble_eq_true hb) rfl (fun z => h0 (z ▸ ho.1)) (hr _ ho.1) ho.2
    · exact ho.elim
  · exact ho.elim
theorem sn_callp {sel : List (Nat × Nat)} {n : Nat} (hr : ∀ q ∈ sel, q.1 ≠ 0 ∧ ZRunV own nm de cc nL rt pc (mt q.2) n q.1) : ZSn mt own nm de cc nL rt pc (ocallp sel n (pc + 3)) := by
  intro p l e R s m args below meth c G H0 d C Q P cx hC hP L S H ho ls M locs fr
  simp only [ocallp] at ho
  split at ho
  · next r hS =>
    split at ho
    · next hb =>
      obtain ⟨k, hk, ho⟩ := ho
      exact zcallv_go cx hC hP fr hS (Nat.le_of_ble_eq_true hb) rfl (hr _ hk).1 (hr _ hk).2 ho
    · exact ho.elim
  · exact ho.elim
theorem zcalli_go {S : ZS} {n r k t : Nat} {p : Program} {l : Launch} {e : Env} {R : Room} {s : State} {m : MethodId} {args : Array Value} {below : List Frame} {meth : Method} {c : Code} {G : ZG} {H0 H : ZH} {d : Nat} {C : ZC} {Q : ZQ} {P : ZN} {L : ZL} {ls : Array Slot} {M : Heap} {locs : List Loc} (cx : ZCx p R s m args meth c G H0 d own nm de cc nL rt) (hC : ∀ k as H Q, C k as H Q → zlim H → ZMet l G d (mt k) as H Q)
    (hP : ∀ pc L S H, P pc L S H → ZGd p l e R s m args below meth c (zQm below G H0 Q args s) G H0 nL pc L S H) (fr : ZFr G H0 H nL L ls M locs) (hSn : S[n]? = some (zR r)) (hb : zcw (S.drop (n + 1)) ≤ 8) (ht : hT H r = t) (h0 : t ≠ 0) (hr : ZRunF own nm de cc nL rt pc (mt k) n t)
    (ho : C k (S.take (n + 1)).reverse H (fun r H => P (pc + 5) L (r ++ S.drop (n + 1)) H)) : W p l e R s m args below meth c M locs (hN H - hN H0) (hS H - hS H0) (zQm below G H0 Q args s) (F0 m pc ls (S.map zval)) := by
  obtain ⟨a, cell, rfl, e2, e3, e4, -, -⟩ := zobj fr.2.1 ht h0
  rw [ztake1 hSn] at ho
  have hM := hC _ _ _ _ ho fr.2.2.1.2.2.2
  have hl := (List.getElem?_eq_some_iff.mp hSn).1
  have hr1 := hr p l e R s m args below meth c G H0 d cx H _ _ ls M locs a cell ((S.drop (n + 1)).map zval) hM (by simp; omega) fr.2.2.1 fr.1.2.1 e2 e3 e4 fr.2.1 (by rw [zcatw]; exact hb)
  have hS2 : (((S.take n).reverse.map zval).reverse ++ Value.ref a :: (S.drop (n + 1)).map zval) = S.map zval := by
    rw [List.map_reverse, List.reverse_reverse]
    conv => rhs; rw [zsplit hSn]
    simp [zval, zref]
  rw [hS2] at hr1
  exact zafter5 hr1 rfl rfl (fun _ _ _ h => h) rfl cx.2.2.2.2.2.2.2.2.2.1 cx.2.2.2.2.2.2.2.2.2.2.1 fr.2.2.1 fr.2.2.2 (fun r H' M' locs' q1 q2 q3 q4 => hP _ _ _ _ q1 ls M' locs' ⟨fr.1, q2, q3, q4⟩)
theorem sn_calli {sel : List (Nat × Nat)} {n : Nat} (hr : ∀ q ∈ sel, q.1 ≠ 0 ∧ ZRunF own nm de cc nL rt pc (mt q.2) n q.1) : ZSn mt own nm de cc nL rt pc (ocallp sel n (pc + 5)) := by
  intro p l e R s m args below meth c G H0 d C Q P cx hC hP L S H ho ls M locs fr
  simp only [ocallp] at ho
  split at ho
  · next r hS =>
    split at ho
    · next hb =>
      obtain ⟨k, hk, ho⟩ := ho
      exact zcalli_go cx hC hP fr hS (Nat.le_of_ble_eq_true hb) rfl (hr _ hk).1 (hr _ hk).2 ho
    · exact ho.elim
  · exact ho.elim
/-! returns -/
theorem zwid {H0 H : ZH} {cells slots : Nat} {p : Program} {l : Launch} {e : Env} {R : Room} {s : State} {m : MethodId} {args : Array Value} {below : List Frame} {meth : Method} {c : Code} {M : Heap} {locs : List Loc} {Qm : State → Prop} {g : JFrame} (h : ZNx H0 H) (hc : cells = hN H - hN H0) (hs : slots = hS H - hS H0) (k : W p l e R s m args below meth c M locs (hE H0 0 - hN H0) (hE H0 1 - hS H0) Qm g) : W p l e R s m args below meth c M locs cells slots Qm g := by
  obtain ⟨h1, h2, h3, h4, h5⟩ := h
  have e0 := h3 0
  have e1 := h3 1
  exact W.widen (by omega) (by omega) k
theorem sn_ret0 (hd : decode cc pc = .ok (.return_, 1)) (hrt : rt = none) : ZSn mt own nm de cc nL rt pc oret0 := by
  intro p l e R s m args below meth c G H0 d C Q P cx hC hP L S H ho ls M locs fr
  obtain ⟨rfl, ho⟩ := ho
  exact zwid fr.2.2.1 rfl rfl (W.vret cx.1 cx.2.1 (cx.2.2.1.trans hrt) (fun t ht hW => ⟨[], H, ho, Nat.zero_le _, rfl, by rw [ht]; exact fr.2.1, fr.2.2.1⟩) fr.2.2.2 hd cx.2.2.2.1)
theorem sn_retI (hd : decode cc pc = .ok (.ireturn, 1)) (hrt : rt = some .int) : ZSn mt own nm de cc nL rt pc oretI := by
  intro p l e R s m args below meth c G H0 d C Q P cx hC hP L S H ho ls M locs fr
  simp only [oretI] at ho
  split at ho
  · next v => exact zwid fr.2.2.1 rfl rfl (W.iret cx.1 cx.2.1 (cx.2.2.1.trans hrt) (fun t ht hW => ⟨[zI v], H, ho, Nat.le_refl _, rfl, by rw [ht]; exact fr.2.1, fr.2.2.1⟩) fr.2.2.2 hd cx.2.2.2.1)
  · exact ho.elim
theorem sn_retJ (hd : decode cc pc = .ok (.lreturn, 1)) (hrt : rt = some .long) : ZSn mt own nm de cc nL rt pc oretJ := by
  intro p l e R s m args below meth c G H0 d C Q P cx hC hP L S H ho ls M locs fr
  simp only [oretJ] at ho
  split at ho
  · next v => exact zwid fr.2.2.1 rfl rfl (W.lret cx.1 cx.2.1 (cx.2.2.1.trans hrt) (fun t ht hW => ⟨[zJ v], H, ho, Nat.le_refl _, rfl, by rw [ht]; exact fr.2.1, fr.2.2.1⟩) fr.2.2.2 hd cx.2.2.2.1)
  · exact ho.elim
theorem sn_retR {ty : FieldType} (hd : decode cc pc = .ok (.areturn, 1)) (hrt : rt = some ty) (hty : (∃ n, ty = .object n) ∨ ∃ t, ty = .array t) : ZSn mt own nm de cc nL rt pc oretR := by
  intro p l e R s m args below meth c G H0 d C Q P cx hC hP L S H ho ls M locs fr
  simp only [oretR] at ho
  split at ho
  · next v =>
    refine zwid fr.2.2.1 rfl rfl (W.aret (v := zref v) cx.1 cx.2.1 (cx.2.2.1.trans hrt) hty ?_ (fun t ht hW => ⟨[zR v], H, ho, Nat.le_refl _, rfl, by rw [ht]; exact fr.2.1, fr.2.2.1⟩) fr.2.2.2 hd cx.2.2.2.1)
    cases v with
    | zero => exact Or.inl rfl
    | succ a => exact Or.inr ⟨a, rfl⟩
  · exact ho.elim
theorem sn_retZ (hd : decode cc pc = .ok (.ireturn, 1)) (hrt : rt = some .boolean) : ZSn mt own nm de cc nL rt pc oretZ := by
  intro p l e R s m args below meth c G H0 d C Q P cx hC hP L S H ho ls M locs fr
  simp only [oretZ] at ho
  split at ho
  · next v => exact zwid fr.2.2.1 rfl rfl (W.zret cx.1 cx.2.1 (cx.2.2.1.trans hrt) (zbool ho.1).1 (fun t ht hW => ⟨[zI v], H, ho.2, Nat.le_refl _, rfl, by rw [ht]; exact fr.2.1, fr.2.2.1⟩) fr.2.2.2 hd cx.2.2.2.1)
  · exact ho.elim
theorem sn_retB (hd : decode cc pc = .ok (.ireturn, 1)) (hrt : rt = some .byte) : ZSn mt own nm de cc nL rt pc oretB := by
  intro p l e R s m args below meth c G H0 d C Q P cx hC hP L S H ho ls M locs fr
  simp only [oretB] at ho
  split at ho
  · next v => exact zwid fr.2.2.1 rfl rfl (W.zret cx.1 cx.2.1 (cx.2.2.1.trans hrt) (zbyte ho.1).1 (fun t ht hW => ⟨[zI v], H, ho.2, Nat.le_refl _, rfl, by rw [ht]; exact fr.2.1, fr.2.2.1⟩) fr.2.2.2 hd cx.2.2.2.1)
  · exact ho.elim
theorem zchar {v : Int} (h : 0 ≤ v ∧ v < 65536) : narrow .char (.int (Int32.ofInt v)) = .int (Int32.ofInt v) := by
  have h1 := (pk_charN (q := v.toNat) (by omega)).1
  have e : nI v.toNat = Int32.ofInt v := by
    rw [← Int32.toInt_inj, nI_toInt (by omega), ofi_w, zw, Int.bmod_eq_of_le (by omega) (by omega)]
    omega
  rw [e] at h1
  exact h1
theorem sn_retC (hd : decode cc pc = .ok (.ireturn, 1)) (hrt : rt = some .char) : ZSn mt own nm de cc nL rt pc oretC := by
  intro p l e R s m args below meth c G H0 d C Q P cx hC hP L S H ho ls M locs fr
  simp only [oretC] at ho
  split at ho
  · next v => exact zwid fr.2.2.1 rfl rfl (W.zret cx.1 cx.2.1 (cx.2.2.1.trans hrt) (zchar ho.1) (fun t ht hW => ⟨[zI v], H, ho.2, Nat.le_refl _, rfl, by rw [ht]; exact fr.2.1, fr.2.2.1⟩) fr.2.2.2 hd cx.2.2.2.1)
  · exact ho.elim
end SN4
