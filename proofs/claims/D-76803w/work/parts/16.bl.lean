/-! BLOCKS: what their proofs need -/
theorem zc_ {tb : Nat → Nat × ZT} {d m nL : Nat} {T : ZT} {args : ZS} {H : ZH} {Q : ZQ} (h : tb m = (nL, T)) (hl : Nat.ble (zflat args).length nL = true) (hw : zwp (zcall tb d) T Q 0 (zent nL args) [] H) : zcall tb (d + 1) m args H Q := by
  unfold zcall
  rw [h]
  exact ⟨Nat.le_of_ble_eq_true hl, hw⟩
theorem zsub {a : Nat} {l1 l2 : List Nat} (h : ∀ x ∈ l1, x ∈ l2) (ha : a ∈ l1) : a ∈ l2 := h a ha
theorem zne {a : Nat} {ts : List Nat} (h : ¬ 0 ∈ ts) (ha : a ∈ ts) : a ≠ 0 := fun e => h (e ▸ ha)
theorem zTo (H : ZH) (t n : Nat) {ts : List Nat} (h : t ∈ ts) : hT (uO H t n) (hN H) ∈ ts := by
  have : hT (uO H t n) (hN H) = t := if_pos rfl
  rw [this]; exact h
theorem zTy (H : ZH) (t n : Nat) {ts : List Nat} (h : t ∈ ts) : hT (uY H t n) (hN H) ∈ ts := by
  have : hT (uY H t n) (hN H) = t := if_pos rfl
  rw [this]; exact h
theorem zTn (H : ZH) (t n : Nat) (h : t ≠ 0) : hT (uO H t n) (hN H) ≠ 0 := by
  have : hT (uO H t n) (hN H) = t := if_pos rfl
  rw [this]; exact h
theorem zw_id {x : Int} (h1 : -2147483648 ≤ x) (h2 : x < 2147483648) : zw x = x := by
  unfold zw; rw [Int.bmod_eq_of_le] <;> omega
theorem zwl_id {x : Int} (h1 : -9223372036854775808 ≤ x) (h2 : x < 9223372036854775808) : zwl x = x := by
  unfold zwl; rw [Int.bmod_eq_of_le] <;> omega
theorem zw_lo (x : Int) : -2147483648 ≤ zw x := by
  have := @Int.le_bmod x 4294967296 (by decide); unfold zw; omega
theorem zw_hi (x : Int) : zw x < 2147483648 := by
  have := @Int.bmod_lt x 4294967296 (by decide); unfold zw; omega
theorem zwl_zw (x : Int) : zwl (zw x) = zw x := zwl_id (by have := zw_lo x; omega) (by have := zw_hi x; omega)
theorem zw_zw (x : Int) : zw (zw x) = zw x := zw_id (zw_lo x) (zw_hi x)
theorem zlc_lt {x y a b : Int} (h1 : zwl x = a) (h2 : zwl y = b) : zw (zlcmp x y) < 0 ↔ a < b := by
  subst h1 h2; unfold zlcmp
  by_cases h : zwl x < zwl y
  · rw [if_pos h]; exact ⟨fun _ => h, fun _ => by decide⟩
  · rw [if_neg h]; refine ⟨fun e => ?_, fun e => absurd e h⟩
    split at e <;> exact absurd e (by decide)
theorem zlc_eq {x y a b : Int} (h1 : zwl x = a) (h2 : zwl y = b) : zw (zlcmp x y) = 0 ↔ a = b := by
  subst h1 h2; unfold zlcmp
  by_cases h : zwl x < zwl y
  · rw [if_pos h]; exact ⟨fun e => absurd e (by decide), fun e => by omega⟩
  · rw [if_neg h]; refine ⟨fun e => ?_, fun e => by rw [if_pos e]; rfl⟩
    split at e
    · next q => exact q
    · exact absurd e (by decide)
theorem zlc_ne {x y a b : Int} (h1 : zwl x = a) (h2 : zwl y = b) : ¬ zw (zlcmp x y) = 0 ↔ ¬ a = b := not_congr (zlc_eq h1 h2)
theorem zlc_ge {x y a b : Int} (h1 : zwl x = a) (h2 : zwl y = b) : 0 ≤ zw (zlcmp x y) ↔ b ≤ a := by
  have := zlc_lt h1 h2; omega
theorem zlc_gt {x y a b : Int} (h1 : zwl x = a) (h2 : zwl y = b) : 0 < zw (zlcmp x y) ↔ b < a := by
  have := zlc_lt h1 h2; have := zlc_eq h1 h2; omega
theorem zlc_le {x y a b : Int} (h1 : zwl x = a) (h2 : zwl y = b) : zw (zlcmp x y) ≤ 0 ↔ a ≤ b := by
  have := zlc_gt h1 h2; omega
theorem zsw2 {t0 t1 : Nat} {K : Nat → Prop} {x lo : Int} (k0 : x = lo + 0 → K t0) (k1 : x = lo + 1 → K t1) : ∀ (i t : Nat), [t0, t1][i]? = some t → x = lo + i → K t := by
  intro i t h e
  match i, h, e with
  | 0, h, e => cases h; exact k0 e
  | 1, h, e => cases h; exact k1 e
  | n + 2, h, e => cases h
theorem zsw3 {t0 t1 t2 : Nat} {K : Nat → Prop} {x lo : Int} (k0 : x = lo + 0 → K t0) (k1 : x = lo + 1 → K t1) (k2 : x = lo + 2 → K t2) : ∀ (i t : Nat), [t0, t1, t2][i]? = some t → x = lo + i → K t := by
  intro i t h e
  match i, h, e with
  | 0, h, e => cases h; exact k0 e
  | 1, h, e => cases h; exact k1 e
  | 2, h, e => cases h; exact k2 e
  | n + 3, h, e => cases h
theorem zsw4 {t0 t1 t2 t3 : Nat} {K : Nat → Prop} {x lo : Int} (k0 : x = lo + 0 → K t0) (k1 : x = lo + 1 → K t1) (k2 : x = lo + 2 → K t2) (k3 : x = lo + 3 → K t3) : ∀ (i t : Nat), [t0, t1, t2, t3][i]? = some t → x = lo + i → K t := by
  intro i t h e
  match i, h, e with
  | 0, h, e => cases h; exact k0 e
  | 1, h, e => cases h; exact k1 e
  | 2, h, e => cases h; exact k2 e
  | 3, h, e => cases h; exact k3 e
  | n + 4, h, e => cases h
theorem zsw5 {t0 t1 t2 t3 t4 : Nat} {K : Nat → Prop} {x lo : Int} (k0 : x = lo + 0 → K t0) (k1 : x = lo + 1 → K t1) (k2 : x = lo + 2 → K t2) (k3 : x = lo + 3 → K t3) (k4 : x = lo + 4 → K t4) : ∀ (i t : Nat), [t0, t1, t2, t3, t4][i]? = some t → x = lo + i → K t := by
  intro i t h e
  match i, h, e with
  | 0, h, e => cases h; exact k0 e
  | 1, h, e => cases h; exact k1 e
  | 2, h, e => cases h; exact k2 e
  | 3, h, e => cases h; exact k3 e
  | 4, h, e => cases h; exact k4 e
  | n + 5, h, e => cases h
theorem zsw6 {t0 t1 t2 t3 t4 t5 : Nat} {K : Nat → Prop} {x lo : Int} (k0 : x = lo + 0 → K t0) (k1 : x = lo + 1 → K t1) (k2 : x = lo + 2 → K t2) (k3 : x = lo + 3 → K t3) (k4 : x = lo + 4 → K t4) (k5 : x = lo + 5 → K t5) : ∀ (i t : Nat), [t0, t1, t2, t3, t4, t5][i]? = some t → x = lo + i → K t := by
  intro i t h e
  match i, h, e with
  | 0, h, e => cases h; exact k0 e
  | 1, h, e => cases h; exact k1 e
  | 2, h, e => cases h; exact k2 e
  | 3, h, e => cases h; exact k3 e
  | 4, h, e => cases h; exact k4 e
  | 5, h, e => cases h; exact k5 e
  | n + 6, h, e => cases h
theorem zsw7 {t0 t1 t2 t3 t4 t5 t6 : Nat} {K : Nat → Prop} {x lo : Int} (k0 : x = lo + 0 → K t0) (k1 : x = lo + 1 → K t1) (k2 : x = lo + 2 → K t2) (k3 : x = lo + 3 → K t3) (k4 : x = lo + 4 → K t4) (k5 : x = lo + 5 → K t5) (k6 : x = lo + 6 → K t6) : ∀ (i t : Nat), [t0, t1, t2, t3, t4, t5, t6][i]? = some t → x = lo + i → K t := by
  intro i t h e
  match i, h, e with
  | 0, h, e => cases h; exact k0 e
  | 1, h, e => cases h; exact k1 e
  | 2, h, e => cases h; exact k2 e
  | 3, h, e => cases h; exact k3 e
  | 4, h, e => cases h; exact k4 e
  | 5, h, e => cases h; exact k5 e
  | 6, h, e => cases h; exact k6 e
  | n + 7, h, e => cases h
theorem zsw8 {t0 t1 t2 t3 t4 t5 t6 t7 : Nat} {K : Nat → Prop} {x lo : Int} (k0 : x = lo + 0 → K t0) (k1 : x = lo + 1 → K t1) (k2 : x = lo + 2 → K t2) (k3 : x = lo + 3 → K t3) (k4 : x = lo + 4 → K t4) (k5 : x = lo + 5 → K t5) (k6 : x = lo + 6 → K t6) (k7 : x = lo + 7 → K t7) : ∀ (i t : Nat), [t0, t1, t2, t3, t4, t5, t6, t7][i]? = some t → x = lo + i → K t := by
  intro i t h e
  match i, h, e with
  | 0, h, e => cases h; exact k0 e
  | 1, h, e => cases h; exact k1 e
  | 2, h, e => cases h; exact k2 e
  | 3, h, e => cases h; exact k3 e
  | 4, h, e => cases h; exact k4 e
  | 5, h, e => cases h; exact k5 e
  | 6, h, e => cases h; exact k6 e
  | 7, h, e => cases h; exact k7 e
  | n + 8, h, e => cases h
theorem zsw9 {t0 t1 t2 t3 t4 t5 t6 t7 t8 : Nat} {K : Nat → Prop} {x lo : Int} (k0 : x = lo + 0 → K t0) (k1 : x = lo + 1 → K t1) (k2 : x = lo + 2 → K t2) (k3 : x = lo + 3 → K t3) (k4 : x = lo + 4 → K t4) (k5 : x = lo + 5 → K t5) (k6 : x = lo + 6 → K t6) (k7 : x = lo + 7 → K t7) (k8 : x = lo + 8 → K t8) : ∀ (i t : Nat), [t0, t1, t2, t3, t4, t5, t6, t7, t8][i]? = some t → x = lo + i → K t := by
  intro i t h e
  match i, h, e with
  | 0, h, e => cases h; exact k0 e
  | 1, h, e => cases h; exact k1 e
  | 2, h, e => cases h; exact k2 e
  | 3, h, e => cases h; exact k3 e
  | 4, h, e => cases h; exact k4 e
  | 5, h, e => cases h; exact k5 e
  | 6, h, e => cases h; exact k6 e
  | 7, h, e => cases h; exact k7 e
  | 8, h, e => cases h; exact k8 e
  | n + 9, h, e => cases h
theorem zsw10 {t0 t1 t2 t3 t4 t5 t6 t7 t8 t9 : Nat} {K : Nat → Prop} {x lo : Int} (k0 : x = lo + 0 → K t0) (k1 : x = lo + 1 → K t1) (k2 : x = lo + 2 → K t2) (k3 : x = lo + 3 → K t3) (k4 : x = lo + 4 → K t4) (k5 : x = lo + 5 → K t5) (k6 : x = lo + 6 → K t6) (k7 : x = lo + 7 → K t7) (k8 : x = lo + 8 → K t8) (k9 : x = lo + 9 → K t9) : ∀ (i t : Nat), [t0, t1, t2, t3, t4, t5, t6, t7, t8, t9][i]? = some t → x = lo + i → K t := by
  intro i t h e
  match i, h, e with
  | 0, h, e => cases h; exact k0 e
  | 1, h, e => cases h; exact k1 e
  | 2, h, e => cases h; exact k2 e
  | 3, h, e => cases h; exact k3 e
  | 4, h, e => cases h; exact k4 e
  | 5, h, e => cases h; exact k5 e
  | 6, h, e => cases h; exact k6 e
  | 7, h, e => cases h; exact k7 e
  | 8, h, e => cases h; exact k8 e
  | 9, h, e => cases h; exact k9 e
  | n + 10, h, e => cases h
theorem zsw11 {t0 t1 t2 t3 t4 t5 t6 t7 t8 t9 t10 : Nat} {K : Nat → Prop} {x lo : Int} (k0 : x = lo + 0 → K t0) (k1 : x = lo + 1 → K t1) (k2 : x = lo + 2 → K t2) (k3 : x = lo + 3 → K t3) (k4 : x = lo + 4 → K t4) (k5 : x = lo + 5 → K t5) (k6 : x = lo + 6 → K t6) (k7 : x = lo + 7 → K t7) (k8 : x = lo + 8 → K t8) (k9 : x = lo + 9 → K t9) (k10 : x = lo + 10 → K t10) : ∀ (i t : Nat), [t0, t1, t2, t3, t4, t5, t6, t7, t8, t9, t10][i]? = some t → x = lo + i → K t := by
  intro i t h e
  match i, h, e with
  | 0, h, e => cases h; exact k0 e
  | 1, h, e => cases h; exact k1 e
  | 2, h, e => cases h; exact k2 e
  | 3, h, e => cases h; exact k3 e
  | 4, h, e => cases h; exact k4 e
  | 5, h, e => cases h; exact k5 e
  | 6, h, e => cases h; exact k6 e
  | 7, h, e => cases h; exact k7 e
  | 8, h, e => cases h; exact k8 e
  | 9, h, e => cases h; exact k9 e
  | 10, h, e => cases h; exact k10 e
  | n + 11, h, e => cases h
theorem zsw39 {t0 t1 t2 t3 t4 t5 t6 t7 t8 t9 t10 t11 t12 t13 t14 t15 t16 t17 t18 t19 t20 t21 t22 t23 t24 t25 t26 t27 t28 t29 t30 t31 t32 t33 t34 t35 t36 t37 t38 : Nat} {K : Nat → Prop} {x lo : Int} (k0 : x = lo + 0 → K t0) (k1 : x = lo + 1 → K t1) (k2 : x = lo + 2 → K t2) (k3 : x = lo + 3 → K t3) (k4 : x = lo + 4 → K t4) (k5 : x = lo + 5 → K t5) (k6 : x = lo + 6 → K t6) (k7 : x = lo + 7 → K t7) (k8 : x = lo + 8 → K t8) (k9 : x = lo + 9 → K t9) (k10 : x = lo + 10 → K t10) (k11 : x = lo + 11 → K t11) (k12 : x = lo + 12 → K t12) (k13 : x = lo + 13 → K t13) (k14 : x = lo + 14 → K t14) (k15 : x = lo + 15 → K t15) (k16 : x = lo + 16 → K t16) (k17 : x = lo + 17 → K t17) (k18 : x = lo + 18 → K t18) (k19 : x = lo + 19 → K t19) (k20 : x = lo + 20 → K t20) (k21 : x = lo + 21 → K t21) (k22 : x = lo + 22 → K t22) (k23 : x = lo + 23 → K t23) (k24 : x = lo + 24 → K t24) (k25 : x = lo + 25 → K t25) (k26 : x = lo + 26 → K t26) (k27 : x = lo + 27 → K t27) (k28 : x = lo + 28 → K t28) (k29 : x = lo + 29 → K t29) (k30 : x = lo + 30 → K t30) (k31 : x = lo + 31 → K t31) (k32 : x = lo + 32 → K t32) (k33 : x = lo + 33 → K t33) (k34 : x = lo + 34 → K t34) (k35 : x = lo + 35 → K t35) (k36 : x = lo + 36 → K t36) (k37 : x = lo + 37 → K t37) (k38 : x = lo + 38 → K t38) : ∀ (i t : Nat), [t0, t1, t2, t3, t4, t5, t6, t7, t8, t9, t10, t11, t12, t13, t14, t15, t16, t17, t18, t19, t20, t21, t22, t23, t24, t25, t26, t27, t28, t29, t30, t31, t32, t33, t34, t35, t36, t37, t38][i]? = some t → x = lo + i → K t := by
  intro i t h e
  match i, h, e with
  | 0, h, e => cases h; exact k0 e
  | 1, h, e => cases h; exact k1 e
  | 2, h, e => cases h; exact k2 e
  | 3, h, e => cases h; exact k3 e
  | 4, h, e => cases h; exact k4 e
  | 5, h, e => cases h; exact k5 e
  | 6, h, e => cases h; exact k6 e
  | 7, h, e => cases h; exact k7 e
  | 8, h, e => cases h; exact k8 e
  | 9, h, e => cases h; exact k9 e
  | 10, h, e => cases h; exact k10 e
  | 11, h, e => cases h; exact k11 e
  | 12, h, e => cases h; exact k12 e
  | 13, h, e => cases h; exact k13 e
  | 14, h, e => cases h; exact k14 e
  | 15, h, e => cases h; exact k15 e
  | 16, h, e => cases h; exact k16 e
  | 17, h, e => cases h; exact k17 e
  | 18, h, e => cases h; exact k18 e
  | 19, h, e => cases h; exact k19 e
  | 20, h, e => cases h; exact k20 e
  | 21, h, e => cases h; exact k21 e
  | 22, h, e => cases h; exact k22 e
  | 23, h, e => cases h; exact k23 e
  | 24, h, e => cases h; exact k24 e
  | 25, h, e => cases h; exact k25 e
  | 26, h, e => cases h; exact k26 e
  | 27, h, e => cases h; exact k27 e
  | 28, h, e => cases h; exact k28 e
  | 29, h, e => cases h; exact k29 e
  | 30, h, e => cases h; exact k30 e
  | 31, h, e => cases h; exact k31 e
  | 32, h, e => cases h; exact k32 e
  | 33, h, e => cases h; exact k33 e
  | 34, h, e => cases h; exact k34 e
  | 35, h, e => cases h; exact k35 e
  | 36, h, e => cases h; exact k36 e
  | 37, h, e => cases h; exact k37 e
  | 38, h, e => cases h; exact k38 e
  | n + 39, h, e => cases h
theorem zlb {n m : Nat} (h : Nat.ble (n + 1) m = true) : n < m := Nat.le_of_ble_eq_true h
