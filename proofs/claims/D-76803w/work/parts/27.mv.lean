/-! THE MODEL: arms are read -/
def nmL (T : Nat → Int) (len : Nat) : Nat → Nat → Int → Int × Nat
  | 0, at', v => (v, at')
  | k + 1, at', v => if at' < len ∧ 48 ≤ T at' ∧ T at' ≤ 57 then nmL T len k (at' + 1) (10 * v + T at' - 48) else (v, at')
def nmF (T : Nat → Int) (len at' : Nat) (hi : Int) : Int × Nat := if 1 ≤ (nmL T len 3 at' 0).1 ∧ (nmL T len 3 at' 0).1 ≤ hi then nmL T len 3 at' 0 else (-1, at')
/-- the tape is whole -/
def tpok (s : MS) : Prop := (0 ≤ s 0 108 ∧ s 0 108 ≤ 60) ∧ ∀ i : Nat, (i : Int) < s 0 108 → 32 ≤ s 7 i ∧ s 7 i ≤ 126
theorem nmL_b {T : Nat → Int} {len : Nat} : ∀ (k at' : Nat) (v : Int), 0 ≤ v → at' ≤ len → (v ≤ 99 ∨ k = 0) ∧ (v ≤ 9 ∨ k ≤ 1) ∧ (v ≤ 0 ∨ k ≤ 2) ∧ v ≤ 999 ∧ k ≤ 3 → at' ≤ (nmL T len k at' v).2 ∧ (nmL T len k at' v).2 ≤ len ∧ (nmL T len k at' v).2 ≤ at' + k ∧ 0 ≤ (nmL T len k at' v).1
  | 0, at', v, h, ha, _ => ⟨Nat.le_refl _, ha, Nat.le_refl _, h⟩
  | k + 1, at', v, h, ha, hv => by
    rw [nmL]
    split
    · next e =>
      by_cases q : v ≤ 99
      · by_cases q2 : k ≤ 2
        · have := nmL_b (T := T) (len := len) k (at' + 1) (10 * v + T at' - 48) (by omega) (by omega) (by omega)
          omega
        · have := nmL_b (T := T) (len := len) k (at' + 1) (10 * v + T at' - 48) (by omega) (by omega) (by omega)
          omega
      · omega
    · exact ⟨Nat.le_refl _, ha, by omega, h⟩
theorem nmF_b {T : Nat → Int} {len at' : Nat} {hi : Int} (ha : at' ≤ len) : at' ≤ (nmF T len at' hi).2 ∧ (nmF T len at' hi).2 ≤ len ∧ (nmF T len at' hi).1 ≤ max hi (-1) ∧ -1 ≤ (nmF T len at' hi).1 ∧ ((nmF T len at' hi).1 ≤ 0 → (nmF T len at' hi).2 = at') := by
  have := nmL_b (T := T) (len := len) 3 at' 0 (by omega) ha (by omega)
  unfold nmF
  split
  · omega
  · dsimp only; omega
theorem c_number {d : Nat} {Q : ZQ} {H : ZH} {m : Nat} {s : MS} {at' : Nat} {hi : Int} (hM : MI H m) (ht : tpok s) (h4 : s 0 124 = at') (hal : (at' : Int) ≤ s 0 108) (hh : 0 ≤ hi ∧ hi ≤ 1000)
    (h : Q [zI (nmF (s 7) (s 0 108).toNat at' hi).1] (mput H m (mset s 0 (zupd (s 0) 124 (nmF (s 7) (s 0 108).toNat at' hi).2)))) : zcall ztb (d + 3) mX6_number [zR m, zI hi] (mput H m s) Q := by
  obtain ⟨t1, t2⟩ := ht
  have hb := nmF_b (T := s 7) (len := (s 0 108).toNat) (at' := at') (hi := hi) (by omega)
  have main : ∀ k a : Nat, ∀ v : Int, a + k = at' + 3 ∧ at' ≤ a → (a : Int) ≤ s 0 108 → 0 ≤ v → v ≤ 999 → (v ≤ 99 ∨ k = 0) → (v ≤ 9 ∨ k ≤ 1) → (v ≤ 0 ∨ k ≤ 2) → nmL (s 7) (s 0 108).toNat 3 at' 0 = nmL (s 7) (s 0 108).toNat k a v →
      zwp (zcall ztb (d + 2)) t_X6_number Q 7 [some (zR m), some (zI hi), some (zI at'), some (zI v)] [] (mput H m (mset s 0 (zupd (s 0) 124 a))) := by
    intro k
    induction k with
    | zero =>
      intro a v ha hal2 hv1 hv2 hv3 hv4 hv5 he
      have end1 : (v < 1 ∨ hi < v) → Q [zI (-1)] (mput H m (mset s 0 (zupd (s 0) 124 at'))) := fun e => by
        unfold nmF at h
        rw [he, nmL, if_neg (by dsimp only; omega)] at h; exact h
      have end2 : ¬ (v < 1 ∨ hi < v) → Q [zI v] (mput H m (mset s 0 (zupd (s 0) 124 a))) := fun e => by
        unfold nmF at h
        rw [he, nmL, if_pos (by dsimp only; omega)] at h; exact h
      have eu : mset (mset s 0 (zupd (s 0) 124 a)) 0 (zupd (zupd (s 0) 124 a) 124 at') = mset s 0 (zupd (s 0) 124 at') := by
        rw [mset_mset]; congr 1; funext i; unfold zupd; split <;> rfl
      apply bm_X6_number_7 hM
      simp (disch := omega) only [mse, ude, udn, msn, zw_id, Int.toNat_natCast, mup_mset, eu]
      refine ⟨fun e => ⟨fun e2 => end1 (by omega), fun e2 => ⟨fun e3 => end1 (by omega), fun e3 => end2 (by omega)⟩⟩, fun e => ?_⟩
      have t := t2 a (by omega)
      simp (disch := omega) only [zw_id]
      refine ⟨by omega, fun _ => ⟨fun e2 => end1 (by omega), fun e2 => ⟨fun e3 => end1 (by omega), fun e3 => end2 (by omega)⟩⟩, fun _ => ⟨fun _ => ⟨fun e2 => end1 (by omega), fun e2 => ⟨fun e3 => end1 (by omega), fun e3 => end2 (by omega)⟩⟩, fun _ => ⟨fun _ => ⟨fun e2 => end1 (by omega), fun e2 => ⟨fun e3 => end1 (by omega), fun e3 => end2 (by omega)⟩⟩, fun e4 => absurd (by omega) e4⟩⟩⟩
    | succ k ih =>
      intro a v ha hal2 hv1 hv2 hv3 hv4 hv5 he
      have stop : ¬ (a < (s 0 108).toNat ∧ 48 ≤ s 7 a ∧ s 7 a ≤ 57) → nmL (s 7) (s 0 108).toNat 3 at' 0 = (v, a) := fun e => by rw [he, nmL, if_neg e]
      have end1 : ¬ (a < (s 0 108).toNat ∧ 48 ≤ s 7 a ∧ s 7 a ≤ 57) → (v < 1 ∨ hi < v) → Q [zI (-1)] (mput H m (mset s 0 (zupd (s 0) 124 at'))) := fun e0 e => by
        unfold nmF at h
        rw [stop e0, if_neg (by dsimp only; omega)] at h; exact h
      have end2 : ¬ (a < (s 0 108).toNat ∧ 48 ≤ s 7 a ∧ s 7 a ≤ 57) → ¬ (v < 1 ∨ hi < v) → Q [zI v] (mput H m (mset s 0 (zupd (s 0) 124 a))) := fun e0 e => by
        unfold nmF at h
        rw [stop e0, if_pos (by dsimp only; omega)] at h; exact h
      have eu : ∀ b : Int, mset (mset s 0 (zupd (s 0) 124 a)) 0 (zupd (zupd (s 0) 124 a) 124 b) = mset s 0 (zupd (s 0) 124 b) := fun b => by
        rw [mset_mset]; congr 1; funext i; unfold zupd; split <;> rfl
      apply bm_X6_number_7 hM
      simp (disch := omega) only [mse, ude, udn, msn, zw_id, Int.toNat_natCast, mup_mset, eu]
      refine ⟨fun e => ⟨fun e2 => end1 (by omega) (by omega), fun e2 => ⟨fun e3 => end1 (by omega) (by omega), fun e3 => end2 (by omega) (by omega)⟩⟩, fun e => ?_⟩
      have t := t2 a (by omega)
      simp (disch := omega) only [zw_id]
      refine ⟨by omega, fun _ => ⟨fun e2 => end1 (by omega) (by omega), fun e2 => ⟨fun e3 => end1 (by omega) (by omega), fun e3 => end2 (by omega) (by omega)⟩⟩, fun _ => ⟨fun _ => ⟨fun e2 => end1 (by omega) (by omega), fun e2 => ⟨fun e3 => end1 (by omega) (by omega), fun e3 => end2 (by omega) (by omega)⟩⟩, fun _ => ⟨fun e4 => absurd e4 (by omega), fun _ => ?_⟩⟩⟩
      exact ih (a + 1) (10 * v + s 7 a - 48) (by omega) (by omega) (by omega) (by omega) (by omega) (by omega) (by omega) (by rw [he, nmL, if_pos (by omega)])
  apply bm_X6_number hM
  rw [h4]
  have m0 := main 3 at' 0 ⟨rfl, Nat.le_refl _⟩ hal (by omega) (by omega) (by omega) (by omega) (by omega) rfl
  have e : mset s 0 (zupd (s 0) 124 (at' : Int)) = s := by rw [← h4, upd_self, mset_self]
  rw [e] at m0
  exact m0
/-- the fault (none: -1), how many arms, how wide, how long -/
def rdF (T : Nat → Int) (len : Nat) : Nat → Nat → Nat → (Nat → Int) → (Nat → Int) → Int × Nat × (Nat → Int) × (Nat → Int)
  | 0, at', n, W, K => (at', n, W, K)
  | f + 1, at', n, W, K =>
    if (nmF T len at' 16).1 ≤ 0 then (at', n, W, K)
    else if ¬ ((nmF T len at' 16).2 < len ∧ T (nmF T len at' 16).2 = 120) then ((nmF T len at' 16).2, n, W, K)
    else if (nmF T len ((nmF T len at' 16).2 + 1) 200).1 ≤ 0 then (((nmF T len at' 16).2 + 1 : Nat), n, W, K)
    else if len ≤ (nmF T len ((nmF T len at' 16).2 + 1) 200).2 then (-1, n + 1, zupd W n (nmF T len at' 16).1, zupd K n (nmF T len ((nmF T len at' 16).2 + 1) 200).1)
    else if f = 0 ∨ ¬ T (nmF T len ((nmF T len at' 16).2 + 1) 200).2 = 44 then ((nmF T len ((nmF T len at' 16).2 + 1) 200).2, n + 1, zupd W n (nmF T len at' 16).1, zupd K n (nmF T len ((nmF T len at' 16).2 + 1) 200).1)
    else rdF T len f ((nmF T len ((nmF T len at' 16).2 + 1) 200).2 + 1) (n + 1) (zupd W n (nmF T len at' 16).1) (zupd K n (nmF T len ((nmF T len at' 16).2 + 1) 200).1)
def frR (s s' : MS) : Prop := (∀ k, k ≠ 0 → k ≠ 8 → k ≠ 9 → s' k = s k) ∧ ∀ i, i ≠ 108 → i ≠ 110 → i ≠ 124 → s' 0 i = s 0 i
theorem c_readArms {d : Nat} {Q : ZQ} {H : ZH} {m : Nat} {s : MS} (hM : MI H m) (ht : tpok s)
    (h : ∀ s', frR s s' → s' 0 108 = 0 → s' 0 110 = ((rdF (s 7) (s 0 108).toNat 4 0 0 (s 8) (s 9)).2.1 : Nat) → s' 8 = (rdF (s 7) (s 0 108).toNat 4 0 0 (s 8) (s 9)).2.2.1 → s' 9 = (rdF (s 7) (s 0 108).toNat 4 0 0 (s 8) (s 9)).2.2.2 →
      Q [zI (rdF (s 7) (s 0 108).toNat 4 0 0 (s 8) (s 9)).1] (mput H m s')) : zcall ztb (d + 5) mX6_readArms [zR m] (mput H m s) Q := by
  obtain ⟨t1, t2⟩ := ht
  obtain ⟨len, hlen⟩ := Int.eq_ofNat_of_zero_le t1.1
  rw [hlen, Int.toNat_natCast] at h
  generalize hRR : rdF (s 7) len 4 0 0 (s 8) (s 9) = RR at h
  -- the end: the fault lies at the spot
  have bad : ∀ s' : MS, (∀ k, k ≠ 0 → k ≠ 8 → k ≠ 9 → s' k = s k) → (∀ i, i ≠ 110 → i ≠ 124 → s' 0 i = s 0 i) → RR.1 = s' 0 124 → (RR.2.1 : Int) = s' 0 110 → RR.2.2.1 = s' 8 → RR.2.2.2 = s' 9 →
      ∀ x2 : Int, zwp (zcall ztb (d + 4)) t_X6_readArms Q 14 [some (zR m), some (zI 0), some (zI x2), none, none] [] (mput H m s') := by
    intro s' f1 f2 r1 r2 r3 r4 x2
    apply bm_X6_readArms_14 (d := d + 3) hM
    refine ⟨fun _ => ⟨fun _ => ?_, fun e => absurd rfl e⟩, fun e => absurd (by decide) e⟩
    rw [← r1, mup_mset]
    refine h _ ⟨fun k a b c => ?_, fun i a b c => ?_⟩ ?_ ?_ ?_ ?_
    · rw [msn a]; exact f1 k a b c
    · rw [mse, udn a]; exact f2 i b c
    · rw [mse, ude]
    · rw [mse, udn (by omega), r2]
    · rw [msn (by omega), r3]
    · rw [msn (by omega), r4]
  have good : ∀ s' : MS, (∀ k, k ≠ 0 → k ≠ 8 → k ≠ 9 → s' k = s k) → (∀ i, i ≠ 110 → i ≠ 124 → s' 0 i = s 0 i) → RR.1 = -1 → (RR.2.1 : Int) = s' 0 110 → RR.2.2.1 = s' 8 → RR.2.2.2 = s' 9 →
      zwp (zcall ztb (d + 4)) t_X6_readArms Q 14 [some (zR m), some (zI 1), some (zI 0), none, none] [] (mput H m s') := by
    intro s' f1 f2 r1 r2 r3 r4
    apply bm_X6_readArms_14 (d := d + 3) hM
    refine ⟨fun e => absurd e (by decide), fun _ => ⟨fun _ => ⟨fun e => absurd e (by decide), fun _ => ?_⟩, fun e => absurd (by decide) e⟩⟩
    rw [← r1, mup_mset]
    refine h _ ⟨fun k a b c => ?_, fun i a b c => ?_⟩ ?_ ?_ ?_ ?_
    · rw [msn a]; exact f1 k a b c
    · rw [mse, udn a]; exact f2 i b c
    · rw [mse, ude]
    · rw [mse, udn (by omega), r2]
    · rw [msn (by omega), r3]
    · rw [msn (by omega), r4]
  have main : ∀ f n at' : Nat, n + f = 4 → 0 < f → at' ≤ len → ∀ s' : MS, (∀ k, k ≠ 0 → k ≠ 8 → k ≠ 9 → s' k = s k) → (∀ i, i ≠ 110 → i ≠ 124 → s' 0 i = s 0 i) → s' 0 124 = at' → s' 0 110 = n →
      RR = rdF (s 7) len f at' n (s' 8) (s' 9) →
      zwp (zcall ztb (d + 4)) t_X6_readArms Q 14 [some (zR m), some (zI 1), some (zI 1), none, none] [] (mput H m s') := by
    intro f
    induction f with
    | zero => intro n at' _ h0; omega
    | succ f ih =>
      intro n at' hn _ hal s' f1 f2 h4 h10 hr
      have e7 : s' 7 = s 7 := f1 7 (by omega) (by omega) (by omega)
      have e8 : s' 0 108 = len := by rw [f2 108 (by omega) (by omega), hlen]
      have tk : ∀ s'' : MS, s'' 7 = s 7 → s'' 0 108 = len → tpok s'' := fun s'' a b => by
        unfold tpok; rw [a, b]; exact ⟨by omega, fun i hi => t2 i (by omega)⟩
      have nb1 := nmF_b (T := s 7) (len := len) (at' := at') (hi := 16) hal
      rw [rdF] at hr
      apply bm_X6_readArms_14 (d := d + 3) hM
      refine ⟨fun e => absurd e (by decide), fun _ => ⟨fun e => absurd e (by decide), fun _ => ?_⟩⟩
      refine c_number (d := d + 1) hM (tk s' e7 e8) h4 (by omega) (by omega) ?_
      rw [e7, e8, Int.toNat_natCast]
      have stop : ∀ (s'' : MS) (x3 : Int), (∀ k, k ≠ 0 → k ≠ 8 → k ≠ 9 → s'' k = s k) → (∀ i, i ≠ 110 → i ≠ 124 → s'' 0 i = s 0 i) → RR.1 = s'' 0 124 → (RR.2.1 : Int) = s'' 0 110 → RR.2.2.1 = s'' 8 → RR.2.2.2 = s'' 9 →
          zwp (zcall ztb (d + 4)) t_X6_readArms Q 46 [some (zR m), none, some (zI 1), some (zI x3), none] [] (mput H m s'') := by
        intro s'' x3 g1 g2 g3 g4 g5 g6
        apply bm_X6_readArms_46 (d := d + 3) hM
        apply bm_X6_readArms_78 (d := d + 3) hM
        exact bad s'' g1 g2 g3 g4 g5 g6 1
      have o0 : ∀ v : Int, ∀ k, k ≠ 0 → k ≠ 8 → k ≠ 9 → mset s' 0 (zupd (s' 0) 124 v) k = s k := fun v k a b c => by rw [msn a]; exact f1 k a b c
      have o1 : ∀ v : Int, ∀ i, i ≠ 110 → i ≠ 124 → mset s' 0 (zupd (s' 0) 124 v) 0 i = s 0 i := fun v i a b => by rw [mse, udn b]; exact f2 i a b
      have o4 : ∀ v : Int, mset s' 0 (zupd (s' 0) 124 v) 0 124 = v := fun v => by rw [mse, ude]
      have o10 : ∀ v : Int, mset s' 0 (zupd (s' 0) 124 v) 0 110 = n := fun v => by rw [mse, udn (by omega), h10]
      have o8 : ∀ v : Int, mset s' 0 (zupd (s' 0) 124 v) 0 108 = len := fun v => by rw [mse, udn (by omega), e8]
      have o7 : ∀ v : Int, mset s' 0 (zupd (s' 0) 124 v) 7 = s 7 := fun v => by rw [msn (by omega), e7]
      generalize hr1 : nmF (s 7) len at' 16 = r1 at *
      obtain ⟨w, e1⟩ := r1
      dsimp only at nb1 hr ⊢
      apply bm_X6_readArms_28 (d := d + 3) hM
      simp (disch := omega) only [zw_id, o8, o4]
      refine ⟨fun e => ?_, fun e => ⟨fun e2 => ?_, fun e2 => ?_⟩⟩
      · rw [if_pos e] at hr
        have := nb1.2.2.2.2 e
        refine stop _ w (o0 _) (o1 _) ?_ ?_ ?_ ?_
        · rw [hr, o4, this]
        · rw [hr, o10]
        · rw [hr]; rfl
        · rw [hr]; rfl
      · rw [if_neg e, if_pos (by omega)] at hr
        refine stop _ w (o0 _) (o1 _) ?_ ?_ ?_ ?_
        · rw [hr, o4]
        · rw [hr, o10]
        · rw [hr]; rfl
        · rw [hr]; rfl
      rw [o7, Int.toNat_natCast]
      have t := t2 e1 (by omega)
      simp (disch := omega) only [zw_id]
      refine ⟨by omega, fun e3 => ?_, fun e3 => ?_⟩
      rotate_left
      · rw [if_neg e, if_pos (by omega)] at hr
        refine stop _ w (o0 _) (o1 _) ?_ ?_ ?_ ?_
        · rw [hr, o4]
        · rw [hr, o10]
        · rw [hr]; rfl
        · rw [hr]; rfl
      rw [if_neg e, if_neg (by omega)] at hr
      have eu : mup (mset s' 0 (zupd (s' 0) 124 (e1 : Int))) 0 124 ((e1 : Int) + 1) = mset s' 0 (zupd (s' 0) 124 ((e1 + 1 : Nat) : Int)) := by
        rw [mup_mset, mset_mset, mse]
        congr 1; funext i; unfold zupd
        split
        · omega
        · rfl
      rw [eu]
      have nb2 := nmF_b (T := s 7) (len := len) (at' := e1 + 1) (hi := 200) (by omega)
      refine c_number (d := d + 1) hM (tk _ (o7 _) (o8 _)) (o4 _) (by rw [o8]; omega) (by omega) ?_
      rw [o7, o8, Int.toNat_natCast]
      generalize hr2 : nmF (s 7) len (e1 + 1) 200 = r2 at *
      obtain ⟨k, e2'⟩ := r2
      dsimp only at nb2 hr ⊢
      have eu2 : mset (mset s' 0 (zupd (s' 0) 124 ((e1 + 1 : Nat) : Int))) 0 (zupd (mset s' 0 (zupd (s' 0) 124 ((e1 + 1 : Nat) : Int)) 0) 124 (e2' : Int)) = mset s' 0 (zupd (s' 0) 124 (e2' : Int)) := by
        rw [mset_mset, mse]
        congr 1; funext i; unfold zupd
        split <;> rfl
      rw [eu2]
      apply bm_X6_readArms_59 (d := d + 3) hM
      simp (disch := omega) only [zw_id, o10, Int.toNat_natCast]
      refine ⟨fun e4 => absurd e4 (by decide), fun _ => ⟨fun e4 => ?_, fun e4 => ⟨by omega, by omega, ?_⟩⟩⟩
      · rw [if_pos e4] at hr
        have := nb2.2.2.2.2 e4
        apply bm_X6_readArms_78 (d := d + 3) hM
        refine bad _ (o0 _) (o1 _) ?_ ?_ ?_ ?_ 1
        · rw [hr, o4, this]
        · rw [hr, o10]
        · rw [hr]; rfl
        · rw [hr]; rfl
      rw [if_neg e4] at hr
      -- the state with the arm put down
      generalize hS : mup (mup (mup (mset s' 0 (zupd (s' 0) 124 (e2' : Int))) 8 n w) 9 n k) 0 110 ((n : Int) + 1) = S
      have p0 : ∀ k', k' ≠ 0 → k' ≠ 8 → k' ≠ 9 → S k' = s k' := fun k' a b c => by
        rw [← hS]; simp only [mup_mset]; rw [msn a, msn c, msn b]; exact o0 _ k' a b c
      have p1 : ∀ i, i ≠ 110 → i ≠ 124 → S 0 i = s 0 i := fun i a b => by
        rw [← hS]; simp only [mup_mset]; rw [mse, udn a, msn (by omega), msn (by omega)]; exact o1 _ i a b
      have p4 : S 0 124 = e2' := by
        rw [← hS]; simp only [mup_mset]; rw [mse, udn (by omega), msn (by omega), msn (by omega)]; exact o4 _
      have p10 : S 0 110 = (n + 1 : Nat) := by
        rw [← hS]; simp only [mup_mset]; rw [mse, ude]; omega
      have p8 : S 8 = zupd (s' 8) n w := by
        rw [← hS]; simp only [mup_mset]; rw [msn (by omega), msn (by omega), mse, msn (by omega)]
      have p9 : S 9 = zupd (s' 9) n k := by
        rw [← hS]; simp only [mup_mset]; rw [msn (by omega), mse, msn (by omega), msn (by omega)]
      have p7 : S 7 = s 7 := p0 7 (by omega) (by omega) (by omega)
      have q8 : S 0 108 = len := by rw [p1 108 (by omega) (by omega), hlen]
      rw [p4, p10, q8, o7]
      simp (disch := omega) only [zw_id, Int.toNat_natCast]
      refine ⟨fun e5 => ?_, fun e5 => ⟨fun e6 => ?_, fun e6 => ⟨fun e7' => absurd e7' (by omega), fun _ => ⟨by omega, ?_⟩⟩⟩⟩
      · rw [if_pos (by omega)] at hr
        refine good S p0 p1 ?_ ?_ ?_ ?_
        · rw [hr]
        · rw [hr, p10]
        · rw [hr, p8]
        · rw [hr, p9]
      · rw [if_neg (by omega), if_pos (Or.inl (by omega))] at hr
        refine bad S p0 p1 ?_ ?_ ?_ ?_ 1
        · rw [hr, p4]
        · rw [hr, p10]
        · rw [hr, p8]
        · rw [hr, p9]
      · have t' := t2 e2' (by omega)
        rw [zw_id (by omega) (by omega)]
        refine ⟨fun e8' => ?_, fun e8' => ?_⟩
        · rw [if_neg (by omega), if_neg (by omega)] at hr
          rw [mup_mset]
          refine ih (n + 1) (e2' + 1) (by omega) (by omega) (by omega) _ (fun k' a b c => by rw [msn a]; exact p0 k' a b c) (fun i a b => by rw [mse, udn b]; exact p1 i a b) ?_ ?_ ?_
          · rw [mse, ude]; omega
          · rw [mse, udn (by omega), p10]
          · rw [hr, msn (by omega), msn (by omega), p8, p9]
        · rw [if_neg (by omega), if_pos (Or.inr (by omega))] at hr
          refine bad S p0 p1 ?_ ?_ ?_ ?_ 1
          · rw [hr, p4]
          · rw [hr, p10]
          · rw [hr, p8]
          · rw [hr, p9]
  apply bm_X6_readArms (d := d + 3) hM
  simp only [mup_mset, mse, mset_mset]
  refine main 4 0 0 rfl (by omega) (by omega) _ (fun k a _ _ => msn a) (fun i a b => by rw [mse, udn a, udn b]) ?_ ?_ ?_
  · rw [mse, udn (by omega), ude]; rfl
  · rw [mse, ude]; rfl
  · rw [msn (by omega), msn (by omega), ← hRR]
/-! THE MODEL: a job comes -/
def cmB (G : Nat → Int) (j : Nat) (ac rk pt af n : Int) : Nat → Int :=
  zupd (zupd (zupd (zupd (zupd (zupd (zupd (zupd (zupd (zupd (zupd (zupd (zupd G 1 (G 1 + 1)) (96 + 32 * j) ac) (96 + 32 * j + 1) rk) (96 + 32 * j + 2) pt) (96 + 32 * j + 3) af) (96 + 32 * j + 4) n) (96 + 32 * j + 5) 0) (96 + 32 * j + 6) (-1)) (96 + 32 * j + 7) (-1)) (96 + 32 * j + 8) (-1)) (96 + 32 * j + 9) (-1)) (96 + 32 * j + 10) 0) (96 + 32 * j + 11) (G 0)
def cmN (B : Nat → Int) (j : Nat) (W K : Nat → Int) (n : Nat) : Nat → Int := fun i =>
  if 96 + 32 * j + 12 ≤ i ∧ i < 96 + 32 * j + 12 + n then W (i - (96 + 32 * j + 12)) else if 96 + 32 * j + 16 ≤ i ∧ i < 96 + 32 * j + 16 + n then K (i - (96 + 32 * j + 16))
  else if 96 + 32 * j + 20 ≤ i ∧ i < 96 + 32 * j + 20 + n then -1 else if 96 + 32 * j + 24 ≤ i ∧ i < 96 + 32 * j + 24 + n then -1 else B i
theorem cmN_0 (B : Nat → Int) (j : Nat) (W K : Nat → Int) : cmN B j W K 0 = B := by
  funext i; unfold cmN; rw [if_neg (by omega), if_neg (by omega), if_neg (by omega), if_neg (by omega)]
theorem cmN_s (B : Nat → Int) (j : Nat) (W K : Nat → Int) (n : Nat) (hn : n < 4) : cmN B j W K (n + 1) = zupd (zupd (zupd (zupd (cmN B j W K n) (96 + 32 * j + (12 + n)) (W n)) (96 + 32 * j + (16 + n)) (K n)) (96 + 32 * j + (20 + n)) (-1)) (96 + 32 * j + (24 + n)) (-1) := by
  funext i
  unfold zupd cmN
  by_cases h1 : i = 96 + 32 * j + (24 + n)
  · rw [if_pos h1, if_neg (by omega), if_neg (by omega), if_neg (by omega), if_pos (by omega)]
  · rw [if_neg h1]
    by_cases h2 : i = 96 + 32 * j + (20 + n)
    · rw [if_pos h2, if_neg (by omega), if_neg (by omega), if_pos (by omega)]
    · rw [if_neg h2]
      by_cases h3 : i = 96 + 32 * j + (16 + n)
      · rw [if_pos h3, if_neg (by omega), if_pos (by omega)]
        rw [show i - (96 + 32 * j + 16) = n by omega]
      · rw [if_neg h3]
        by_cases h4 : i = 96 + 32 * j + (12 + n)
        · rw [if_pos h4, if_pos (by omega)]
          rw [show i - (96 + 32 * j + 12) = n by omega]
        · rw [if_neg h4]
          by_cases q1 : 96 + 32 * j + 12 ≤ i ∧ i < 96 + 32 * j + 12 + n
          · rw [if_pos q1, if_pos (by omega)]
          · rw [if_neg q1, if_neg (show ¬ (96 + 32 * j + 12 ≤ i ∧ i < 96 + 32 * j + 12 + (n + 1)) by omega)]
            by_cases q2 : 96 + 32 * j + 16 ≤ i ∧ i < 96 + 32 * j + 16 + n
            · rw [if_pos q2, if_pos (by omega)]
            · rw [if_neg q2, if_neg (show ¬ (96 + 32 * j + 16 ≤ i ∧ i < 96 + 32 * j + 16 + (n + 1)) by omega)]
              by_cases q3 : 96 + 32 * j + 20 ≤ i ∧ i < 96 + 32 * j + 20 + n
              · rw [if_pos q3, if_pos (by omega)]
              · rw [if_neg q3, if_neg (show ¬ (96 + 32 * j + 20 ≤ i ∧ i < 96 + 32 * j + 20 + (n + 1)) by omega)]
                by_cases q4 : 96 + 32 * j + 24 ≤ i ∧ i < 96 + 32 * j + 24 + n
                · rw [if_pos q4, if_pos (by omega)]
                · rw [if_neg q4, if_neg (show ¬ (96 + 32 * j + 24 ≤ i ∧ i < 96 + 32 * j + 24 + (n + 1)) by omega)]
def cmG (G : Nat → Int) (ac rk pt af : Int) (n : Nat) (W K : Nat → Int) : Nat → Int := evF (cmN (cmB G (G 1).toNat ac rk pt af n) (G 1).toNat W K n) 0 (G 1).toNat
theorem cmB_o {G : Nat → Int} {j i : Nat} {ac rk pt af n : Int} (h1 : i ≠ 1) (h2 : i < 96 + 32 * j ∨ 96 + 32 * j + 12 ≤ i) : cmB G j ac rk pt af n i = G i := by
  unfold cmB
  rw [udn (by omega), udn (by omega), udn (by omega), udn (by omega), udn (by omega), udn (by omega), udn (by omega), udn (by omega), udn (by omega), udn (by omega), udn (by omega), udn (by omega), udn h1]
theorem cmN_o {B : Nat → Int} {j : Nat} {W K : Nat → Int} {n i : Nat} (hn : n ≤ 4) (h : i < 96 + 32 * j + 12 ∨ 96 + 32 * j + 28 ≤ i) : cmN B j W K n i = B i := by
  unfold cmN; rw [if_neg (by omega), if_neg (by omega), if_neg (by omega), if_neg (by omega)]
theorem cmG_o {G : Nat → Int} {ac rk pt af : Int} {n : Nat} {W K : Nat → Int} (hg : gok G) (hm : G 1 < 80) (hn : n ≤ 4) {i : Nat} (h : i = 0 ∨ 2 ≤ i ∧ i < 7 ∨ 8 ≤ i ∧ i < 96 + 32 * (G 1).toNat ∨ 96 + 32 * (G 1).toNat + 28 ≤ i ∧ i < 2736 ∨ 2916 ≤ i) : cmG G ac rk pt af n W K i = G i := by
  have hh := hg.1
  unfold hok at hh
  unfold cmG
  rw [evF_o (by rw [cmN_o hn (by omega), cmB_o (by omega) (by omega)]; omega) (by omega), cmN_o hn (by omega), cmB_o (by omega) (by omega)]
theorem cmG_j {G : Nat → Int} {ac rk pt af : Int} {n : Nat} {W K : Nat → Int} (hg : gok G) (hm : G 1 < 80) (hn : n ≤ 4) :
    cmG G ac rk pt af n W K 1 = G 1 + 1 ∧ (0 ≤ cmG G ac rk pt af n W K 7 ∧ cmG G ac rk pt af n W K 7 ≤ 60) ∧
    (cmG G ac rk pt af n W K (96 + 32 * (G 1).toNat) = ac ∧ cmG G ac rk pt af n W K (96 + 32 * (G 1).toNat + 1) = rk ∧ cmG G ac rk pt af n W K (96 + 32 * (G 1).toNat + 2) = pt ∧ cmG G ac rk pt af n W K (96 + 32 * (G 1).toNat + 3) = af ∧
    cmG G ac rk pt af n W K (96 + 32 * (G 1).toNat + 4) = n ∧ cmG G ac rk pt af n W K (96 + 32 * (G 1).toNat + 5) = 0 ∧ cmG G ac rk pt af n W K (96 + 32 * (G 1).toNat + 6) = -1 ∧ cmG G ac rk pt af n W K (96 + 32 * (G 1).toNat + 7) = -1 ∧
    cmG G ac rk pt af n W K (96 + 32 * (G 1).toNat + 8) = -1 ∧ cmG G ac rk pt af n W K (96 + 32 * (G 1).toNat + 9) = -1 ∧ cmG G ac rk pt af n W K (96 + 32 * (G 1).toNat + 10) = 0 ∧ cmG G ac rk pt af n W K (96 + 32 * (G 1).toNat + 11) = G 0) ∧
    ∀ a, a < n → cmG G ac rk pt af n W K (96 + 32 * (G 1).toNat + (12 + a)) = W a ∧ cmG G ac rk pt af n W K (96 + 32 * (G 1).toNat + (16 + a)) = K a ∧ cmG G ac rk pt af n W K (96 + 32 * (G 1).toNat + (20 + a)) = -1 ∧ cmG G ac rk pt af n W K (96 + 32 * (G 1).toNat + (24 + a)) = -1 := by
  have hh := hg.1
  unfold hok at hh
  have b7 : 0 ≤ cmN (cmB G (G 1).toNat ac rk pt af n) (G 1).toNat W K n 7 ∧ cmN (cmB G (G 1).toNat ac rk pt af n) (G 1).toNat W K n 7 ≤ 60 := by rw [cmN_o hn (by omega), cmB_o (by omega) (by omega)]; omega
  have e : ∀ i, i < 7 ∨ 8 ≤ i ∧ i < 2656 → cmG G ac rk pt af n W K i = cmN (cmB G (G 1).toNat ac rk pt af n) (G 1).toNat W K n i := fun i hi => by unfold cmG; rw [evF_o b7 (by omega)]
  have e12 : ∀ w, w < 12 → cmG G ac rk pt af n W K (96 + 32 * (G 1).toNat + w) = cmB G (G 1).toNat ac rk pt af n (96 + 32 * (G 1).toNat + w) := fun w hw => by rw [e _ (by omega), cmN_o hn (by omega)]
  refine ⟨?_, evF_7 b7, ⟨?_, ?_, ?_, ?_, ?_, ?_, ?_, ?_, ?_, ?_, ?_, ?_⟩, fun a ha => ⟨?_, ?_, ?_, ?_⟩⟩
  · rw [e 1 (by omega), cmN_o hn (by omega)]
    unfold cmB
    rw [udn (by omega), udn (by omega), udn (by omega), udn (by omega), udn (by omega), udn (by omega), udn (by omega), udn (by omega), udn (by omega), udn (by omega), udn (by omega), udn (by omega), ude]
  · have := e12 0 (by omega); rw [Nat.add_zero] at this; rw [this]
    unfold cmB
    simp (disch := omega) only [ude, udn]
  all_goals first | (rw [e12 _ (by omega)]; unfold cmB; simp (disch := omega) only [ude, udn]) | skip
  · rw [e _ (by omega)]; unfold cmN; rw [if_pos (by omega), show 96 + 32 * (G 1).toNat + (12 + a) - (96 + 32 * (G 1).toNat + 12) = a by omega]
  · rw [e _ (by omega)]; unfold cmN; rw [if_neg (by omega), if_pos (by omega), show 96 + 32 * (G 1).toNat + (16 + a) - (96 + 32 * (G 1).toNat + 16) = a by omega]
  · rw [e _ (by omega)]; unfold cmN; rw [if_neg (by omega), if_neg (by omega), if_pos (by omega)]
  · rw [e _ (by omega)]; unfold cmN; rw [if_neg (by omega), if_neg (by omega), if_neg (by omega), if_pos (by omega)]
/-- arms that were read -/
def wkok (n : Nat) (W K : Nat → Int) : Prop := 1 ≤ n ∧ n ≤ 4 ∧ ∀ a, a < n → (1 ≤ W a ∧ W a ≤ 16) ∧ (1 ≤ K a ∧ K a ≤ 200)
theorem cmG_gok {G : Nat → Int} {ac rk pt af : Int} {n : Nat} {W K : Nat → Int} (hg : gok G) (hm : G 1 < 80) (hw : wkok n W K) (h1 : 0 ≤ ac ∧ ac ≤ 7) (h2 : 0 ≤ rk ∧ rk ≤ 9) (h3 : 1 ≤ pt ∧ pt ≤ 150) (h4 : -1 ≤ af ∧ af < G 1) : gok (cmG G ac rk pt af n W K) := by
  have hh := hg.1
  obtain ⟨hn1, hn, hwk⟩ := hw
  obtain ⟨m1, m7, ⟨j0, j1, j2, j3, j4, j5, j6, j7, j8, j9, j10, j11⟩, ja⟩ := cmG_j (ac := ac) (rk := rk) (pt := pt) (af := af) (W := W) (K := K) hg hm hn
  have o := fun i h => cmG_o (ac := ac) (rk := rk) (pt := pt) (af := af) (W := W) (K := K) hg hm hn (i := i) h
  unfold hok at hh
  refine ⟨?_, fun k hk => ?_, fun x hx => sok_c (fun w hw => o _ (by omega)) (hg.2.2 x hx)⟩
  · unfold hok
    rw [o 0 (by omega), m1, o 2 (by omega), o 3 (by omega), o 4 (by omega), o 5 (by omega), o 6 (by omega)]
    obtain ⟨a0, a1, a2, a3, a4, a5, a6, a7, a8⟩ := hh
    refine ⟨a0, by omega, a2, a3, a4, a5, a6, m7, fun a ha => ?_⟩
    rw [o (8 + a) (by omega), o (16 + a) (by omega)]; exact a8 a ha
  · rw [m1] at hk
    by_cases e : k = (G 1).toNat
    · subst e
      refine ⟨?_, fun a ha => ?_⟩
      · unfold jok
        rw [j0, j1, j2, j3, j4, j5, j6, j7, j8, j9, j10, j11]
        omega
      · rw [j4] at ha
        obtain ⟨q1, q2, q3, q4⟩ := ja a (by omega)
        have := hwk a (by omega)
        unfold aok
        rw [q1, q2, q3, q4, j5, j9]
        omega
    · obtain ⟨b1, b2⟩ := hg.2.1 k (by omega)
      refine ⟨jok_c (fun w hw => o _ (by omega)) b1, fun a ha => ?_⟩
      rw [o _ (by omega)] at ha
      unfold jok at b1
      exact aok_c (by omega) (fun w hw => o _ (by omega)) (b2 a ha)
theorem cmG_stk {G : Nat → Int} {ac rk pt af : Int} {n : Nat} {W K : Nat → Int} (hg : gok G) (hs : stk G) (hm : G 1 < 80) (hn : n ≤ 4) : stk (cmG G ac rk pt af n W K) := by
  have hh := hg.1
  unfold hok at hh
  obtain ⟨m1, m7, ⟨j0, j1, j2, j3, j4, j5, j6, j7, j8, j9, j10, j11⟩, ja⟩ := cmG_j (ac := ac) (rk := rk) (pt := pt) (af := af) (W := W) (K := K) hg hm hn
  have o := fun i h => cmG_o (ac := ac) (rk := rk) (pt := pt) (af := af) (W := W) (K := K) hg hm hn (i := i) h
  obtain ⟨a1, a2, a3⟩ := hs
  unfold stk
  rw [m1, o 6 (by omega)]
  refine ⟨?_, fun k hk h5 => ?_, fun k hk => ?_⟩
  · rw [show (G 1 + 1).toNat = (G 1).toNat + 1 by omega, sumN, j6, if_neg (by omega), Int.add_zero, a1]
    exact sumN_congr fun k hk => by rw [o _ (by omega)]
  · by_cases e : k = (G 1).toNat
    · subst e; exact j6
    · rw [o _ (by omega)] at h5 ⊢; exact a2 k (by omega) h5
  · rw [o _ (by omega)]; have := a3 k hk; omega
theorem c_comes {d : Nat} {Q : ZQ} {H : ZH} {m : Nat} {s : MS} {ac rk pt af : Int} {n : Nat} (hM : MI H m) (hg : gok (s 1)) (hm : s 1 1 < 80) (h110 : s 0 110 = n) (hn : n ≤ 4)
    (h : Q [zI (s 1 1)] (mput H m (mset s 1 (cmG (s 1) ac rk pt af n (s 8) (s 9))))) : zcall ztb (d + 3) mX6_comes [zR m, zI ac, zI rk, zI pt, zI af] (mput H m s) Q := by
  have hh := hg.1
  unfold hok at hh
  obtain ⟨j, hj⟩ := Int.eq_ofNat_of_zero_le hh.2.1.1
  unfold cmG at h
  rw [hj, Int.toNat_natCast] at h
  have b7 : 0 ≤ cmN (cmB (s 1) j ac rk pt af n) j (s 8) (s 9) n 7 ∧ cmN (cmB (s 1) j ac rk pt af n) j (s 8) (s 9) n 7 ≤ 60 := by rw [cmN_o hn (by omega), cmB_o (by omega) (by omega)]; omega
  have main : ∀ r k : Nat, k + r = n → zwp (zcall ztb (d + 2)) t_X6_comes Q 132 [some (zR m), none, none, none, none, some (zI j), some (zI k)] [] (mput H m (mset s 1 (cmN (cmB (s 1) j ac rk pt af n) j (s 8) (s 9) k))) := by
    intro r
    induction r with
    | zero =>
      intro k hk
      have hk : k = n := by omega
      subst hk
      apply bm_X6_comes_132 (d := d + 1) hM
      simp (disch := omega) only [zw_id, msn, h110]
      refine ⟨fun _ => ?_, fun e => absurd (by omega) e⟩
      refine c_happens (d := d + 1) (s := mset s 1 (cmN (cmB (s 1) j ac rk pt af k) j (s 8) (s 9) k)) hM (by rw [mse]; exact b7) ?_
      rw [mse, mset_mset]
      exact bm_X6_comes_214 (d := d + 1) hM h
    | succ r ih =>
      intro k hk
      have ih := ih (k + 1) (by omega)
      rw [cmN_s _ _ _ _ _ (by omega)] at ih
      apply bm_X6_comes_132 (d := d + 1) hM
      simp (disch := omega) only [zw_id, msn, h110, jx, jxa, Int.reduceToNat, Int.toNat_natCast, mup_mset, mse, mset_mset]
      refine ⟨fun e => absurd e (by omega), fun _ => ⟨by omega, by omega, ?_⟩⟩
      apply bm_X6_comes_159 (d := d + 1) hM
      simp (disch := omega) only [zw_id, msn, jx, jxa, Int.reduceToNat, Int.toNat_natCast, mup_mset, mse, mset_mset]
      refine ⟨by omega, by omega, ?_⟩
      apply bm_X6_comes_177 (d := d + 1) hM
      simp (disch := omega) only [zw_id, msn, jx, jxa, Int.reduceToNat, Int.toNat_natCast, mup_mset, mse, mset_mset]
      exact ⟨by omega, by omega, ih⟩
  have m0 := main n 0 (by omega)
  rw [cmN_0] at m0
  unfold cmB at m0
  apply bm_X6_comes (d := d + 1) hM
  simp (disch := omega) only [hj, jx, Int.reduceToNat, Nat.add_zero, mup_mset, mse, mset_mset]
  refine ⟨by omega, by omega, by omega, by omega, ?_⟩
  apply bm_X6_comes_51 (d := d + 1) hM
  simp (disch := omega) only [hj, h110, msn, jx, Int.reduceToNat, Nat.add_zero, mup_mset, mse, mset_mset]
  refine ⟨by omega, by omega, by omega, by omega, ?_⟩
  apply bm_X6_comes_88 (d := d + 1) hM
  simp (disch := omega) only [hj, h110, msn, jx, Int.reduceToNat, Nat.add_zero, mup_mset, mse, mset_mset, udn]
  rw [hj] at m0
  exact ⟨by omega, by omega, by omega, by omega, m0⟩
/-! THE MODEL: a job's text -/
def apN (s : MS) : List Int → MS
  | [] => s
  | c :: l => apN (mup (mup s 16 (s 0 126).toNat c) 0 126 (s 0 126 + 1)) l
theorem apN_app (s : MS) (l l' : List Int) : apN s (l ++ l') = apN (apN s l) l' := by
  induction l generalizing s with
  | nil => rfl
  | cons c l ih => exact ih _
theorem apN_n (s : MS) (l : List Int) : apN s l 0 126 = s 0 126 + l.length := by
  induction l generalizing s with
  | nil => simp [apN]
  | cons c l ih =>
    rw [apN, ih]
    unfold mup
    simp
    omega
theorem apN_o (s : MS) (l : List Int) : ∀ k i, (k ≠ 0 ∧ k ≠ 16 ∨ k = 0 ∧ i ≠ 126) → apN s l k i = s k i := by
  induction l generalizing s with
  | nil => intro _ _ _; rfl
  | cons c l ih =>
    intro k i h
    rw [apN, ih _ k i h]
    unfold mup
    rcases h with ⟨h1, h2⟩ | ⟨h1, h2⟩
    · rw [if_neg (fun q => h1 q.1), if_neg (fun q => h2 q.1)]
    · rw [if_neg (fun q => h2 q.2), if_neg (fun q => by omega)]
theorem apN_lo (s : MS) (l : List Int) : ∀ i : Nat, (i : Int) < s 0 126 → 0 ≤ s 0 126 → apN s l 16 i = s 16 i := by
  induction l generalizing s with
  | nil => intro _ _ _; rfl
  | cons c l ih =>
    intro i h h0
    have e : (mup (mup s 16 (s 0 126).toNat c) 0 126 (s 0 126 + 1)) 0 126 = s 0 126 + 1 := by unfold mup; simp
    rw [apN, ih _ i (by rw [e]; omega) (by rw [e]; omega)]
    unfold mup
    rw [if_neg (fun q => by omega), if_neg (fun q => by omega)]
theorem apN_i (s : MS) (l : List Int) : ∀ n i : Nat, s 0 126 = n → i < l.length → apN s l 16 (n + i) = l[i]?.getD 0 := by
  induction l generalizing s with
  | nil => intro n i _ h; exact absurd h (by simp)
  | cons c l ih =>
    intro n i hn h
    have e : (mup (mup s 16 (s 0 126).toNat c) 0 126 (s 0 126 + 1)) 0 126 = (n + 1 : Nat) := by unfold mup; simp; omega
    cases i with
    | zero =>
      rw [apN, apN_lo _ _ _ (by rw [e]; omega) (by rw [e]; omega)]
      unfold mup
      rw [if_neg (fun q => by omega), if_pos ⟨rfl, by omega⟩]
      simp
    | succ i =>
      rw [apN, show n + (i + 1) = n + 1 + i by omega, ih _ (n + 1) i e (by simp at h; omega)]
      simp
/-- the figures of a number of k + 1 figures -/
def dgN (v : Int) : Nat → List Int
  | 0 => [48 + v % 10]
  | k + 1 => (48 + v / 10 ^ (k + 1) % 10) :: dgN v k
def lgF (v : Int) : Nat := if v < 10 then 0 else if v < 100 then 1 else if v < 1000 then 2 else if v < 10000 then 3 else if v < 100000 then 4 else 5
def dgF (v : Int) : List Int := dgN v (lgF v)
theorem dgN_l (v : Int) : ∀ k, (dgN v k).length = k + 1
  | 0 => rfl
  | k + 1 => by rw [dgN, List.length_cons, dgN_l v k]
theorem dgF_l (v : Int) : 1 ≤ (dgF v).length ∧ (dgF v).length ≤ 6 := by
  unfold dgF
  rw [dgN_l]
  unfold lgF
  repeat' split
  all_goals omega
theorem p10 (k : Nat) (h : k ≤ 5) : (10 : Int) ^ k = if k = 0 then 1 else if k = 1 then 10 else if k = 2 then 100 else if k = 3 then 1000 else if k = 4 then 10000 else 100000 := by
  rcases (by omega : k = 0 ∨ k = 1 ∨ k = 2 ∨ k = 3 ∨ k = 4 ∨ k = 5) with e | e | e | e | e | e <;> subst e <;> decide
theorem p10b (k : Nat) (h : k ≤ 5) : 1 ≤ (10 : Int) ^ k ∧ (10 : Int) ^ k ≤ 100000 ∧ (1 ≤ k → 10 ≤ (10 : Int) ^ k) := by
  rcases (by omega : k = 0 ∨ k = 1 ∨ k = 2 ∨ k = 3 ∨ k = 4 ∨ k = 5) with e | e | e | e | e | e <;> subst e <;> decide
theorem lg5 (v : Int) : lgF v ≤ 5 := by
  unfold lgF
  repeat' split
  all_goals omega
theorem c_writesNumber {d : Nat} {Q : ZQ} {H : ZH} {m : Nat} {s : MS} {v : Int} (hM : MI H m) (hv : 0 ≤ v ∧ v ≤ 999999) (hn : 0 ≤ s 0 126 ∧ s 0 126 + 6 ≤ 80)
    (h : Q [] (mput H m (apN s (dgF v)))) : zcall ztb (d + 2) mX6_writesNumber [zR m, zI v] (mput H m s) Q := by
  have out : ∀ k : Nat, k ≤ 5 → ∀ s' : MS, 0 ≤ s' 0 126 → s' 0 126 + k + 1 ≤ 80 → Q [] (mput H m (apN s' (dgN v k))) →
      zwp (zcall ztb (d + 1)) t_X6_writesNumber Q 18 [some (zR m), some (zI v), some (zI (10 ^ k))] [] (mput H m s') := by
    intro k
    induction k with
    | zero =>
      intro _ s' h1 h2 hq
      apply bm_X6_writesNumber_18 hM
      refine ⟨fun e => absurd e (by decide), fun _ => ⟨by decide, by omega, ?_⟩⟩
      rw [show ((10 : Int) ^ 0) = 1 from rfl, show zw 1 = 1 from rfl, zw_id (x := v) (by omega) (by omega), Int.tdiv_one, zw_id (x := v) (by omega) (by omega), Int.tmod_eq_emod_of_nonneg hv.1]
      apply bm_X6_writesNumber_18 hM
      exact ⟨fun _ => hq, fun e => absurd (by decide) e⟩
    | succ k ih =>
      intro hk s' h1 h2 hq
      have hp := p10 (k + 1) hk
      have hp2 := p10 k (by omega)
      have h10 := p10b (k + 1) hk
      have hd : Int.tdiv ((10 : Int) ^ (k + 1)) 10 = 10 ^ k := by
        rw [Int.tdiv_eq_ediv_of_nonneg (by omega), Int.pow_succ, Int.mul_ediv_cancel _ (by decide)]
      have hdv : 0 ≤ v / 10 ^ (k + 1) ∧ v / 10 ^ (k + 1) ≤ 999999 := ⟨Int.ediv_nonneg hv.1 (by omega), Int.le_trans (Int.ediv_le_self _ hv.1) hv.2⟩
      apply bm_X6_writesNumber_18 hM
      rw [zw_id (x := (10 : Int) ^ (k + 1)) (by omega) (by omega)]
      refine ⟨fun e => absurd e (by omega), fun _ => ⟨by omega, by omega, ?_⟩⟩
      rw [zw_id (x := v) (by omega) (by omega), Int.tdiv_eq_ediv_of_nonneg hv.1, zw_id (x := v / 10 ^ (k + 1)) (by omega) (by omega), Int.tmod_eq_emod_of_nonneg hdv.1, hd]
      rw [dgN, apN] at hq
      have e : (mup (mup s' 16 (s' 0 126).toNat (48 + v / 10 ^ (k + 1) % 10)) 0 126 (s' 0 126 + 1)) 0 126 = s' 0 126 + 1 := by unfold mup; simp
      exact ih (by omega) _ (by rw [e]; omega) (by rw [e]; omega) hq
  have up : ∀ r k : Nat, k + r = lgF v → zwp (zcall ztb (d + 1)) t_X6_writesNumber Q 2 [some (zR m), some (zI v), some (zI (10 ^ k))] [] (mput H m s) := by
    have hl5 := lg5 v
    intro r
    induction r with
    | zero =>
      intro k hk
      have hp2 := p10 k (by omega)
      have h10 := p10b k (by omega)
      have hlt : v / 10 ^ k < 10 := by
        rw [hp2]
        unfold lgF at hk
        repeat' split
        all_goals (repeat' split at hk)
        all_goals omega
      have hdv : 0 ≤ v / 10 ^ k := Int.ediv_nonneg hv.1 (by omega)
      apply bm_X6_writesNumber_2 hM
      rw [zw_id (x := v) (by omega) (by omega), zw_id (x := (10 : Int) ^ k) (by omega) (by omega), Int.tdiv_eq_ediv_of_nonneg hv.1, zw_id (x := v / 10 ^ k) (by omega) (by omega)]
      refine ⟨by omega, fun _ => out k (by omega) s hn.1 (by omega) ?_, fun e => absurd hlt e⟩
      unfold dgF at h
      rw [show lgF v = k by omega] at h; exact h
    | succ r ih =>
      intro k hk
      have ih := ih (k + 1) (by omega)
      have hp2 := p10 k (by omega)
      have h10 := p10b k (by omega)
      have hge : ¬ v / 10 ^ k < 10 := by
        rw [hp2]
        unfold lgF at hk
        repeat' split
        all_goals (repeat' split at hk)
        all_goals omega
      have hdv : 0 ≤ v / 10 ^ k ∧ v / 10 ^ k ≤ 999999 := ⟨Int.ediv_nonneg hv.1 (by omega), Int.le_trans (Int.ediv_le_self _ hv.1) hv.2⟩
      apply bm_X6_writesNumber_2 hM
      rw [zw_id (x := v) (by omega) (by omega), zw_id (x := (10 : Int) ^ k) (by omega) (by omega), Int.tdiv_eq_ediv_of_nonneg hv.1, zw_id (x := v / 10 ^ k) (by omega) (by omega)]
      refine ⟨by omega, fun e => absurd e hge, fun _ => ?_⟩
      rw [← Int.pow_succ]; exact ih
  exact bm_X6_writesNumber hM (up (lgF v) 0 (by omega))
def armT (G : Nat → Int) (j a : Nat) : List Int := (if 0 < a then [44] else []) ++ (dgF (G (96 + 32 * j + (12 + a))) ++ ([120] ++ dgF (G (96 + 32 * j + (16 + a)))))
def armsT (G : Nat → Int) (j : Nat) : Nat → List Int
  | 0 => []
  | a + 1 => armsT G j a ++ armT G j a
def txtF (G : Nat → Int) (j : Nat) : List Int :=
  ((((dgF j ++ [58, 97]) ++ dgF (G (96 + 32 * j))) ++ [32, 114]) ++ dgF (G (96 + 32 * j + 1))) ++ [32] ++ armsT G j (armd G j) ++ (if G (96 + 32 * j + 6) < 0 then [] else [32, 64] ++ dgF (G (96 + 32 * j + 6)))
theorem dgF_s {v : Int} (h : v < 1000) : (dgF v).length ≤ 3 := by
  unfold dgF
  rw [dgN_l]
  unfold lgF
  repeat' split
  all_goals omega
theorem armsT_l {G : Nat → Int} {j : Nat} (hA : ∀ a : Nat, (a : Int) < G (96 + 32 * j + 4) → aok G j a) : ∀ n : Nat, (n : Int) ≤ G (96 + 32 * j + 4) → (armsT G j n).length ≤ 8 * n
  | 0, _ => by simp [armsT]
  | n + 1, h => by
    have h1 := armsT_l hA n (by omega)
    have h2 := hA n (by omega)
    unfold aok at h2
    have d1 := dgF_s (v := G (96 + 32 * j + (12 + n))) (by omega)
    have d2 := dgF_s (v := G (96 + 32 * j + (16 + n))) (by omega)
    rw [armsT, List.length_append]
    unfold armT
    rw [List.length_append, List.length_append, List.length_append]
    have : (if 0 < n then [(44 : Int)] else []).length ≤ 1 := by split <;> simp
    simp only [List.length_cons, List.length_nil]
    omega

theorem c_text {d : Nat} {Q : ZQ} {H : ZH} {m : Nat} {s : MS} {j : Nat} {i : Int} (hM : MI H m) (hg : gok (s 1)) (hj : (j : Int) < s 1 1) (hi : -1 ≤ i ∧ i ≤ 2147483647)
    (h : ∀ s', (∀ k, k ≠ 0 → k ≠ 16 → s' k = s k) → (∀ q, q ≠ 126 → s' 0 q = s 0 q) → Q [zI (if i < 0 then ((txtF (s 1) j).length : Nat) else if i < ((txtF (s 1) j).length : Nat) then (txtF (s 1) j)[i.toNat]?.getD 0 else -2)] (mput H m s')) :
    zcall ztb (d + 4) mX6_text [zR m, zI j, zI i] (mput H m s) Q := by
  have hh := hg.1
  unfold hok at hh
  obtain ⟨b1, b2⟩ := hg.2.1 j hj
  unfold jok at b1
  generalize hS : mset s 0 (zupd (s 0) 126 0) = S
  have S0 : S 0 126 = 0 := by rw [← hS, mse, ude]
  have S1 : S 1 = s 1 := by rw [← hS]; rfl
  have Sk : ∀ k, k ≠ 0 → k ≠ 16 → S k = s k := fun k a _ => by rw [← hS]; exact msn a
  have Sq : ∀ q, q ≠ 126 → S 0 q = s 0 q := fun q a => by rw [← hS, mse, udn a]
  have w : ∀ l : List Int, apN S l 0 126 = l.length := fun l => by rw [apN_n, S0]; omega
  have w1 : ∀ l : List Int, apN S l 1 = s 1 := fun l => funext fun i => by rw [apN_o _ _ 1 i (by omega), S1]
  have ends : ∀ L : List Int, L.length ≤ 80 → txtF (s 1) j = L → ∀ x3 y, zwp (zcall ztb (d + 3)) t_X6_text Q 168 [some (zR m), some (zI y), some (zI i), some (zI x3)] [] (mput H m (apN S L)) := by
    intro L hl hL x3 y
    rw [hL] at h
    have hq := h (apN S L) (fun k a b => funext fun q => by rw [apN_o _ _ k q (by omega), Sk k a b]) (fun q a => by rw [apN_o _ _ 0 q (by omega)]; exact Sq q a)
    apply bm_X6_text_168 (d := d + 1) hM
    rw [w]
    simp (disch := omega) only [zw_id]
    refine ⟨fun e => ⟨fun e2 => ?_, fun e2 => ⟨by omega, ?_⟩⟩, fun e => ?_⟩
    · rw [if_neg (by omega), if_neg (by omega)] at hq; exact hq
    · rw [if_neg (by omega), if_pos (by omega)] at hq
      have := apN_i S L 0 i.toNat S0 (by omega)
      rw [Nat.zero_add] at this
      rw [this]; exact hq
    · rw [if_pos (by omega)] at hq; exact hq
  have dj := dgF_s (v := (j : Int)) (by omega)
  have da := dgF_s (v := s 1 (96 + 32 * j)) (by omega)
  have dr := dgF_s (v := s 1 (96 + 32 * j + 1)) (by omega)
  have ds := dgF_l (s 1 (96 + 32 * j + 6))
  apply bm_X6_text (d := d + 1) hM
  simp (disch := omega) only [zw_id]
  refine ⟨fun e => absurd e (by omega), fun _ => ⟨fun e => absurd e (by omega), fun _ => ⟨fun _ => ?_, fun e => absurd hi.1 e⟩⟩⟩
  rw [mup_mset, hS]
  refine c_writesNumber (d := d + 1) hM (by omega) (by rw [S0]; omega) ?_
  apply bm_X6_text_25 (d := d + 1) hM
  have e2 : ∀ s : MS, ∀ c1 c2 : Int, (mup (mup (mup (mup s 16 ((s 0 126).toNat) c1) 0 126 ((s 0 126) + 1)) 16 (((mup (mup s 16 ((s 0 126).toNat) c1) 0 126 ((s 0 126) + 1)) 0 126).toNat) c2) 0 126 (((mup (mup s 16 ((s 0 126).toNat) c1) 0 126 ((s 0 126) + 1)) 0 126) + 1)) = apN s [c1, c2] := fun _ _ _ => rfl
  have e1 : ∀ s : MS, ∀ c1 : Int, (mup (mup s 16 ((s 0 126).toNat) c1) 0 126 ((s 0 126) + 1)) = apN s [c1] := fun _ _ => rfl
  rw [e2, e1, ← apN_app, ← apN_app, w, w, show apN S (dgF (j : Int)) 1 = s 1 from w1 _]
  simp (disch := omega) only [jx, Int.reduceToNat, Nat.add_zero]
  simp only [List.length_append, List.length_cons, List.length_nil]
  refine ⟨by omega, by omega, by omega, ?_⟩
  refine c_writesNumber (d := d + 1) (s := apN S (dgF (j : Int) ++ [58, 97])) hM (by omega) (by rw [w, List.length_append]; simp only [List.length_cons, List.length_nil]; omega) ?_
  rw [← apN_app]
  apply bm_X6_text_47 (d := d + 1) hM
  rw [e2, e1, ← apN_app, ← apN_app, w, w, w1]
  simp (disch := omega) only [jx, Int.reduceToNat, Nat.add_zero]
  simp only [List.length_append, List.length_cons, List.length_nil]
  refine ⟨by omega, by omega, by omega, ?_⟩
  refine c_writesNumber (d := d + 1) hM (by omega) (by rw [w]; simp only [List.length_append, List.length_cons, List.length_nil]; omega) ?_
  rw [← apN_app]
  apply bm_X6_text_69 (d := d + 1) hM
  rw [e1, ← apN_app, w]
  simp only [List.length_append, List.length_cons, List.length_nil]
  refine ⟨by omega, ?_⟩
  generalize hP : ((((dgF (j : Int) ++ [58, 97]) ++ dgF (s 1 (96 + 32 * j))) ++ [32, 114]) ++ dgF (s 1 (96 + 32 * j + 1))) ++ [32] = P
  have hPl : P.length ≤ 15 := by rw [← hP]; simp only [List.length_append, List.length_cons, List.length_nil]; omega
  have main : ∀ r a : Nat, (a : Int) + r = s 1 (96 + 32 * j + 4) → zwp (zcall ztb (d + 3)) t_X6_text Q 77 [some (zR m), some (zI j), some (zI i), some (zI a)] [] (mput H m (apN S (P ++ armsT (s 1) j a))) := by
    intro r
    induction r with
    | zero =>
      intro a ha
      have hal := armsT_l b2 a (by omega)
      have hlen : (P ++ armsT (s 1) j a).length ≤ 47 := by rw [List.length_append]; omega
      have ht : txtF (s 1) j = (P ++ armsT (s 1) j a) ++ (if s 1 (96 + 32 * j + 6) < 0 then [] else [32, 64] ++ dgF (s 1 (96 + 32 * j + 6))) := by
        unfold txtF
        rw [hP, show armd (s 1) j = a by unfold armd; omega]
      apply bm_X6_text_77 (d := d + 1) hM
      rw [e2, e1, ← apN_app, ← apN_app, w, w, w1]
      simp (disch := omega) only [jx, Int.reduceToNat, zw_id]
      refine ⟨by omega, fun _ => ⟨by omega, fun e => ?_, fun e => ⟨by omega, ?_, ?_⟩⟩, fun e => absurd e (by omega)⟩
      · rw [if_pos e, List.append_nil] at ht
        rw [ht] at h
        have hq := h (apN S (P ++ armsT (s 1) j a)) (fun k a b => funext fun q => by rw [apN_o _ _ k q (by omega), Sk k a b]) (fun q a => by rw [apN_o _ _ 0 q (by omega)]; exact Sq q a)
        refine ⟨fun e => ⟨fun e2 => ?_, fun e2 => ⟨by omega, ?_⟩⟩, fun e => ?_⟩
        · rw [if_neg (by omega), if_neg (by omega)] at hq; exact hq
        · rw [if_neg (by omega), if_pos (by omega)] at hq
          have := apN_i S (P ++ armsT (s 1) j a) 0 i.toNat S0 (by omega)
          rw [Nat.zero_add] at this
          rw [this]; exact hq
        · rw [if_pos (by omega)] at hq; exact hq
      · rw [List.length_append]; simp only [List.length_cons, List.length_nil]; omega
      · rw [if_neg e] at ht
        refine c_writesNumber (d := d + 1) hM (by omega) (by rw [w, List.length_append]; simp only [List.length_cons, List.length_nil]; omega) ?_
        rw [← apN_app]
        refine ends _ ?_ (by simp only [ht, List.append_assoc]) _ _
        rw [List.length_append, List.length_append]; simp only [List.length_cons, List.length_nil]; omega
    | succ r ih =>
      intro a ha
      have ih := ih (a + 1) (by omega)
      have hal := armsT_l b2 a (by omega)
      have hlen : (P ++ armsT (s 1) j a).length ≤ 39 := by rw [List.length_append]; omega
      have b2 := b2 a (by omega)
      unfold aok at b2
      have d1 := dgF_s (v := s 1 (96 + 32 * j + (12 + a))) (by omega)
      have d2 := dgF_s (v := s 1 (96 + 32 * j + (16 + a))) (by omega)
      rw [armsT] at ih
      have rest : ∀ sep : List Int, sep.length ≤ 1 → sep = (if 0 < a then [44] else []) → zwp (zcall ztb (d + 3)) t_X6_text Q 110 [some (zR m), some (zI j), some (zI i), some (zI a)] [] (mput H m (apN S ((P ++ armsT (s 1) j a ++ sep) ++ dgF (s 1 (96 + 32 * j + (12 + a)))))) := by
        intro sep hsl hsep
        apply bm_X6_text_110 (d := d + 1) hM
        rw [e1, ← apN_app, w, w1]
        simp (disch := omega) only [jx, jxa, Int.reduceToNat]
        have hl2 : (P ++ armsT (s 1) j a ++ sep ++ dgF (s 1 (96 + 32 * j + (12 + a)))).length ≤ 43 := by rw [List.length_append, List.length_append]; omega
        refine ⟨by omega, by omega, ?_⟩
        refine c_writesNumber (d := d + 1) hM (by omega) (by rw [w, List.length_append]; simp only [List.length_cons, List.length_nil]; omega) ?_
        rw [← apN_app]
        apply bm_X6_text_129 (d := d + 1) hM
        have el : (P ++ armsT (s 1) j a ++ sep ++ dgF (s 1 (96 + 32 * j + (12 + a))) ++ [120]) ++ dgF (s 1 (96 + 32 * j + (16 + a))) = P ++ (armsT (s 1) j a ++ armT (s 1) j a) := by
          unfold armT
          rw [← hsep]
          simp only [List.append_assoc]
        rw [el]; exact ih
      apply bm_X6_text_77 (d := d + 1) hM
      rw [e2, e1, ← apN_app, ← apN_app, w, w, w1]
      simp (disch := omega) only [jx, jxa, Int.reduceToNat, zw_id]
      refine ⟨by omega, fun e => absurd e (by omega), fun _ => ⟨fun e => ⟨by omega, ?_⟩, fun e => ⟨by omega, by omega, ?_⟩⟩⟩
      · refine c_writesNumber (d := d + 1) hM (by omega) (by rw [w]; omega) ?_
        have := rest [] (by simp) (by rw [if_neg (by omega)])
        rw [List.append_nil] at this
        rw [← apN_app]; exact this
      · have e1' : mup (mup (apN S (P ++ armsT (s 1) j a)) 16 (((P ++ armsT (s 1) j a).length : Int)).toNat 44) 0 126 (((P ++ armsT (s 1) j a).length : Int) + 1) = apN S (P ++ armsT (s 1) j a ++ [44]) := by
          rw [apN_app S (P ++ armsT (s 1) j a) [44], ← e1, w]
        rw [e1']
        refine c_writesNumber (d := d + 1) hM (by omega) (by rw [w, List.length_append]; simp only [List.length_cons, List.length_nil]; omega) ?_
        rw [← apN_app]
        exact rest [44] (by simp) (by rw [if_pos (by omega)])
  have m0 := main (s 1 (96 + 32 * j + 4)).toNat 0 (by omega)
  rw [armsT, List.append_nil] at m0
  exact m0
/-! THE MODEL: public calls that think -/
def minv (s : MS) : Prop := (tinv (s 1) (s 4) ∧ s 1 0 ≤ 99999) ∧ (tinv (s 3) (s 6) ∧ s 3 0 ≤ 99999) ∧ rest s ∧ tpok s ∧ (∀ i, 3940 ≤ i → s 2 i = 0) ∧ ∀ i, 16 ≤ i → s 5 i = 0
/-- what a call leaves: the row, the sums, how much is taped -/
def pst (s s' : MS) (G U : Nat → Int) (t : Int) : Prop := s' 1 = G ∧ s' 4 = U ∧ s' 3 = s 3 ∧ s' 6 = s 6 ∧ s' 7 = s 7 ∧ rest s' ∧ s' 0 108 = t ∧ (∀ i, 3940 ≤ i → s' 2 i = 0) ∧ ∀ i, 16 ≤ i → s' 5 i = 0
theorem pst_refl {s : MS} (h : minv s) : pst s s (s 1) (s 4) (s 0 108) := ⟨rfl, rfl, rfl, rfl, rfl, h.2.2.1, rfl, h.2.2.2.2.1, h.2.2.2.2.2⟩
theorem pst_fr {s s' : MS} (h : minv s) (f : fr s s') : pst s s' (s' 1) (s' 4) (s 0 108) :=
  ⟨rfl, rfl, f.1 3 (by omega), f.1 6 (by omega), f.1 7 (by omega), fr_rest f h.2.2.1, f.2 108 (by omega) (by omega), by rw [f.1 2 (by omega)]; exact h.2.2.2.2.1, by rw [f.1 5 (by omega)]; exact h.2.2.2.2.2⟩
/-- the state in which it is thought -/
def thS (s : MS) : MS := mset (mset (mset s 2 (s 1)) 5 (s 4)) 1 (thF (s 1))
theorem thS_rest {s : MS} (h : rest s) : rest (thS s) := h
/-- out of a thought -/
theorem c_forg {d : Nat} {Q : ZQ} {H : ZH} {m : Nat} {s s2 : MS} (hM : MI H m) (hi : tinv (s 1) (s 4)) (h21 : ∀ i, 3940 ≤ i → s2 1 i = 0) (h24 : ∀ i, 16 ≤ i → s2 4 i = 0) (f2 : s2 2 = s 1) (f5 : s2 5 = s 4) (f3 : s2 3 = s 3) (f6 : s2 6 = s 6) (f7 : s2 7 = s 7) (fr0 : rest s2)
    (h : ∀ s', pst s s' (s 1) (s 4) (s2 0 108) → (∀ k, k ≠ 1 → k ≠ 4 → s' k = s2 k) → Q [] (mput H m s')) : zcall ztb (d + 2) mX6_forgets [zR m] (mput H m s2) Q := by
  obtain ⟨hg, hs, hU, hC, hT⟩ := hi
  refine c_forgets hM (fun i hi => ?_) (fun i hi => ?_) (h _ ⟨?_, ?_, ?_, ?_, ?_, fr0, rfl, fun i hi => ?_, fun i hi => ?_⟩ (fun k a b => ?_))
  · rw [f2, h21 i hi]; exact (hC i (by omega)).2.2 hi
  · rw [f5, h24 i hi]; exact hT i hi
  · rw [msn (by omega), mse, f2]
  · rw [mse, f5]
  · rw [msn (by omega), msn (by omega), f3]
  · rw [msn (by omega), msn (by omega), f6]
  · rw [msn (by omega), msn (by omega), f7]
  · rw [msn (by omega), msn (by omega), f2]; exact (hC i (by omega)).2.2 hi
  · rw [msn (by omega), msn (by omega), f5]; exact hT i hi
  · rw [msn b, msn a]
noncomputable def fgF (G U : Nat → Int) : Nat → Int := (gsF (thF G) U n300).1
def toldF (v : Int) : Int := if v < 0 then -2 else v
theorem c_foretell {d : Nat} {Q : ZQ} {H : ZH} {m : Nat} {s : MS} {j : Nat} (hM : MI H m) (hi : minv s) (hj : (j : Int) < s 1 1) (hw : s 1 (96 + 32 * j + 5) = 0)
    (h : ∀ s', pst s s' (s 1) (s 4) (s 0 108) → Q [zI (toldF (fgF (s 1) (s 4) (96 + 32 * j + 6)))] (mput H m s')) : zcall ztb (d + 10) mX6_foretell [zR m, zI j] (mput H m s) Q := by
  obtain ⟨⟨ti, tn⟩, ⟨tk, tkn⟩, hr, htp, ht2, ht5⟩ := hi
  have hg := ti.1
  have hh := hg.1
  unfold hok at hh
  obtain ⟨b1, b2⟩ := hg.2.1 j hj
  unfold jok at b1
  have tf := thF_inv ti
  obtain ⟨tg, to, tw⟩ := thF_I hg
  apply bm_X6_foretell (d := d + 7) hM
  simp (disch := omega) only [zw_id, jx, Int.reduceToNat]
  refine ⟨fun e => absurd e (by omega), fun _ => ⟨fun e => absurd e (by omega), fun _ => ⟨by omega, fun e => absurd hw e, fun _ => ?_⟩⟩⟩
  refine c_thinks (d := d + 6) hM hg (fun i hi => ?_) (fun i hi => ?_) ?_
  · rw [ht2 i hi]; exact (ti.2.2.2.1 i (by omega)).2.2 hi
  · rw [ht5 i hi]; exact ti.2.2.2.2 i hi
  apply bm_X6_foretell_25 (d := d + 7) hM
  refine c_goes (d := d) (s := thS s) hM (thS_rest hr) tf (by show thF (s 1) 0 + 300 ≤ 150000; rw [to 0 (by omega)]; omega) (fun s2 f1 f2 f3 => ?_)
  have f2' : s2 1 = fgF (s 1) (s 4) := f2
  have f3' : s2 4 = (gsF (thF (s 1)) (s 4) n300).2 := f3
  obtain ⟨k1, k2, k3⟩ := gsF_I tf n300 (by rw [to 0 (by omega), n300_eq]; omega)
  have kj : (j : Int) < fgF (s 1) (s 4) 1 := by
    show (j : Int) < (gsF _ _ n300).1 1
    rw [k2 1 (by omega) (by omega), to 1 (by omega)]; exact hj
  have kb := (k1.1.2.1 j kj).1
  unfold jok at kb
  apply bm_X6_foretell_29 (d := d + 7) hM
  simp (disch := omega) only [jx, Int.reduceToNat]
  refine ⟨by omega, ?_⟩
  refine c_forg (d := d + 7) (s := s) hM ti (fun i hi => ?_) (fun i hi => ?_) (f1.1 2 (by omega)) (f1.1 5 (by omega)) (f1.1 3 (by omega)) (f1.1 6 (by omega)) (f1.1 7 (by omega)) (fr_rest f1 (thS_rest hr)) (fun s3 p3 _ => ?_)
  · rw [f2']; exact (k1.2.2.2.1 i (by omega)).2.2 hi
  · rw [f3']; exact k1.2.2.2.2 i hi
  have p3' : pst s s3 (s 1) (s 4) (s 0 108) := by
    rw [show s2 0 108 = s 0 108 from f1.2 108 (by omega) (by omega)] at p3; exact p3
  have h := h s3 p3'
  have kb' : -1 ≤ fgF (s 1) (s 4) (96 + 32 * j + 6) ∧ fgF (s 1) (s 4) (96 + 32 * j + 6) ≤ 200000 := kb.2.2.2.2.2.2.1
  apply bm_X6_foretell_41 (d := d + 7) hM
  rw [f2']
  simp (disch := omega) only [zw_id]
  unfold toldF at h
  refine ⟨fun e => ?_, fun e => ?_⟩
  · rw [if_neg (by omega)] at h; exact h
  · rw [if_pos (by omega)] at h; exact h
theorem c_plan {d : Nat} {Q : ZQ} {H : ZH} {m : Nat} {s : MS} {i : Int} (hM : MI H m) (hi : minv s) (hi1 : -1 ≤ i ∧ i ≤ 2147483647)
    (h : ∀ s', pst s s' (s 1) (s 4) (s 0 108) → Q [zI (if i < 0 then fgF (s 1) (s 4) 6 - s 1 6 else if i < fgF (s 1) (s 4) 6 - s 1 6 then fgF (s 1) (s 4) (2656 + (s 1 6).toNat + i.toNat) else -2)] (mput H m s')) : zcall ztb (d + 10) mX6_plan [zR m, zI i] (mput H m s) Q := by
  obtain ⟨⟨ti, tn⟩, ⟨tk, tkn⟩, hr, htp, ht2, ht5⟩ := hi
  have hg := ti.1
  have hh := hg.1
  unfold hok at hh
  have tf := thF_inv ti
  obtain ⟨tg, to, tw⟩ := thF_I hg
  apply bm_X6_plan (d := d + 9) hM
  simp (disch := omega) only [zw_id]
  refine ⟨fun _ => ?_, fun e => absurd hi1.1 e⟩
  refine c_thinks (d := d + 6) hM hg (fun i hi => ?_) (fun i hi => ?_) ?_
  · rw [ht2 i hi]; exact (ti.2.2.2.1 i (by omega)).2.2 hi
  · rw [ht5 i hi]; exact ti.2.2.2.2 i hi
  apply bm_X6_plan_19 (d := d + 9) hM
  refine c_goes (d := d) (s := thS s) hM (thS_rest hr) tf (by show thF (s 1) 0 + 300 ≤ 150000; rw [to 0 (by omega)]; omega) (fun s2 f1 f2 f3 => ?_)
  have f2' : s2 1 = fgF (s 1) (s 4) := f2
  have f3' : s2 4 = (gsF (thF (s 1)) (s 4) n300).2 := f3
  obtain ⟨k1, k2, k3⟩ := gsF_I tf n300 (by rw [to 0 (by omega), n300_eq]; omega)
  have kh := k1.1.1
  unfold hok at kh
  have k6 : 0 ≤ fgF (s 1) (s 4) 6 ∧ fgF (s 1) (s 4) 6 ≤ 80 := kh.2.2.2.2.2.2.1
  have fin : ∀ v x x2 x3 : Int, v = (if i < 0 then fgF (s 1) (s 4) 6 - s 1 6 else if i < fgF (s 1) (s 4) 6 - s 1 6 then fgF (s 1) (s 4) (2656 + (s 1 6).toNat + i.toNat) else -2) →
      zcall ztb (d + 9) mX6_forgets [zR m] (mput H m s2) (fun v_ H_ => zwp (zcall ztb (d + 9)) t_X6_plan Q 69 [some (zR m), some (zI x), some (zI x2), some (zI x3), some (zI v)] (v_ ++ []) H_) := by
    intro v x x2 x3 hv
    refine c_forg (d := d + 7) (s := s) hM ti (fun i hi => ?_) (fun i hi => ?_) (f1.1 2 (by omega)) (f1.1 5 (by omega)) (f1.1 3 (by omega)) (f1.1 6 (by omega)) (f1.1 7 (by omega)) (fr_rest f1 (thS_rest hr)) (fun s3 p3 _ => ?_)
    · rw [f2']; exact (k1.2.2.2.1 i (by omega)).2.2 hi
    · rw [f3']; exact k1.2.2.2.2 i hi
    have p3' : pst s s3 (s 1) (s 4) (s 0 108) := by
      rw [show s2 0 108 = s 0 108 from f1.2 108 (by omega) (by omega)] at p3; exact p3
    apply bm_X6_plan_69 (d := d + 9) hM
    rw [hv]; exact h s3 p3'
  apply bm_X6_plan_23 (d := d + 9) hM
  rw [f2']
  rw [zw_id (x := fgF (s 1) (s 4) 6 - s 1 6) (by omega) (by omega), zw_id (x := i) (by omega) (by omega)]
  refine ⟨fun e => ⟨fun e2 => fin _ _ _ _ ?_, fun e2 => ⟨by omega, fin _ _ _ _ ?_⟩⟩, fun e => fin _ _ _ _ ?_⟩
  · rw [if_neg (by omega), if_neg (by omega)]
  · rw [if_neg (by omega), if_pos (by omega), show (((2656 : Int) + s 1 6) + i).toNat = 2656 + (s 1 6).toNat + i.toNat by omega]
  · rw [if_pos (by omega)]
/-- the row in which a rule is another one -/
noncomputable def brF (G U : Nat → Int) (r v : Int) : Nat → Int := (gsF (zupd (thF G) (2 + r.toNat) v) U n300).1
theorem tinv_rule {G U : Nat → Int} (h : tinv G U) {r v : Int} (hr : 0 ≤ r ∧ r ≤ 2) (hv : 0 ≤ v ∧ (r = 0 → v ≤ 4) ∧ (r = 1 → v ≤ 80) ∧ v ≤ 100) : tinv (zupd G (2 + r.toNat) v) U := by
  obtain ⟨hg, hs, hU, hC, hT⟩ := h
  have hh := hg.1
  have e : ∀ i, i < 2 ∨ 5 ≤ i → zupd G (2 + r.toNat) v i = G i := fun i hi => udn (by omega)
  refine ⟨⟨?_, fun k hk => ?_, fun x hx => sok_c (fun w hw => e _ (by omega)) (hg.2.2 x hx)⟩, stk_c hs (e 1 (by omega)) (e 6 (by omega)) (fun j hj => ⟨e _ (by omega), e _ (by omega)⟩) (fun k hk => e _ (by omega)), fun a ha => ?_, fun i hi => ?_, hT⟩
  · unfold hok at hh ⊢
    rw [e 0 (by omega), e 1 (by omega), e 5 (by omega), e 6 (by omega), e 7 (by omega)]
    obtain ⟨a0, a1, a2, a3, a4, a5, a6, a7, a8⟩ := hh
    refine ⟨a0, a1, ?_, ?_, ?_, a5, a6, a7, fun a ha => ?_⟩
    · unfold zupd; split
      · exact ⟨hv.1, hv.2.1 (by omega)⟩
      · exact a2
    · unfold zupd; split
      · exact ⟨hv.1, hv.2.2.1 (by omega)⟩
      · exact a3
    · unfold zupd; split
      · exact ⟨hv.1, hv.2.2.2⟩
      · exact a4
    · rw [e _ (by omega), e _ (by omega)]; exact a8 a ha
  · rw [e 1 (by omega)] at hk
    obtain ⟨b1, b2⟩ := hg.2.1 k hk
    refine ⟨jok_c (fun w hw => e _ (by omega)) b1, fun a ha => ?_⟩
    rw [e _ (by omega)] at ha
    unfold jok at b1
    exact aok_c (by omega) (fun w hw => e _ (by omega)) (b2 a ha)
  · rw [e 0 (by omega)]; exact hU a ha
  · rw [e i (by omega)]; exact hC i hi
def brW (G : Nat → Int) (had now : Int) (k : Nat) : Int := G (96 + 32 * (G (2656 + had.toNat + k)).toNat + 6) - now
def brM (G : Nat → Int) (had now : Int) : Nat → Int
  | 0 => -2
  | k + 1 => max (brM G had now k) (brW G had now k)
theorem brM_b {G : Nat → Int} {had now : Int} (h : ∀ k : Nat, (k : Int) < G 6 - had → -1000000 ≤ brW G had now k ∧ brW G had now k ≤ 1000000) : ∀ n : Nat, (n : Int) ≤ G 6 - had → -2 ≤ brM G had now n ∧ brM G had now n ≤ 1000000
  | 0, _ => by rw [brM]; omega
  | n + 1, hn => by
    have h1 := brM_b h n (by omega)
    have h2 := h n (by omega)
    rw [brM]; omega
theorem c_byRule {d : Nat} {Q : ZQ} {H : ZH} {m : Nat} {s : MS} {r v what : Int} (hM : MI H m) (hi : minv s) (hr : 0 ≤ r ∧ r ≤ 2) (hv : 0 ≤ v ∧ (r = 0 → v ≤ 4) ∧ (r = 1 → v ≤ 80) ∧ v ≤ 100) (hwh : 0 ≤ what ∧ what ≤ 2)
    (h : ∀ s', pst s s' (s 1) (s 4) (s 0 108) → Q [zI (if what = 0 then brF (s 1) (s 4) r v 6 - s 1 6 else if what = 1 then sumN (brW (brF (s 1) (s 4) r v) (s 1 6) (s 1 0)) (brF (s 1) (s 4) r v 6 - s 1 6).toNat else brM (brF (s 1) (s 4) r v) (s 1 6) (s 1 0) (brF (s 1) (s 4) r v 6 - s 1 6).toNat)] (mput H m s')) :
    zcall ztb (d + 10) mX6_byRule [zR m, zI r, zI v, zI what] (mput H m s) Q := by
  obtain ⟨⟨ti, tn⟩, ⟨tk, tkn⟩, hrs, htp, ht2, ht5⟩ := hi
  have hg := ti.1
  have hh := hg.1
  unfold hok at hh
  obtain ⟨tg, to, tw⟩ := thF_I hg
  have tf := tinv_rule (thF_inv ti) hr hv
  have t0 : zupd (thF (s 1)) (2 + r.toNat) v 0 = s 1 0 := by rw [udn (by omega), to 0 (by omega)]
  obtain ⟨k1, k2, k3⟩ := gsF_I tf n300 (by rw [t0, n300_eq]; omega)
  have kh := k1.1.1
  unfold hok at kh
  generalize hF : brF (s 1) (s 4) r v = F at h
  have hF' : (gsF (zupd (thF (s 1)) (2 + r.toNat) v) (s 4) n300).1 = F := hF
  rw [hF'] at k1 k2 k3 kh
  have k31 : stk F := k1.2.1
  have kW : ∀ k : Nat, (k : Int) < F 6 - s 1 6 → (0 ≤ F (2656 + (s 1 6).toNat + k) ∧ F (2656 + (s 1 6).toNat + k) < F 1) ∧ -1000000 ≤ brW F (s 1 6) (s 1 0) k ∧ brW F (s 1 6) (s 1 0) k ≤ 1000000 := fun k hk => by
    have q := k31.2.2 ((s 1 6).toNat + k) (by omega)
    rw [← Nat.add_assoc] at q
    refine ⟨q, ?_⟩
    have b := (k1.1.2.1 (F (2656 + (s 1 6).toNat + k)).toNat (by omega)).1
    unfold jok at b
    unfold brW
    omega
  have l78 : ∀ s2 : MS, (∀ s3, pst s s3 (s 1) (s 4) (s 0 108) → Q [zI (if what = 0 then F 6 - s 1 6 else if what = 1 then sumN (brW F (s 1 6) (s 1 0)) (F 6 - s 1 6).toNat else brM F (s 1 6) (s 1 0) (F 6 - s 1 6).toNat)] (mput H m s3)) → s2 1 = F → fr (mset (thS s) 1 (zupd (thF (s 1)) (2 + r.toNat) v)) s2 → s2 4 = (gsF (zupd (thF (s 1)) (2 + r.toNat) v) (s 4) n300).2 →
      ∀ q k : Nat, ∀ x7 x8 : Int, ((k : Int) + q = F 6 - s 1 6 ∨ F 6 - s 1 6 < 0 ∧ k = 0) → x7 = sumN (brW F (s 1 6) (s 1 0)) k → x8 = brM F (s 1 6) (s 1 0) k →
      zwp (zcall ztb (d + 9)) t_X6_byRule Q 78 [some (zR m), none, none, some (zI what), some (zI (s 1 6)), some (zI (s 1 0)), some (zI (F 6 - s 1 6)), some (zI x7), some (zI x8), some (zI k), none] [] (mput H m s2) := by
    intro s2 hQ f2 f1 f3
    have fin : ∀ k : Nat, ∀ x7 x8 x9 : Int, k = (F 6 - s 1 6).toNat → x7 = sumN (brW F (s 1 6) (s 1 0)) k → x8 = brM F (s 1 6) (s 1 0) k →
        zcall ztb (d + 9) mX6_forgets [zR m] (mput H m s2) (fun v_ H_ => zwp (zcall ztb (d + 9)) t_X6_byRule Q 136 [some (zR m), none, none, some (zI what), some (zI (s 1 6)), some (zI (s 1 0)), some (zI (F 6 - s 1 6)), some (zI x7), some (zI x8), some (zI x9), none] (v_ ++ []) H_) := by
      intro k x7 x8 x9 hk h7 h8
      refine c_forg (d := d + 7) (s := s) hM ti (fun i hi => ?_) (fun i hi => ?_) (f1.1 2 (by omega)) (f1.1 5 (by omega)) (f1.1 3 (by omega)) (f1.1 6 (by omega)) (f1.1 7 (by omega)) (fr_rest f1 hrs) (fun s3 p3 _ => ?_)
      · rw [f2]; exact (k1.2.2.2.1 i (by omega)).2.2 hi
      · rw [f3]; exact k1.2.2.2.2 i hi
      have p3' : pst s s3 (s 1) (s 4) (s 0 108) := by
        rw [show s2 0 108 = s 0 108 from f1.2 108 (by omega) (by omega)] at p3; exact p3
      have hq := hQ s3 p3'
      rw [← hk, ← h7, ← h8] at hq
      apply bm_X6_byRule_136 (d := d + 7) hM
      simp (disch := omega) only [zw_id]
      refine ⟨fun e => ⟨fun e2 => ?_, fun e2 => ?_⟩, fun e => ?_⟩
      · rw [if_neg e, if_neg e2] at hq; exact hq
      · rw [if_neg e, if_pos (by omega)] at hq; exact hq
      · rw [if_pos (by omega)] at hq; exact hq
    intro q
    induction q with
    | zero =>
      intro k x7 x8 hk h7 h8
      apply bm_X6_byRule_78 (d := d + 7) hM
      rw [zw_id (x := F 6 - s 1 6) (by omega) (by omega), zw_id (x := (k : Int)) (by omega) (by omega)]
      exact ⟨fun _ => fin k x7 x8 _ (by omega) h7 h8, fun e => absurd (by omega) e⟩
    | succ q ih =>
      intro k x7 x8 hk h7 h8
      apply bm_X6_byRule_78 (d := d + 7) hM
      rw [zw_id (x := F 6 - s 1 6) (by omega) (by omega), zw_id (x := (k : Int)) (by omega) (by omega)]
      refine ⟨fun e => fin k x7 x8 _ (by omega) h7 h8, fun e => ?_⟩
      obtain ⟨w1, w2⟩ := kW k (by omega)
      have mb := brM_b (fun k hk => (kW k hk).2) k (by omega)
      obtain ⟨jj, ejj⟩ := Int.eq_ofNat_of_zero_le w1.1
      rw [f2, show (((2656 : Int) + s 1 6) + (k : Int)).toNat = 2656 + (s 1 6).toNat + k by omega]
      have w2' := w2
      unfold brW at w2'
      rw [ejj, Int.toNat_natCast] at w2'
      rw [ejj]
      simp (disch := omega) only [jx, Int.reduceToNat]
      have ew : F (96 + 32 * jj + 6) - s 1 0 = brW F (s 1 6) (s 1 0) k := by unfold brW; rw [ejj, Int.toNat_natCast]
      rw [ew, h8, zw_id (x := brM F (s 1 6) (s 1 0) k) (by omega) (by omega), zw_id (x := brW F (s 1 6) (s 1 0) k) (by omega) (by omega)]
      refine ⟨by omega, by omega, fun e2 => ih (k + 1) _ _ (by omega) ?_ ?_, fun e2 => ih (k + 1) _ _ (by omega) ?_ ?_⟩
      · rw [sumN_s, h7]
      · rw [brM]; omega
      · rw [sumN_s, h7]
      · rw [brM]; omega
  have go : zcall ztb (d + 9) mX6_thinks [zR m] (mput H m s) (fun v_ H_ => zwp (zcall ztb (d + 9)) t_X6_byRule Q 43 [some (zR m), some (zI r), some (zI v), some (zI what), some (zI (s 1 6)), some (zI (s 1 0)), none, none, none, none, none] (v_ ++ []) H_) := by
    refine c_thinks (d := d + 6) hM hg (fun i hi => ?_) (fun i hi => ?_) ?_
    · rw [ht2 i hi]; exact (ti.2.2.2.1 i (by omega)).2.2 hi
    · rw [ht5 i hi]; exact ti.2.2.2.2 i hi
    apply bm_X6_byRule_43 (d := d + 7) hM
    refine ⟨by omega, ?_⟩
    rw [mup_mset, mse, show ((2 : Int) + r).toNat = 2 + r.toNat by omega]
    refine c_goes (d := d) (s := mset (thS s) 1 (zupd (thF (s 1)) (2 + r.toNat) v)) hM hrs (by rw [mse]; exact tf) (by rw [mse, t0]; omega) (fun s2 f1 f2 f3 => ?_)
    rw [mse] at f2 f3
    apply bm_X6_byRule_56 (d := d + 7) hM
    rw [f2]
    rw [show mset (thS s) 1 (zupd (thF (s 1)) (2 + r.toNat) v) 4 = s 4 from rfl, hF']
    have := l78 s2 h (by rw [f2, ← hF']; rfl) f1 f3 (F 6 - s 1 6).toNat 0 0 (-2) (by omega) rfl rfl
    exact this
  apply bm_X6_byRule (d := d + 7) hM
  simp (disch := omega) only [zw_id]
  refine ⟨fun e => ⟨fun e2 => ⟨fun e3 => absurd hr (by omega), fun e3 => ⟨fun e4 => absurd e4 (by omega), fun _ => ⟨fun e4 => absurd e4 (by omega), fun _ => ⟨fun e4 => absurd e4 (by omega), fun _ => ⟨fun e4 => absurd e4 (by omega), fun _ => go⟩⟩⟩⟩⟩, fun e2 => ⟨fun e4 => absurd e4 (by omega), fun _ => ⟨fun e4 => absurd e4 (by omega), fun _ => ⟨fun e4 => absurd e4 (by omega), fun _ => ⟨fun e4 => absurd e4 (by omega), fun _ => go⟩⟩⟩⟩⟩,
    fun e => ⟨fun e4 => absurd e4 (by omega), fun _ => ⟨fun e4 => absurd e4 (by omega), fun _ => ⟨fun e4 => absurd e4 (by omega), fun _ => ⟨fun e4 => absurd e4 (by omega), fun _ => go⟩⟩⟩⟩⟩
/-! THE MODEL: more public calls -/
theorem c_line {d : Nat} {Q : ZQ} {H : ZH} {m : Nat} {s : MS} {i : Int} (hM : MI H m) (hi : minv s) (hi1 : -1 ≤ i ∧ i ≤ 2147483647)
    (h : ∀ s', pst s s' (s 1) (s 4) (s 0 108) → Q [zI (if i < 0 then ((lnF (s 1) (s 4) (s 1 1).toNat).2 : Nat) else if i < ((lnF (s 1) (s 4) (s 1 1).toNat).2 : Nat) then ((lnF (s 1) (s 4) (s 1 1).toNat).1 i.toNat : Nat) else -2)] (mput H m s')) :
    zcall ztb (d + 5) mX6_line [zR m, zI i] (mput H m s) Q := by
  have ti := hi.1.1
  have hh := ti.1.1
  unfold hok at hh
  have nb := lnF_b (s 1) (s 4) (s 1 1).toNat
  apply bm_X6_line (d := d + 4) hM
  simp (disch := omega) only [zw_id]
  refine ⟨fun _ => ?_, fun e => absurd hi1.1 e⟩
  refine c_linesUp (d := d) hM ti.1 (tinv_u ti) (fun A hA => ?_)
  have h := h (mset s 13 A) ⟨rfl, rfl, rfl, rfl, rfl, hi.2.2.1, rfl, hi.2.2.2.2.1, hi.2.2.2.2.2⟩
  apply bm_X6_line_11 (d := d + 4) hM
  rw [zw_id (x := (((lnF (s 1) (s 4) (s 1 1).toNat).2 : Nat) : Int)) (by omega) (by omega), zw_id (x := i) (by omega) (by omega)]
  refine ⟨fun e => ⟨fun e2 => ?_, fun e2 => ⟨by omega, ?_⟩⟩, fun e => ?_⟩
  · rw [if_neg (by omega), if_neg (by omega)] at h; exact h
  · rw [if_neg (by omega), if_pos (by omega)] at h
    rw [mse, hA i.toNat (by omega)]; exact h
  · rw [if_pos (by omega)] at h; exact h
/-- the state in which one job's promise is skipped, its arms to be placed -/
def mvS (G : Nat → Int) (j : Nat) : MS := tkS (sk1 G j) j
theorem fr_skip {s s' : MS} (hi : minv s) (f1 : ∀ k, k = 2 ∨ k = 3 ∨ 5 ≤ k ∧ k ≤ 7 → s' k = s k) (f0 : ∀ i, i ≠ 109 → i ≠ 110 → i ≠ 114 → i ≠ 115 → i ≠ 118 → s' 0 i = s 0 i) (f8 : s' 0 118 = 0) (e1 : s' 1 = s 1) (e4 : s' 4 = s 4) : pst s (mset s' 0 (zupd (zupd (s' 0) 114 (-1)) 115 (-1))) (s 1) (s 4) (s 0 108) := by
  obtain ⟨r1, r2, r3, r4, r5⟩ := hi.2.2.1
  refine ⟨?_, ?_, ?_, ?_, ?_, ⟨?_, ?_, ?_, ?_, ?_⟩, ?_, fun i hi' => ?_, fun i hi' => ?_⟩
  · rw [msn (by omega), e1]
  · rw [msn (by omega), e4]
  · rw [msn (by omega), f1 3 (by omega)]
  · rw [msn (by omega), f1 6 (by omega)]
  · rw [msn (by omega), f1 7 (by omega)]
  · rw [mse, udn (by omega), ude]
  · rw [mse, ude]
  · rw [mse, udn (by omega), udn (by omega), f0 116 (by omega) (by omega) (by omega) (by omega) (by omega), r3]
  · rw [mse, udn (by omega), udn (by omega), f0 117 (by omega) (by omega) (by omega) (by omega) (by omega), r4]
  · rw [mse, udn (by omega), udn (by omega), f8]
  · rw [mse, udn (by omega), udn (by omega), f0 108 (by omega) (by omega) (by omega) (by omega) (by omega)]
  · rw [msn (by omega), f1 2 (by omega)]; exact hi.2.2.2.2.1 i hi'
  · rw [msn (by omega), f1 5 (by omega)]; exact hi.2.2.2.2.2 i hi'
theorem upd1415 {f : Nat → Int} (h : f 115 = -1) : zupd (zupd f 114 (-1)) 115 (-1) = zupd f 114 (-1) := by
  funext i; unfold zupd
  by_cases e : i = 115
  · rw [if_pos e, e, if_neg (by omega), h]
  · rw [if_neg e]
theorem c_moves {d : Nat} {Q : ZQ} {H : ZH} {m : Nat} {s : MS} {j : Nat} (hM : MI H m) (hi : minv s) (hj : (j : Int) < s 1 1) (hw : s 1 (96 + 32 * j + 5) = 0)
    (h : ∀ s', pst s s' (s 1) (s 4) (s 0 108) → Q [zI (fmF (mvS (s 1) j))] (mput H m s')) : zcall ztb (d + 9) mX6_moves [zR m, zI j] (mput H m s) Q := by
  have ti := hi.1.1
  have hg := ti.1
  have hh := hg.1
  unfold hok at hh
  obtain ⟨b1, b2⟩ := hg.2.1 j hj
  unfold jok at b1
  have hr := hi.2.2.1
  obtain ⟨r1, r2, r3, r4, r5⟩ := hr
  generalize hS : mset s 0 (zupd (s 0) 114 j) = S
  have S0 : ∀ i, i ≠ 114 → S 0 i = s 0 i := fun i h => by rw [← hS, mse, udn h]
  have S114 : S 0 114 = j := by rw [← hS, mse, ude]
  have Sk : ∀ k, k ≠ 0 → S k = s k := fun k h => by rw [← hS, msn h]
  have S1 : S 1 = s 1 := Sk 1 (by omega)
  have sk : skok (tkS S j) := by
    unfold skok
    rw [tkS_k _ _ _ (by omega) (by omega), tkS_k _ _ _ (by omega) (by omega), tkS_k _ _ _ (by omega) (by omega), tkS_k _ _ _ (by omega) (by omega), tkS_k _ _ _ (by omega) (by omega), S114, S0 115 (by omega), S0 116 (by omega), S0 117 (by omega), S0 118 (by omega), r2, r3, r4, r5]
    exact ⟨by omega, by omega, by omega, by omega, by omega, fun k hk => by omega⟩
  have ham := tkS_am (s := S) (j := j) (by rw [S1]; exact hg) (by rw [S1]; exact hj)
  have hps : psame (tkS S j) (mvS (s 1) j) := tk_same2 S1 (by rw [S114]; rfl) (by rw [S0 115 (by omega), r2]; rfl) (by rw [S0 116 (by omega), r3]; rfl) (by rw [S0 117 (by omega), r4]; rfl) (by rw [S0 118 (by omega), r5]; rfl) (fun k hk => by rw [S0 118 (by omega), r5] at hk; omega)
  have hfm : fmF (tkS S j) = fmF (mvS (s 1) j) := by
    have ha : ∀ a b, amF (tkS S j) a b = amF (mvS (s 1) j) a b := fun a b => by
      have hp2 : psame (amS (tkS S j) a b) (amS (mvS (s 1) j) a b) := by
        obtain ⟨p1, ⟨p2, p3, p4, p5, p6, p7, p8⟩, p9, p10⟩ := hps
        have e : ∀ (s : MS) i, i ≠ 116 → i ≠ 117 → amS s a b 0 i = s 0 i := fun s i h1 h2 => by unfold amS; rw [mse, udn h2, udn h1]
        have e6 : ∀ s : MS, amS s a b 0 116 = a := fun s => by unfold amS; rw [mse, udn (by omega), ude]
        have e7 : ∀ s : MS, amS s a b 0 117 = b := fun s => by unfold amS; rw [mse, ude]
        unfold psame
        rw [e _ 109 (by omega) (by omega), e _ 109 (by omega) (by omega), e _ 110 (by omega) (by omega), e _ 110 (by omega) (by omega), e _ 114 (by omega) (by omega), e _ 114 (by omega) (by omega), e _ 115 (by omega) (by omega), e _ 115 (by omega) (by omega), e6, e6, e7, e7, e _ 118 (by omega) (by omega), e _ 118 (by omega) (by omega)]
        exact ⟨p1, ⟨p2, p3, p4, p5, rfl, rfl, p8⟩, p9, p10⟩
      have hf := fitOK_same hp2 (show 0 ≤ amS (tkS S j) a b 0 110 by unfold amS; rw [mse, udn (by omega), udn (by omega)]; exact ham.2.1.1)
      have hb := bz_same hp2
      have e1 : amS (tkS S j) a b 1 = amS (mvS (s 1) j) a b 1 := hp2.1
      have hel : elsC (amS (tkS S j) a b) = elsC (amS (mvS (s 1) j) a b) := by funext n p; unfold elsC; rw [hb, e1]
      have hfb : fbF (amS (tkS S j) a b) = fbF (amS (mvS (s 1) j) a b) := by
        funext t c
        unfold fbF
        rw [(hf t).2, ← hp2.2.1.2.1]
        have h0 : 0 ≤ amS (tkS S j) a b 0 110 := by unfold amS; rw [mse, udn (by omega), udn (by omega)]; exact ham.2.1.1
        exact anyN_congr fun k hk => by rw [(hp2.2.2.1 k (by omega)).1]
      unfold amF mvF mvG mvB
      rw [e1, (hf _).1, hel, hfb]
      have e6 : ∀ s : MS, amS s a b 0 116 = a := fun s => by unfold amS; rw [mse, udn (by omega), ude]
      have e7 : ∀ s : MS, amS s a b 0 117 = b := fun s => by unfold amS; rw [mse, ude]
      rw [e6, e6, e7, e7]
    unfold fmF
    simp only [ha]
    rw [hps.1]
  apply bm_X6_moves (d := d + 5) hM
  simp (disch := omega) only [zw_id, jx, Int.reduceToNat]
  refine ⟨fun e => absurd e (by omega), fun _ => ⟨fun e => absurd e (by omega), fun _ => ⟨by omega, fun e => absurd hw e, fun _ => ?_⟩⟩⟩
  rw [mup_mset, hS]
  refine c_takes (d := d + 6) hM (by rw [S1]; exact hg) (by rw [S1]; exact hj) ?_
  apply bm_X6_moves_24 (d := d + 5) hM
  refine c_fewestMoves (d := d) (s := tkS S j) hM (by rw [tkS_1, S1]; exact hg) sk ham (by rw [tkS_k _ _ _ (by omega) (by omega), S0 116 (by omega), r3]) (by rw [tkS_k _ _ _ (by omega) (by omega), S0 117 (by omega), r4]) (fun f => ?_)
  apply bm_X6_moves_28 (d := d + 5) hM
  rw [hfm, mup_mset]
  have o : ∀ k, k ≠ 0 → k ≠ 8 → k ≠ 9 → k ≠ 10 → mset (tkS S j) 10 f k = s k := fun k a b c e => by rw [msn e, tkS_o a b c, Sk k a]
  have q : ∀ i, i ≠ 109 → i ≠ 110 → i ≠ 114 → mset (tkS S j) 10 f 0 i = s 0 i := fun i a b c => by rw [msn (by omega), tkS_k _ _ _ a b, S0 i c]
  have fs := fr_skip (s' := mset (tkS S j) 10 f) hi (fun k hk => o k (by omega) (by omega) (by omega) (by omega)) (fun i a b c _ _ => q i a b c) (by rw [q 118 (by omega) (by omega) (by omega), r5]) (o 1 (by omega) (by omega) (by omega) (by omega)) (o 4 (by omega) (by omega) (by omega) (by omega))
  rw [upd1415 (by rw [q 115 (by omega) (by omega) (by omega), r2])] at fs
  exact h _ fs
theorem c_orders {d : Nat} {Q : ZQ} {H : ZH} {m : Nat} {s : MS} {j : Nat} {t : Int} (hM : MI H m) (hi : minv s) (hj : (j : Int) < s 1 1) (hw : s 1 (96 + 32 * j + 5) = 0) (ht : s 1 0 ≤ t ∧ t ≤ s 1 0 + 20000)
    (h : ∀ s', pst s s' (s 1) (s 4) (s 0 108) → Q [zI (wyF (mvS (s 1) j) t (armd (s 1) j) (fun _ => false) (fun _ => false))] (mput H m s')) : zcall ztb (d + 9) mX6_orders [zR m, zI j, zI t] (mput H m s) Q := by
  have ti := hi.1.1
  have hg := ti.1
  have hh := hg.1
  unfold hok at hh
  obtain ⟨b1, b2⟩ := hg.2.1 j hj
  unfold jok at b1
  have hr := hi.2.2.1
  obtain ⟨r1, r2, r3, r4, r5⟩ := hr
  generalize hS : mset s 0 (zupd (s 0) 114 j) = S
  have S0 : ∀ i, i ≠ 114 → S 0 i = s 0 i := fun i h => by rw [← hS, mse, udn h]
  have S114 : S 0 114 = j := by rw [← hS, mse, ude]
  have Sk : ∀ k, k ≠ 0 → S k = s k := fun k h => by rw [← hS, msn h]
  have S1 : S 1 = s 1 := Sk 1 (by omega)
  have sk : skok (tkS S j) := by
    unfold skok
    rw [tkS_k _ _ _ (by omega) (by omega), tkS_k _ _ _ (by omega) (by omega), tkS_k _ _ _ (by omega) (by omega), tkS_k _ _ _ (by omega) (by omega), tkS_k _ _ _ (by omega) (by omega), S114, S0 115 (by omega), S0 116 (by omega), S0 117 (by omega), S0 118 (by omega), r2, r3, r4, r5]
    exact ⟨by omega, by omega, by omega, by omega, by omega, fun k hk => by omega⟩
  have ham := tkS_am (s := S) (j := j) (by rw [S1]; exact hg) (by rw [S1]; exact hj)
  have hps : psame (tkS S j) (mvS (s 1) j) := tk_same2 S1 (by rw [S114]; rfl) (by rw [S0 115 (by omega), r2]; rfl) (by rw [S0 116 (by omega), r3]; rfl) (by rw [S0 117 (by omega), r4]; rfl) (by rw [S0 118 (by omega), r5]; rfl) (fun k hk => by rw [S0 118 (by omega), r5] at hk; omega)
  have h110 : tkS S j 0 110 = s 1 (96 + 32 * j + 4) := by rw [tkS_110, S1]
  have hwy : ∀ f pl own, wyF (tkS S j) t f pl own = wyF (mvS (s 1) j) t f pl own := by
    have hb := bz_same hps
    intro f
    induction f with
    | zero => intro _ _; rfl
    | succ f ih =>
      intro pl own
      rw [wyF, wyF, hb, ← hps.2.1.2.1, ← hps.2.1.1]
      refine sumN_congr fun a ha => ?_
      have := hps.2.2.1 a (by omega)
      rw [this.1, this.2, ih]
  have fin : ∀ x2 : Int, zwp (zcall ztb (d + 8)) t_X6_orders Q 64 [some (zR m), none, some (zI x2), none] [zI (wyF (mvS (s 1) j) t (armd (s 1) j) (fun _ => false) (fun _ => false))] (mput H m (tkS S j)) := by
    intro x2
    apply bm_X6_orders_64 (d := d + 6) hM
    rw [mup_mset]
    have o : ∀ k, k ≠ 0 → k ≠ 8 → k ≠ 9 → tkS S j k = s k := fun k a b c => by rw [tkS_o a b c, Sk k a]
    have q : ∀ i, i ≠ 109 → i ≠ 110 → i ≠ 114 → tkS S j 0 i = s 0 i := fun i a b c => by rw [tkS_k _ _ _ a b, S0 i c]
    have fs := fr_skip (s' := tkS S j) hi (fun k hk => o k (by omega) (by omega) (by omega)) (fun i a b c _ _ => q i a b c) (by rw [q 118 (by omega) (by omega) (by omega), r5]) (o 1 (by omega) (by omega) (by omega)) (o 4 (by omega) (by omega) (by omega))
    rw [upd1415 (by rw [q 115 (by omega) (by omega) (by omega), r2])] at fs
    exact h _ fs
  apply bm_X6_orders (d := d + 6) hM
  simp (disch := omega) only [zw_id, jx, Int.reduceToNat]
  refine ⟨fun e => absurd e (by omega), fun _ => ⟨fun e => absurd e (by omega), fun _ => ⟨fun e => absurd e (by omega), fun _ => ⟨fun e => absurd e (by omega), fun _ => ⟨by omega, fun e => absurd hw e, fun _ => ?_⟩⟩⟩⟩⟩
  rw [mup_mset, hS]
  refine c_takes (d := d + 6) hM (by rw [S1]; exact hg) (by rw [S1]; exact hj) ?_
  apply bm_X6_orders_57 (d := d + 6) hM
  have na : armd (s 1) j ≤ 4 := by unfold armd; omega
  obtain ⟨k, hk⟩ := Nat.exists_eq_add_of_le na
  have := c_ways (H := H) (m := m) hM (armd (s 1) j) (d + k) (Q := fun v_ H_ => zwp (zcall ztb (d + 8)) t_X6_orders Q 64 [some (zR m), none, some (zI t), none] (v_ ++ []) H_) (s := tkS S j) (t := t) (pl := fun _ => false) (own := fun _ => false) (by rw [tkS_1, S1]; exact hg) sk ham (by omega) (fun a ha => by cases ha) (by rw [cntN_none, h110]; unfold armd; omega) (by
    rw [hwy]; exact fin t)
  rw [cset_none, show d + k + armd (s 1) j + 4 = d + 8 by omega] at this
  exact this
/-! THE MODEL: still more public calls -/
theorem c_together {d : Nat} {Q : ZQ} {H : ZH} {m : Nat} {s : MS} {a b : Nat} (hM : MI H m) (hi : minv s) (ha : (a : Int) < s 1 1) (hb : (b : Int) < s 1 1) (hab : a ≠ b) (hwa : s 1 (96 + 32 * a + 5) = 0) (hwb : s 1 (96 + 32 * b + 5) = 0)
    (h : ∀ s', pst s s' (s 1) (s 4) (s 0 108) → Q [zI ((if bothF (s 1) a b a b = true then 1 else 0) + (if bothF (s 1) b a a b = true then 2 else 0))] (mput H m s')) : zcall ztb (d + 7) mX6_together [zR m, zI a, zI b] (mput H m s) Q := by
  have ti := hi.1.1
  have hg := ti.1
  have hh := hg.1
  unfold hok at hh
  obtain ⟨b1, _⟩ := hg.2.1 a ha
  obtain ⟨b2, _⟩ := hg.2.1 b hb
  unfold jok at b1 b2
  obtain ⟨r1, r2, r3, r4, r5⟩ := hi.2.2.1
  generalize hS : mset s 0 (zupd (zupd (s 0) 114 a) 115 b) = S
  have S0 : ∀ i, i ≠ 114 → i ≠ 115 → S 0 i = s 0 i := fun i h h2 => by rw [← hS, mse, udn h2, udn h]
  have S4 : S 0 114 = a := by rw [← hS, mse, udn (by omega), ude]
  have S5 : S 0 115 = b := by rw [← hS, mse, ude]
  have Sk : ∀ k, k ≠ 0 → S k = s k := fun k h => by rw [← hS, msn h]
  have S1 : S 1 = s 1 := Sk 1 (by omega)
  have zb : ∀ v : Bool, zw (if v = true then 1 else 0) = 0 ↔ v = false := fun v => by cases v <;> simp <;> decide
  apply bm_X6_together (d := d + 4) hM
  simp (disch := omega) only [zw_id, jx, Int.reduceToNat]
  refine ⟨fun e => absurd e (by omega), fun _ => ⟨fun e => absurd e (by omega), fun _ => ⟨fun e => absurd e (by omega), fun _ => ⟨fun e => absurd e (by omega), fun _ => ⟨fun _ => ⟨by omega, fun e => absurd hwa e, fun _ => ⟨by omega, fun e => absurd hwb e, fun _ => ?_⟩⟩, fun e => absurd (by omega) e⟩⟩⟩⟩⟩
  rw [show mup (mup s 0 114 a) 0 115 b = S by rw [mup_mset, mup_mset, mset_mset, mse]; exact hS]
  refine c_fitBoth (d := d) (s := S) (p := a) (q := b) hM (by rw [S1]; exact hg) (by rw [S1]; exact ha) (by rw [S1]; exact hb) S4 S5 (by omega) (by omega) (by rw [S0 116 (by omega) (by omega), r3]) (by rw [S0 117 (by omega) (by omega), r4]) (by rw [S0 118 (by omega) (by omega), r5]) (fun s2 f2 f28 => ?_)
  rw [S1]
  have two : ∀ v : Int, v = (if bothF (s 1) a b a b = true then 1 else 0) → zcall ztb (d + 6) mX6_fitBoth [zR m, zI b, zI a] (mput H m s2) (fun v_ H_ => zwp (zcall ztb (d + 6)) t_X6_together Q 72 [some (zR m), some (zI a), some (zI b), none] (v_ ++ [zI v]) H_) := by
    intro v hv
    have e1 : s2 1 = s 1 := by rw [f2.1 1 (by omega), S1]
    refine c_fitBoth (d := d) (s := s2) (p := a) (q := b) hM (by rw [e1]; exact hg) (by rw [e1]; exact hb) (by rw [e1]; exact ha) (by rw [f2.2 114 (by omega) (by omega) (by omega), S4]) (by rw [f2.2 115 (by omega) (by omega) (by omega), S5]) (by omega) (by omega) (by rw [f2.2 116 (by omega) (by omega) (by omega), S0 116 (by omega) (by omega), r3]) (by rw [f2.2 117 (by omega) (by omega) (by omega), S0 117 (by omega) (by omega), r4]) f28 (fun s3 f3 f38 => ?_)
    rw [e1]
    have fs := fr_skip (s' := s3) hi (fun k hk => by rw [f3.1 k (by omega), f2.1 k (by omega), Sk k (by omega)]) (fun i i1 i2 i3 i4 i5 => by rw [f3.2 i i1 i2 i5, f2.2 i i1 i2 i5, S0 i i3 i4]) f38 (by rw [f3.1 1 (by omega), e1]) (by rw [f3.1 4 (by omega), f2.1 4 (by omega), Sk 4 (by omega)])
    have h := h _ fs
    apply bm_X6_together_72 (d := d + 4) hM
    simp only [zb]
    rw [show mup (mup s3 0 114 (-1)) 0 115 (-1) = mset s3 0 (zupd (zupd (s3 0) 114 (-1)) 115 (-1)) by rw [mup_mset, mup_mset, mset_mset, mse]]
    rw [← hv] at h
    refine ⟨fun e => ?_, fun e => ?_⟩
    · rw [if_neg (show ¬ bothF (s 1) b a a b = true by rw [e]; decide)] at h; exact h
    · rw [if_pos (show bothF (s 1) b a a b = true by simpa using e)] at h; exact h
  apply bm_X6_together_58 (d := d + 4) hM
  simp only [zb]
  refine ⟨fun e => two 0 (by rw [e]; rfl), fun e => two 1 (by rw [(by simpa using e : bothF (s 1) a b a b = true)]; rfl)⟩
/-- how many columns are free, how long the longest run -/
def hlF (p : Nat → Bool) : Nat → Int × Int × Int
  | 0 => (0, 0, 0)
  | c + 1 => if p c = false then ((hlF p c).1 + 1, (hlF p c).2.1 + 1, max (hlF p c).2.2 ((hlF p c).2.1 + 1)) else ((hlF p c).1, 0, max (hlF p c).2.2 0)
theorem hlF_b (p : Nat → Bool) : ∀ c, 0 ≤ (hlF p c).1 ∧ (hlF p c).1 ≤ c ∧ 0 ≤ (hlF p c).2.1 ∧ (hlF p c).2.1 ≤ c ∧ 0 ≤ (hlF p c).2.2 ∧ (hlF p c).2.2 ≤ c
  | 0 => by simp [hlF]
  | c + 1 => by
    have ih := hlF_b p c
    rw [hlF]
    split <;> (dsimp only; omega)
theorem c_holes {d : Nat} {Q : ZQ} {H : ZH} {m : Nat} {s : MS} {t n what : Int} (hM : MI H m) (hi : minv s) (ht : s 1 0 ≤ t ∧ t ≤ 2147483647) (hn : 1 ≤ n ∧ n ≤ 500) (hw : 0 ≤ what ∧ what ≤ 1)
    (h : Q [zI (if what = 0 then (hlF (bz s t (t + n) (-2)) 16).1 else (hlF (bz s t (t + n) (-2)) 16).2.2)] (mput H m s)) : zcall ztb (d + 4) mX6_holes [zR m, zI t, zI n, zI what] (mput H m s) Q := by
  have ti := hi.1.1
  have hg := ti.1
  have hh := hg.1
  unfold hok at hh
  have main : ∀ r c : Nat, c + r = 16 → zwp (zcall ztb (d + 3)) t_X6_holes Q 61 [none, none, none, some (zI what), some (zI (cset (bz s t (t + n) (-2)))), some (zI (hlF (bz s t (t + n) (-2)) c).1), some (zI (hlF (bz s t (t + n) (-2)) c).2.1), some (zI (hlF (bz s t (t + n) (-2)) c).2.2), some (zI c), none] [] (mput H m s) := by
    intro r
    induction r with
    | zero =>
      intro c hc
      have hc : c = 16 := by omega
      subst hc
      apply bm_X6_holes_61 (d := d + 2) hM
      simp (disch := omega) only [zw_id]
      refine ⟨fun _ => ⟨fun e => ?_, fun e => ?_⟩, fun e => absurd (by decide) e⟩
      · rw [if_neg e] at h; exact h
      · rw [if_pos (by omega)] at h; exact h
    | succ r ih =>
      intro c hc
      have ih := ih (c + 1) (by omega)
      have hb := hlF_b (bz s t (t + n) (-2)) c
      rw [hlF] at ih
      apply bm_X6_holes_61 (d := d + 2) hM
      simp (disch := omega) only [zw_id, csz]
      refine ⟨fun e => absurd e (by omega), fun _ => ⟨fun e => ⟨fun e2 => ?_, fun e2 => ?_⟩, fun e => ⟨fun e2 => ?_, fun e2 => ?_⟩⟩⟩
      · omega
      · rw [if_neg e] at ih
        rw [show max (hlF (bz s t (t + n) (-2)) c).2.2 0 = (hlF (bz s t (t + n) (-2)) c).2.2 by omega] at ih
        rw [Int.add_zero]; exact ih
      · rw [if_pos (by simpa using e)] at ih
        rw [show max (hlF (bz s t (t + n) (-2)) c).2.2 ((hlF (bz s t (t + n) (-2)) c).2.1 + 1) = (hlF (bz s t (t + n) (-2)) c).2.1 + 1 by omega] at ih
        exact ih
      · rw [if_pos (by simpa using e)] at ih
        rw [show max (hlF (bz s t (t + n) (-2)) c).2.2 ((hlF (bz s t (t + n) (-2)) c).2.1 + 1) = (hlF (bz s t (t + n) (-2)) c).2.2 by omega] at ih
        exact ih
  apply bm_X6_holes (d := d + 2) hM
  simp (disch := omega) only [zw_id]
  refine ⟨fun e => absurd e (by omega), fun _ => ⟨fun e => absurd e (by omega), fun _ => ⟨fun e => absurd e (by omega), fun _ => ⟨fun e => absurd e (by omega), fun _ => ⟨fun e => absurd e (by omega), fun _ => ?_⟩⟩⟩⟩⟩
  refine c_busy (d := d) hM hg (rest_sk hi.2.2.1) (by omega) (by omega) (by omega) ?_
  apply bm_X6_holes_47 (d := d + 2) hM
  exact main 16 0 rfl
def heldAll (G : Nat → Int) : Int := sumN (fun a => heldF G a) 8
def promN (G : Nat → Int) : Int := sumN (fun j => if 0 ≤ G (96 + 32 * j + 9) then 1 else 0) (G 1).toNat
def cntF (s : MS) (what : Int) : Int :=
  if what = 0 then s 1 1 else if what = 1 then theseF (s 1) 0 else if what = 2 then theseF (s 1) 1 else if what = 3 then spansF (s 1) else if what = 4 then heldAll (s 1) else if what = 5 then s 0 108 else if what = 6 then promN (s 1) else if what = 7 then s 1 0 else -1
theorem c_count {d : Nat} {Q : ZQ} {H : ZH} {m : Nat} {s : MS} {what : Int} (hM : MI H m) (hi : minv s) (hw : -2147483648 ≤ what ∧ what ≤ 2147483647)
    (h : Q [zI (cntF s what)] (mput H m s)) : zcall ztb (d + 4) mX6_count [zR m, zI what] (mput H m s) Q := by
  have ti := hi.1.1
  have hg := ti.1
  have hh := hg.1
  unfold hok at hh
  unfold cntF at h
  apply bm_X6_count (d := d + 2) hM
  simp (disch := omega) only [zw_id]
  refine ⟨fun e => ?_, fun e => ?_, fun e => ?_, fun e => ?_, fun e => ?_, fun e => ?_, fun e => ?_, fun e => ?_, fun e => ?_⟩
  · rw [if_neg (by omega), if_neg (by omega), if_neg (by omega), if_neg (by omega), if_neg (by omega), if_neg (by omega), if_neg (by omega), if_neg (by omega)] at h; exact h
  · rw [if_pos e] at h; exact h
  · rw [if_neg (by omega), if_pos e] at h
    exact c_ofThese (d := d + 1) hM hg (by omega) (bm_X6_count_60 (d := d + 2) hM h)
  · rw [if_neg (by omega), if_neg (by omega), if_pos e] at h
    exact c_ofThese (d := d + 1) hM hg (by omega) (bm_X6_count_66 (d := d + 2) hM h)
  · rw [if_neg (by omega), if_neg (by omega), if_neg (by omega), if_pos e] at h
    exact c_spans (d := d) hM hg (bm_X6_count_71 (d := d + 2) hM h)
  · rw [if_neg (by omega), if_neg (by omega), if_neg (by omega), if_neg (by omega), if_pos e] at h
    have main : ∀ r a : Nat, a + r = 8 → zwp (zcall ztb (d + 3)) t_X6_count Q 74 [some (zR m), none, some (zI (sumN (fun a => heldF (s 1) a) a)), some (zI a)] [] (mput H m s) := by
      intro r
      induction r with
      | zero =>
        intro a ha
        have ha : a = 8 := by omega
        subst ha
        apply bm_X6_count_74 (d := d + 2) hM
        exact ⟨fun _ => h, fun e => absurd (by decide) e⟩
      | succ r ih =>
        intro a ha
        have ih := ih (a + 1) (by omega)
        apply bm_X6_count_74 (d := d + 2) hM
        simp (disch := omega) only [zw_id]
        refine ⟨fun e => absurd e (by omega), fun _ => ?_⟩
        exact c_heldBy (d := d) hM hg (by omega) (bm_X6_count_86 (d := d + 2) hM ih)
    exact main 8 0 rfl
  · rw [if_neg (by omega), if_neg (by omega), if_neg (by omega), if_neg (by omega), if_neg (by omega), if_pos e] at h; exact h
  · rw [if_neg (by omega), if_neg (by omega), if_neg (by omega), if_neg (by omega), if_neg (by omega), if_neg (by omega), if_pos e] at h
    have main : ∀ r j : Nat, ∀ x : Int, (j : Int) + r = s 1 1 → x = sumN (fun j => if 0 ≤ s 1 (96 + 32 * j + 9) then 1 else 0) j → zwp (zcall ztb (d + 3)) t_X6_count Q 103 [some (zR m), none, some (zI x), some (zI j)] [] (mput H m s) := by
      intro r
      induction r with
      | zero =>
        intro j x hj hx
        apply bm_X6_count_103 (d := d + 2) hM
        simp (disch := omega) only [zw_id]
        refine ⟨fun _ => ?_, fun e => absurd e (by omega)⟩
        unfold promN at h
        rw [show (s 1 1).toNat = j by omega] at h
        rw [hx]; exact h
      | succ r ih =>
        intro j x hj hx
        obtain ⟨b1, _⟩ := hg.2.1 j (by omega)
        unfold jok at b1
        have ih := fun x => ih (j + 1) x (by omega)
        rw [sumN_s] at ih
        apply bm_X6_count_103 (d := d + 2) hM
        simp (disch := omega) only [zw_id, jx, Int.reduceToNat]
        refine ⟨fun e => absurd e (by omega), fun _ => ⟨by omega, fun e => ih _ ?_, fun e => ih _ ?_⟩⟩
        · rw [if_neg (by omega), hx]
        · rw [if_pos (by omega), hx]
    exact main (s 1 1).toNat 0 0 (by omega) rfl
  · rw [if_neg (by omega), if_neg (by omega), if_neg (by omega), if_neg (by omega), if_neg (by omega), if_neg (by omega), if_neg (by omega), if_pos e] at h; exact h
theorem c_image {d : Nat} {Q : ZQ} {H : ZH} {m : Nat} {s : MS} (hM : MI H m) (hi : minv s)
    (h : Q [zI (s 1 0)] (mput H m (mset (mset s 3 (s 1)) 6 (s 4)))) : zcall ztb (d + 2) mX6_image [zR m] (mput H m s) Q := by
  apply bm_X6_image (d := d + 1) hM
  refine c_lays (d := d) (k := 1) (l := 3) hM (by omega) (by omega) (by omega) ?_
  rw [cpy_t (fun i h => by rw [(hi.1.1.2.2.2.1 i (by omega)).2.2 h, (hi.2.1.1.2.2.2.1 i (by omega)).2.2 h])]
  apply bm_X6_image_11 (d := d + 1) hM
  refine c_laysSums (d := d) (k := 4) (l := 6) (s := mset s 3 (s 1)) hM (by omega) (by omega) (by omega) ?_
  rw [show mset s 3 (s 1) 4 = s 4 from rfl, show mset s 3 (s 1) 6 = s 6 from rfl, cpy_t (fun i h => by rw [hi.1.1.2.2.2.2 i h, hi.2.1.1.2.2.2.2 i h])]
  exact bm_X6_image_22 (d := d + 1) hM h
theorem c_back {d : Nat} {Q : ZQ} {H : ZH} {m : Nat} {s : MS} (hM : MI H m) (hi : minv s)
    (h : Q [zI (s 3 0)] (mput H m (mset (mset s 1 (s 3)) 4 (s 6)))) : zcall ztb (d + 2) mX6_back [zR m] (mput H m s) Q := by
  apply bm_X6_back (d := d + 1) hM
  refine c_lays (d := d) (k := 3) (l := 1) hM (by omega) (by omega) (by omega) ?_
  rw [cpy_t (fun i h => by rw [(hi.1.1.2.2.2.1 i (by omega)).2.2 h, (hi.2.1.1.2.2.2.1 i (by omega)).2.2 h])]
  apply bm_X6_back_11 (d := d + 1) hM
  refine c_laysSums (d := d) (k := 6) (l := 4) (s := mset s 1 (s 3)) hM (by omega) (by omega) (by omega) ?_
  rw [show mset s 1 (s 3) 4 = s 4 from rfl, show mset s 1 (s 3) 6 = s 6 from rfl, cpy_t (fun i h => by rw [hi.1.1.2.2.2.2 i h, hi.2.1.1.2.2.2.2 i h])]
  exact bm_X6_back_22 (d := d + 1) hM h
theorem c_step {d : Nat} {Q : ZQ} {H : ZH} {m : Nat} {s : MS} {n : Nat} (hM : MI H m) (hi : minv s) (hn : 1 ≤ n ∧ n ≤ 100) (hl : s 1 0 + n ≤ 99999)
    (h : ∀ s', pst s s' (gsF (s 1) (s 4) n).1 (gsF (s 1) (s 4) n).2 (s 0 108) → Q [zI (s 1 0 + n)] (mput H m s')) : zcall ztb (d + 9) mX6_step [zR m, zI n] (mput H m s) Q := by
  have ti := hi.1.1
  have hh := ti.1.1
  unfold hok at hh
  have main : ∀ r k : Nat, k + r = n → ∀ s', fr s s' → s' 1 = (gsF (s 1) (s 4) k).1 → s' 4 = (gsF (s 1) (s 4) k).2 → zwp (zcall ztb (d + 8)) t_X6_step Q 33 [some (zR m), some (zI n), some (zI k)] [] (mput H m s') := by
    intro r
    induction r with
    | zero =>
      intro k hk s' f1 f2 f3
      have hk : k = n := by omega
      subst hk
      obtain ⟨g1, g2, g3⟩ := gsF_I ti k (by omega)
      have p := pst_fr hi f1
      rw [f2, f3] at p
      apply bm_X6_step_33 (d := d + 7) hM
      simp (disch := omega) only [zw_id]
      refine ⟨fun _ => ?_, fun e => absurd (Int.le_refl _) e⟩
      rw [f2, g3]; exact h s' p
    | succ r ih =>
      intro k hk s' f1 f2 f3
      have ih := ih (k + 1) (by omega)
      rw [gsF] at ih
      obtain ⟨g1, g2, g3⟩ := gsF_I ti k (by omega)
      rw [← f2, ← f3] at ih g1
      rw [← f2] at g3
      apply bm_X6_step_33 (d := d + 7) hM
      simp (disch := omega) only [zw_id]
      refine ⟨fun e => absurd e (by omega), fun _ => ?_⟩
      refine c_ticks (d := d) hM (fr_rest f1 hi.2.2.1) g1 (by omega) (fun s'' k1 k2 k3 => ?_)
      apply bm_X6_step_42 (d := d + 7) hM
      exact ih s'' (fr_trans f1 k1) k2 k3
  apply bm_X6_step (d := d + 7) hM
  simp (disch := omega) only [zw_id]
  exact ⟨fun e => absurd e (by omega), fun _ => ⟨fun e => absurd e (by omega), fun _ => ⟨fun _ => main n 0 (Nat.zero_add _) s (fr_refl s) rfl rfl, fun e => absurd hl e⟩⟩⟩
/-! THE MODEL: earliest, costs, every -/
theorem rdF_ok {T : Nat → Int} {len : Nat} : ∀ (f at' n : Nat) (W K : Nat → Int), n + f = 4 → at' ≤ len → (∀ a, a < n → (1 ≤ W a ∧ W a ≤ 16) ∧ (1 ≤ K a ∧ K a ≤ 200)) →
    (rdF T len f at' n W K).1 ≤ 60 + len ∧ -1 ≤ (rdF T len f at' n W K).1 ∧ (rdF T len f at' n W K).2.1 ≤ 4 ∧ ((rdF T len f at' n W K).1 < 0 → wkok (rdF T len f at' n W K).2.1 (rdF T len f at' n W K).2.2.1 (rdF T len f at' n W K).2.2.2)
  | 0, at', n, W, K, hn, ha, h => by rw [rdF]; dsimp only; exact ⟨by omega, by omega, by omega, fun e => absurd e (by omega)⟩
  | f + 1, at', n, W, K, hn, ha, h => by
    have n1 := nmF_b (T := T) (len := len) (at' := at') (hi := 16) ha
    rw [rdF]
    split
    · dsimp only; exact ⟨by omega, by omega, by omega, fun e => absurd e (by omega)⟩
    · split
      · dsimp only; exact ⟨by omega, by omega, by omega, fun e => absurd e (by omega)⟩
      · next e1 e2 =>
        have e2' := Classical.not_not.mp e2
        have n2 := nmF_b (T := T) (len := len) (at' := (nmF T len at' 16).2 + 1) (hi := 200) (by omega)
        have hW : ∀ a, a < n + 1 → (1 ≤ zupd W n (nmF T len at' 16).1 a ∧ zupd W n (nmF T len at' 16).1 a ≤ 16) ∧ (1 ≤ zupd K n (nmF T len ((nmF T len at' 16).2 + 1) 200).1 a ∧ zupd K n (nmF T len ((nmF T len at' 16).2 + 1) 200).1 a ≤ 200) ∨ (nmF T len ((nmF T len at' 16).2 + 1) 200).1 ≤ 0 := fun a ha2 => by
          by_cases q : (nmF T len ((nmF T len at' 16).2 + 1) 200).1 ≤ 0
          · exact Or.inr q
          · refine Or.inl ?_
            by_cases e : a = n
            · subst e; rw [ude, ude]; omega
            · rw [udn e, udn e]; exact h a (by omega)
        split
        · dsimp only; exact ⟨by omega, by omega, by omega, fun e => absurd e (by omega)⟩
        · next e3 =>
          have hW2 : ∀ a, a < n + 1 → (1 ≤ zupd W n (nmF T len at' 16).1 a ∧ zupd W n (nmF T len at' 16).1 a ≤ 16) ∧ (1 ≤ zupd K n (nmF T len ((nmF T len at' 16).2 + 1) 200).1 a ∧ zupd K n (nmF T len ((nmF T len at' 16).2 + 1) 200).1 a ≤ 200) := fun a ha2 => (hW a ha2).elim id fun q => absurd q e3
          split
          · dsimp only; exact ⟨by omega, by omega, by omega, fun _ => ⟨by omega, by omega, hW2⟩⟩
          · split
            · dsimp only; exact ⟨by omega, by omega, by omega, fun e => absurd e (by omega)⟩
            · exact rdF_ok f _ (n + 1) _ _ (by omega) (by omega) hW2
/-- arms of an account that are to be placed -/
def cmA (G : Nat → Int) (ac : Int) (n : Nat) (W K : Nat → Int) : MS := mset (mset (mset (cm G) 0 (zupd (zupd (cm G 0) 109 ac) 110 n)) 8 W) 9 K
/-- what a reading leaves -/
def rdS (s : MS) : Int × Nat × (Nat → Int) × (Nat → Int) := rdF (s 7) (s 0 108).toNat 4 0 0 (s 8) (s 9)
theorem rdS_ok {s : MS} (ht : tpok s) : (rdS s).1 ≤ 120 ∧ -1 ≤ (rdS s).1 ∧ (rdS s).2.1 ≤ 4 ∧ ((rdS s).1 < 0 → wkok (rdS s).2.1 (rdS s).2.2.1 (rdS s).2.2.2) := by
  have := rdF_ok (T := s 7) (len := (s 0 108).toNat) 4 0 0 (s 8) (s 9) rfl (by omega) (fun a ha => absurd ha (by omega))
  have h1 := ht.1
  unfold rdS
  exact ⟨by omega, this.2.1, this.2.2.1, this.2.2.2⟩
theorem frR_pst {s s' : MS} (h : minv s) (f : frR s s') (h0 : s' 0 108 = 0) : pst s s' (s 1) (s 4) 0 := by
  obtain ⟨r1, r2, r3, r4, r5⟩ := h.2.2.1
  refine ⟨f.1 1 (by omega) (by omega) (by omega), f.1 4 (by omega) (by omega) (by omega), f.1 3 (by omega) (by omega) (by omega), f.1 6 (by omega) (by omega) (by omega), f.1 7 (by omega) (by omega) (by omega), ⟨?_, ?_, ?_, ?_, ?_⟩, h0, fun i hi => ?_, fun i hi => ?_⟩
  · rw [f.2 114 (by omega) (by omega) (by omega), r1]
  · rw [f.2 115 (by omega) (by omega) (by omega), r2]
  · rw [f.2 116 (by omega) (by omega) (by omega), r3]
  · rw [f.2 117 (by omega) (by omega) (by omega), r4]
  · rw [f.2 118 (by omega) (by omega) (by omega), r5]
  · rw [f.1 2 (by omega) (by omega) (by omega)]; exact h.2.2.2.2.1 i hi
  · rw [f.1 5 (by omega) (by omega) (by omega)]; exact h.2.2.2.2.2 i hi
theorem c_earliest {d : Nat} {Q : ZQ} {H : ZH} {m : Nat} {s : MS} {ac : Int} (hM : MI H m) (hi : minv s) (hac : 0 ≤ ac ∧ ac ≤ 7)
    (h : ∀ s', pst s s' (s 1) (s 4) 0 → Q [zI (if 0 ≤ (rdS s).1 then -100 - (rdS s).1 else toldF (fstV (cmA (s 1) ac (rdS s).2.1 (rdS s).2.2.1 (rdS s).2.2.2) (s 1 0)))] (mput H m s')) : zcall ztb (d + 6) mX6_earliest [zR m, zI ac] (mput H m s) Q := by
  have ti := hi.1.1
  have hg := ti.1
  have hh := hg.1
  unfold hok at hh
  obtain ⟨ro1, ro2, ro3, ro4⟩ := rdS_ok hi.2.2.2.1
  apply bm_X6_earliest (d := d + 3) hM
  simp (disch := omega) only [zw_id]
  refine ⟨fun e => absurd e (by omega), fun _ => ⟨fun e => absurd e (by omega), fun _ => ?_⟩⟩
  refine c_readArms (d := d) hM hi.2.2.2.1 (fun s' f1 f2 f3 f4 f5 => ?_)
  have p := frR_pst hi f1 f2
  apply bm_X6_earliest_13 (d := d + 3) hM
  rw [show (rdF (s 7) (s 0 108).toNat 4 0 0 (s 8) (s 9)) = rdS s from rfl] at *
  rw [zw_id (x := (rdS s).1) (by omega) (by omega)]
  refine ⟨fun e => ?_, fun e => ?_⟩
  · rw [if_neg (by omega)] at h
    obtain ⟨wn1, wn, wk⟩ := ro4 e
    rw [mup_mset]
    generalize hS : mset s' 0 (zupd (s' 0) 109 ac) = S
    have S1 : S 1 = s 1 := by rw [← hS, msn (by omega)]; exact p.1
    have S0 : ∀ i, i ≠ 109 → S 0 i = s' 0 i := fun i hi => by rw [← hS, mse, udn hi]
    have Sk : ∀ k, k ≠ 0 → S k = s' k := fun k hk => by rw [← hS, msn hk]
    have S109 : S 0 109 = ac := by rw [← hS, mse, ude]
    have rS : rest S := by
      obtain ⟨r1, r2, r3, r4, r5⟩ := p.2.2.2.2.2.1
      exact ⟨by rw [S0 114 (by omega), r1], by rw [S0 115 (by omega), r2], by rw [S0 116 (by omega), r3], by rw [S0 117 (by omega), r4], by rw [S0 118 (by omega), r5]⟩
    have h110 : S 0 110 = (rdS s).2.1 := by rw [S0 110 (by omega), f3]
    have am : amok S := by
      unfold amok
      rw [S109, h110, Sk 8 (by omega), Sk 9 (by omega), f4, f5]
      exact ⟨by omega, by omega, fun k hk => wk k (by omega)⟩
    have hps : psame S (cmA (s 1) ac (rdS s).2.1 (rdS s).2.2.1 (rdS s).2.2.2) := by
      obtain ⟨r1, r2, r3, r4, r5⟩ := rS
      refine ⟨S1, ⟨S109, h110, r1, r2, r3, r4, r5⟩, fun k hk => ?_, fun k hk => by rw [r5] at hk; omega⟩
      rw [Sk 8 (by omega), Sk 9 (by omega), f4, f5]
      exact ⟨rfl, rfl⟩
    have hfs := fun r => fsR_same hps am.2.1.1 300000 (s 1 0) r
    have fin : ∀ (f : Nat → Int) (r x : Int), -1 ≤ r → r ≤ 200000 → fstV (cmA (s 1) ac (rdS s).2.1 (rdS s).2.2.1 (rdS s).2.2.2) (s 1 0) = r → zwp (zcall ztb (d + 5)) t_X6_earliest Q 38 [some (zR m), some (zI ac), some (zI x)] [zI r] (mput H m (mset S 10 f)) := by
      intro f r x hr1 hr2 hv
      rw [hv] at h
      have h := h (mset S 10 f) (by
        obtain ⟨p1, p2, p3, p4, p5, p6, p7, p8, p9⟩ := p
        refine ⟨S1, ?_, ?_, ?_, ?_, rS, ?_, fun i hi => ?_, fun i hi => ?_⟩
        · rw [msn (by omega), Sk 4 (by omega), p2]
        · rw [msn (by omega), Sk 3 (by omega), p3]
        · rw [msn (by omega), Sk 6 (by omega), p4]
        · rw [msn (by omega), Sk 7 (by omega), p5]
        · rw [msn (by omega), S0 108 (by omega), p7]
        · rw [msn (by omega), Sk 2 (by omega)]; exact p8 i hi
        · rw [msn (by omega), Sk 5 (by omega)]; exact p9 i hi)
      apply bm_X6_earliest_38 (d := d + 3) hM
      simp (disch := omega) only [zw_id]
      unfold toldF at h
      refine ⟨fun e => ?_, fun e => ?_⟩
      · rw [if_neg (by omega)] at h; exact h
      · rw [if_pos (by omega)] at h; exact h
    rw [show mset s' 0 (zupd (s' 0) 109 ac) = S from hS] at *
    have e0 : s' 1 0 = s 1 0 := by rw [p.1]
    have := fun Q' h1 h0 => c_first (d := d) (Q := Q') (H := H) (m := m) (s := S) (t := s 1 0) hM (by rw [S1]; exact hg) (rest_sk rS) am (by omega) h1 h0
    rw [e0]
    refine this _ (fun r r1 r2 r3 r4 f _ => ?_) (fun r4 f => ?_)
    · rw [S1] at r2
      exact fin f r _ (by omega) (by omega) (fstV_eq ((hfs r).mp r4))
    · exact fin f (-1) _ (by omega) (by omega) (fstV_eq ((hfs (-1)).mp r4))
  · rw [if_pos (by omega)] at h
    exact h s' p
/-! THE MODEL: costs, every -/
theorem cmG_inv {G U : Nat → Int} {ac rk pt af : Int} {n : Nat} {W K : Nat → Int} (h : tinv G U) (hm : G 1 < 80) (hw : wkok n W K) (h1 : 0 ≤ ac ∧ ac ≤ 7) (h2 : 0 ≤ rk ∧ rk ≤ 9) (h3 : 1 ≤ pt ∧ pt ≤ 150) (h4 : -1 ≤ af ∧ af < G 1) : tinv (cmG G ac rk pt af n W K) U := by
  obtain ⟨hg, hs, hU, hC, hT⟩ := h
  have hh := hg.1
  unfold hok at hh
  have o := fun i h => cmG_o (ac := ac) (rk := rk) (pt := pt) (af := af) (W := W) (K := K) hg hm hw.2.1 (i := i) h
  refine ⟨cmG_gok hg hm hw h1 h2 h3 h4, cmG_stk hg hs hm hw.2.1, fun a ha => ?_, fun i hi => ?_, hT⟩
  · rw [o 0 (by omega)]; exact hU a ha
  · rw [o i (by omega)]; exact hC i hi
/-- the rows after a thought with one more job -/
noncomputable def csF (G U : Nat → Int) (ac rk : Int) (n : Nat) (W K : Nat → Int) : Nat → Int := (gsF (cmG (thF G) ac rk 100 (-1) n W K) U n300).1
noncomputable def costV (G U : Nat → Int) (ac rk what : Int) (n : Nat) (W K : Nat → Int) : Int :=
  if what = 0 then toldF (csF G U ac rk n W K (96 + 32 * (G 1).toNat + 6))
  else sumN (fun k => if fgF G U (96 + 32 * k + 6) < csF G U ac rk n W K (96 + 32 * k + 6) ∧ 0 ≤ fgF G U (96 + 32 * k + 6) then csF G U ac rk n W K (96 + 32 * k + 6) - fgF G U (96 + 32 * k + 6) else 0) (G 1).toNat
theorem c_costs {d : Nat} {Q : ZQ} {H : ZH} {m : Nat} {s : MS} {ac rk what : Int} (hM : MI H m) (hi : minv s) (hac : 0 ≤ ac ∧ ac ≤ 7) (hrk : 0 ≤ rk ∧ rk ≤ 9) (hwh : 0 ≤ what ∧ what ≤ 1) (hm : s 1 1 < 80)
    (h : ∀ s', pst s s' (s 1) (s 4) 0 → Q [zI (if 0 ≤ (rdS s).1 then -100 - (rdS s).1 else costV (s 1) (s 4) ac rk what (rdS s).2.1 (rdS s).2.2.1 (rdS s).2.2.2)] (mput H m s')) : zcall ztb (d + 10) mX6_costs [zR m, zI ac, zI rk, zI what] (mput H m s) Q := by
  obtain ⟨⟨ti, tn⟩, ⟨tk, tkn⟩, hr, htp, ht2, ht5⟩ := id hi
  have hg := ti.1
  have hh := hg.1
  unfold hok at hh
  obtain ⟨ro1, ro2, ro3, ro4⟩ := rdS_ok htp
  obtain ⟨tg, to, tw⟩ := thF_I hg
  apply bm_X6_costs (d := d + 7) hM
  simp (disch := omega) only [zw_id]
  refine ⟨fun e => absurd e (by omega), fun _ => ⟨fun e => absurd e (by omega), fun _ => ⟨fun e => absurd e (by omega), fun _ => ⟨fun e => absurd e (by omega), fun _ => ⟨fun e => absurd e (by omega), fun _ => ⟨fun e => absurd e (by omega), fun _ => ⟨fun _ => ?_, fun e => absurd (by omega) e⟩⟩⟩⟩⟩⟩⟩
  refine c_readArms (d := d + 4) hM htp (fun s' f1 f2 f3 f4 f5 => ?_)
  have p := frR_pst hi f1 f2
  apply bm_X6_costs_49 (d := d + 7) hM
  rw [show (rdF (s 7) (s 0 108).toNat 4 0 0 (s 8) (s 9)) = rdS s from rfl] at *
  rw [zw_id (x := (rdS s).1) (by omega) (by omega)]
  refine ⟨fun e => ?_, fun e => ?_⟩
  rotate_left
  · rw [if_pos (by omega)] at h; exact h s' p
  rw [if_neg (by omega)] at h
  have wk := ro4 e
  obtain ⟨p1, p2, p3, p4, p5, p6, p7, p8, p9⟩ := p
  have tf := thF_inv ti
  have tfc := cmG_inv tf (by rw [to 1 (by omega)]; exact hm) wk hac hrk (show (1 : Int) ≤ 100 ∧ (100 : Int) ≤ 150 by omega) (show (-1 : Int) ≤ -1 ∧ -1 < thF (s 1) 1 by rw [to 1 (by omega)]; omega)
  have c0 : cmG (thF (s 1)) ac rk 100 (-1) (rdS s).2.1 (rdS s).2.2.1 (rdS s).2.2.2 0 = s 1 0 := by rw [cmG_o tg (by rw [to 1 (by omega)]; exact hm) wk.2.1 (by omega), to 0 (by omega)]
  have c1 : cmG (thF (s 1)) ac rk 100 (-1) (rdS s).2.1 (rdS s).2.2.1 (rdS s).2.2.2 1 = s 1 1 + 1 := by rw [(cmG_j tg (by rw [to 1 (by omega)]; exact hm) wk.2.1).1, to 1 (by omega)]
  obtain ⟨k1, k2, k3⟩ := gsF_I tfc n300 (by rw [c0, n300_eq]; omega)
  obtain ⟨l1, l2, l3⟩ := gsF_I tf n300 (by rw [to 0 (by omega), n300_eq]; omega)
  generalize hC : csF (s 1) (s 4) ac rk (rdS s).2.1 (rdS s).2.2.1 (rdS s).2.2.2 = C
  have hC' : (gsF (cmG (thF (s 1)) ac rk 100 (-1) (rdS s).2.1 (rdS s).2.2.1 (rdS s).2.2.2) (s 4) n300).1 = C := hC
  generalize hF : fgF (s 1) (s 4) = F
  have hF' : (gsF (thF (s 1)) (s 4) n300).1 = F := hF
  unfold costV at h
  rw [hC, hF] at h
  rw [hC'] at k1 k2 k3
  rw [hF'] at l1 l2 l3
  have C1 : C 1 = s 1 1 + 1 := by rw [k2 1 (by omega) (by omega), c1]
  have F1 : F 1 = s 1 1 := by rw [l2 1 (by omega) (by omega), to 1 (by omega)]
  have Cs : ∀ k : Nat, (k : Int) < s 1 1 + 1 → -1 ≤ C (96 + 32 * k + 6) ∧ C (96 + 32 * k + 6) ≤ 200000 := fun k hk => by
    have b := (k1.1.2.1 k (by omega)).1; unfold jok at b; exact b.2.2.2.2.2.2.1
  have Fs : ∀ k : Nat, (k : Int) < s 1 1 → -1 ≤ F (96 + 32 * k + 6) ∧ F (96 + 32 * k + 6) ≤ 200000 := fun k hk => by
    have b := (l1.1.2.1 k (by omega)).1; unfold jok at b; exact b.2.2.2.2.2.2.1
  have s1m : s' 1 1 = s 1 1 := by rw [p1]
  have e110 : s' 0 110 = (rdS s).2.1 := f3
  -- the second thought
  have second : what = 1 → ∀ s3 : MS, pst s s3 (s 1) (s 4) 0 → (∀ k : Nat, (k : Int) < s 1 1 → s3 15 k = C (96 + 32 * k + 6)) → ∀ (x7 : Int) (y8 : Option ZV),
      zwp (zcall ztb (d + 9)) t_X6_costs Q 134 [some (zR m), none, none, some (zI 1), none, some (zI (s 1 1)), none, some (zI x7), y8, none, none] [] (mput H m s3) := by
    intro hw1 s3 q3 q15 x7 y8
    rw [if_neg (by omega)] at h
    obtain ⟨q1, q2, q3', q4, q5, q6, q7, q8, q9⟩ := q3
    apply bm_X6_costs_134 (d := d + 7) hM
    refine ⟨fun _ => ?_, fun e => absurd (by decide) e⟩
    refine c_thinks (d := d + 6) hM (by rw [q1]; exact hg) (fun i hi => ?_) (fun i hi => ?_) ?_
    · rw [q1, q8 i hi]; exact (ti.2.2.2.1 i (by omega)).2.2 hi
    · rw [q2, q9 i hi]; exact ti.2.2.2.2 i hi
    apply bm_X6_costs_148 (d := d + 7) hM
    rw [q1, q2]
    have tS : tinv (mset (mset (mset s3 2 (s 1)) 5 (s 4)) 1 (thF (s 1)) 1) (mset (mset (mset s3 2 (s 1)) 5 (s 4)) 1 (thF (s 1)) 4) := by
      rw [mse, show mset (mset (mset s3 2 (s 1)) 5 (s 4)) 1 (thF (s 1)) 4 = s3 4 from rfl, q2]; exact tf
    refine c_goes (d := d) (s := mset (mset (mset s3 2 (s 1)) 5 (s 4)) 1 (thF (s 1))) hM q6 tS (by rw [mse, to 0 (by omega)]; omega) (fun s4 g1 g2 g3 => ?_)
    rw [mse, show mset (mset (mset s3 2 (s 1)) 5 (s 4)) 1 (thF (s 1)) 4 = s3 4 from rfl, q2] at g2 g3
    rw [hF'] at g2
    apply bm_X6_costs_152 (d := d + 7) hM
    have g15 : s4 15 = s3 15 := g1.1 15 (by omega)
    have l158 : ∀ r k : Nat, ∀ x : Int, (k : Int) + r = s 1 1 → x = sumN (fun k => if F (96 + 32 * k + 6) < C (96 + 32 * k + 6) ∧ 0 ≤ F (96 + 32 * k + 6) then C (96 + 32 * k + 6) - F (96 + 32 * k + 6) else 0) k →
        zwp (zcall ztb (d + 9)) t_X6_costs Q 158 [some (zR m), none, none, none, none, some (zI (s 1 1)), none, none, some (zI x), some (zI k), none] [] (mput H m s4) := by
      intro r
      induction r with
      | zero =>
        intro k x hk hx
        apply bm_X6_costs_158 (d := d + 7) hM
        simp (disch := omega) only [zw_id]
        refine ⟨fun _ => ?_, fun e => absurd e (by omega)⟩
        refine c_forg (d := d + 7) (s := s) hM ti (fun i hi => ?_) (fun i hi => ?_) (g1.1 2 (by omega)) (g1.1 5 (by omega)) (by rw [g1.1 3 (by omega)]; exact q3') (by rw [g1.1 6 (by omega)]; exact q4) (by rw [g1.1 7 (by omega)]; exact q5) (fr_rest g1 q6) (fun s5 p5' _ => ?_)
        · rw [g2]; exact (l1.2.2.2.1 i (by omega)).2.2 hi
        · rw [g3]; exact l1.2.2.2.2 i hi
        have p5'' : pst s s5 (s 1) (s 4) 0 := by
          rw [show s4 0 108 = 0 by rw [g1.2 108 (by omega) (by omega)]; exact q7] at p5'; exact p5'
        apply bm_X6_costs_221 (d := d + 7) hM
        rw [show (s 1 1).toNat = k by omega] at h
        rw [hx]; exact h s5 p5''
      | succ r ih =>
        intro k x hk hx
        have ih := fun x => ih (k + 1) x (by omega)
        rw [sumN_s] at ih
        have a1 := Cs k (by omega)
        have a2 := Fs k (by omega)
        apply bm_X6_costs_158 (d := d + 7) hM
        rw [g2, g15]
        simp (disch := omega) only [jx, Int.reduceToNat, Int.toNat_natCast]
        rw [q15 k (by omega)]
        simp (disch := omega) only [zw_id]
        refine ⟨fun e => absurd e (by omega), fun _ => ⟨by omega, by omega, fun e => ih _ ?_, fun e => ⟨fun e2 => ih _ ?_, fun e2 => ih _ ?_⟩⟩⟩
        · rw [if_neg (by omega), hx]
        · rw [if_neg (by omega), hx]
        · rw [if_pos (by omega), hx]
    exact l158 (s 1 1).toNat 0 0 (by omega) rfl
  refine c_thinks (d := d + 6) hM (by rw [p1]; exact hg) (fun i hi => ?_) (fun i hi => ?_) ?_
  · rw [p1, p8 i hi]; exact (ti.2.2.2.1 i (by omega)).2.2 hi
  · rw [p2, p9 i hi]; exact ti.2.2.2.2 i hi
  apply bm_X6_costs_74 (d := d + 7) hM
  rw [p1, p2]
  refine c_comes (d := d + 6) (n := (rdS s).2.1) (s := mset (mset (mset s' 2 (s 1)) 5 (s 4)) 1 (thF (s 1))) hM (by rw [mse]; exact tg) (by rw [mse, to 1 (by omega)]; exact hm) e110 wk.2.1 ?_
  rw [mse, mset_mset, show mset (mset (mset s' 2 (s 1)) 5 (s 4)) 1 (thF (s 1)) 8 = s' 8 from rfl, show mset (mset (mset s' 2 (s 1)) 5 (s 4)) 1 (thF (s 1)) 9 = s' 9 from rfl, f4, f5, to 1 (by omega)]
  apply bm_X6_costs_83 (d := d + 7) hM
  generalize hS2 : mset (mset (mset s' 2 (s 1)) 5 (s 4)) 1 (cmG (thF (s 1)) ac rk 100 (-1) (rdS s).2.1 (rdS s).2.2.1 (rdS s).2.2.2) = S2
  have z1 : S2 1 = cmG (thF (s 1)) ac rk 100 (-1) (rdS s).2.1 (rdS s).2.2.1 (rdS s).2.2.2 := by rw [← hS2, mse]
  have z4 : S2 4 = s 4 := by rw [← hS2]; exact p2
  have zr : rest S2 := by rw [← hS2]; exact p6
  have z2 : S2 2 = s 1 := by rw [← hS2]; rfl
  have z5 : S2 5 = s 4 := by rw [← hS2]; rfl
  have z3 : S2 3 = s 3 := by rw [← hS2]; exact p3
  have z6 : S2 6 = s 6 := by rw [← hS2]; exact p4
  have z7 : S2 7 = s 7 := by rw [← hS2]; exact p5
  have z8 : S2 0 108 = 0 := by rw [← hS2]; exact p7
  refine c_goes (d := d) (s := S2) hM zr (by rw [z1, z4]; exact tfc) (by rw [z1, c0]; omega) (fun s3 g1 g2 g3 => ?_)
  rw [z1, z4] at g2 g3
  rw [hC'] at g2
  obtain ⟨jn, hjn⟩ := Int.eq_ofNat_of_zero_le hh.2.1.1
  have csj := Cs jn (by omega)
  rw [show (s 1 1).toNat = jn by omega] at h
  apply bm_X6_costs_89 (d := d + 7) hM
  rw [g2, hjn]
  simp (disch := omega) only [jx, Int.reduceToNat]
  refine ⟨by omega, ?_⟩
  have l102 : ∀ r k : Nat, k + r = jn → ∀ A : Nat → Int, (∀ i, i < k → A i = C (96 + 32 * i + 6)) → zwp (zcall ztb (d + 9)) t_X6_costs Q 102 [some (zR m), none, none, some (zI what), none, some (zI jn), none, some (zI (C (96 + 32 * jn + 6))), some (zI k), none, none] [] (mput H m (mset s3 15 A)) := by
    intro r
    induction r with
    | zero =>
      intro k hk A hA
      have hk : k = jn := by omega
      subst hk
      apply bm_X6_costs_102 (d := d + 7) hM
      simp (disch := omega) only [zw_id]
      refine ⟨fun _ => ?_, fun e => absurd (Int.le_refl _) e⟩
      refine c_forg (d := d + 7) (s := s) (s2 := mset s3 15 A) hM ti (fun i hi => ?_) (fun i hi => ?_) ?_ ?_ ?_ ?_ ?_ (show rest s3 from fr_rest g1 zr) (fun s4 p4' p15 => ?_)
      · rw [msn (by omega), g2]; exact (k1.2.2.2.1 i (by omega)).2.2 hi
      · rw [msn (by omega), g3]; exact k1.2.2.2.2 i hi
      · rw [msn (by omega), g1.1 2 (by omega), z2]
      · rw [msn (by omega), g1.1 5 (by omega), z5]
      · rw [msn (by omega), g1.1 3 (by omega), z3]
      · rw [msn (by omega), g1.1 6 (by omega), z6]
      · rw [msn (by omega), g1.1 7 (by omega), z7]
      have p4'' : pst s s4 (s 1) (s 4) 0 := by
        rw [show mset s3 15 A 0 108 = 0 by rw [msn (by omega), g1.2 108 (by omega) (by omega), z8]] at p4'; exact p4'
      by_cases hw0 : what = 0
      · rw [if_pos hw0] at h
        subst hw0
        have h := h s4 p4''
        apply bm_X6_costs_134 (d := d + 7) hM
        simp (disch := omega) only [zw_id]
        unfold toldF at h
        refine ⟨fun e => absurd trivial e, fun _ => ⟨fun e => ?_, fun e => ?_⟩⟩
        · rw [if_neg (by omega)] at h; exact h
        · rw [if_pos (by omega)] at h; exact h
      · have hw1 : what = 1 := by omega
        have := second hw1 s4 p4'' (fun i hi => by rw [p15 15 (by omega) (by omega), mse]; exact hA i (by omega)) (C (96 + 32 * k + 6)) (some (zI k))
        rw [hjn] at this
        rw [hw1]; exact this
    | succ r ih =>
      intro k hk A hA
      apply bm_X6_costs_102 (d := d + 7) hM
      simp (disch := omega) only [zw_id, msn, g2, jx, Int.reduceToNat, Int.toNat_natCast, mup_mset, mse, mset_mset]
      refine ⟨fun e => absurd e (by omega), fun _ => ⟨by omega, by omega, ih (k + 1) (by omega) _ (fun i hi => ?_)⟩⟩
      unfold zupd
      split
      · next e => rw [e]
      · exact hA i (by omega)
  have m0 := l102 jn 0 (Nat.zero_add _) (s3 15) (fun i hi => absurd hi (by omega))
  rw [mset_self] at m0
  exact m0

/-- spans are kept one after the other -/
def kpF (ab ac from' len apart : Int) : (Nat → Int) → Nat → (Nat → Int)
  | G, 0 => G
  | G, k + 1 => kpG (kpF ab ac from' len apart G k) (spP (kpF ab ac from' len apart G k)).toNat ab (from' + k * apart) (from' + k * apart + len) ac
theorem kpG_o {G : Nat → Int} {x i : Nat} {ab fr to ac : Int} (h : i ≠ 5) (h2 : i < 24 + 6 * x ∨ 24 + 6 * x + 6 ≤ i) : kpG G x ab fr to ac i = G i := by
  unfold kpG
  rw [udn h, udn (by omega), udn (by omega), udn (by omega), udn (by omega), udn (by omega), udn (by omega)]
theorem kpG_x {G : Nat → Int} {x : Nat} {ab fr to ac : Int} : kpG G x ab fr to ac (24 + 6 * x) = G 5 ∧ kpG G x ab fr to ac (24 + 6 * x + 1) = ab / 100 ∧ kpG G x ab fr to ac (24 + 6 * x + 2) = ab % 100 ∧ kpG G x ab fr to ac (24 + 6 * x + 3) = fr ∧ kpG G x ab fr to ac (24 + 6 * x + 4) = to ∧ kpG G x ab fr to ac (24 + 6 * x + 5) = ac ∧ kpG G x ab fr to ac 5 = G 5 + 1 := by
  unfold kpG
  refine ⟨?_, ?_, ?_, ?_, ?_, ?_, ?_⟩ <;> simp (disch := omega) only [ude, udn]
theorem spP_r {G : Nat → Int} : spP G = -1 ∨ ∃ x, x < 12 ∧ spP G = (x : Nat) ∧ G (24 + 6 * x) < 0 := by
  rcases firstN_r (p := fun x => decide (G (24 + 6 * x) < 0)) 12 with h | ⟨j, h1, h2, h3⟩
  · exact Or.inl h
  · exact Or.inr ⟨j, h1, h2, by simpa using h3⟩
theorem kpG_inv {G U : Nat → Int} {x : Nat} {ab fr to ac : Int} (h : tinv G U) (hx : x < 12) (hab : 0 ≤ ab ∧ 0 ≤ ab / 100 ∧ ab / 100 ≤ ab % 100 ∧ ab % 100 ≤ 15) (ht : 0 ≤ fr ∧ fr < to ∧ to ≤ 200000) (hac : -1 ≤ ac ∧ ac ≤ 7) (h5 : G 5 < 1000000) : tinv (kpG G x ab fr to ac) U := by
  obtain ⟨hg, hs, hU, hC, hT⟩ := h
  have hh := hg.1
  obtain ⟨x0, x1, x2, x3, x4, x5, e5⟩ := kpG_x (G := G) (x := x) (ab := ab) (fr := fr) (to := to) (ac := ac)
  have o := fun i h1 h2 => kpG_o (G := G) (x := x) (ab := ab) (fr := fr) (to := to) (ac := ac) (i := i) h1 h2
  unfold hok at hh
  refine ⟨⟨?_, fun k hk => ?_, fun y hy => ?_⟩, stk_c hs (o 1 (by omega) (by omega)) (o 6 (by omega) (by omega)) (fun j hj => ⟨o _ (by omega) (by omega), o _ (by omega) (by omega)⟩) (fun k hk => o _ (by omega) (by omega)), fun a ha => ?_, fun i hi => ?_, hT⟩
  · unfold hok
    rw [o 0 (by omega) (by omega), o 1 (by omega) (by omega), o 2 (by omega) (by omega), o 3 (by omega) (by omega), o 4 (by omega) (by omega), e5, o 6 (by omega) (by omega), o 7 (by omega) (by omega)]
    obtain ⟨a0, a1, a2, a3, a4, a5, a6, a7, a8⟩ := hh
    refine ⟨a0, a1, a2, a3, a4, by omega, a6, a7, fun a ha => ?_⟩
    rw [o (8 + a) (by omega) (by omega), o (16 + a) (by omega) (by omega)]; exact a8 a ha
  · rw [o 1 (by omega) (by omega)] at hk
    obtain ⟨b1, b2⟩ := hg.2.1 k hk
    refine ⟨jok_c (fun w hw => o _ (by omega) (by omega)) b1, fun a ha => ?_⟩
    rw [o _ (by omega) (by omega)] at ha
    unfold jok at b1
    exact aok_c (by omega) (fun w hw => o _ (by omega) (by omega)) (b2 a ha)
  · by_cases e : y = x
    · subst e
      unfold sok
      rw [x0, x1, x2, x3, x4, x5]
      omega
    · exact sok_c (fun w hw => o _ (by omega) (by omega)) (hg.2.2 y hy)
  · rw [o 0 (by omega) (by omega)]; exact hU a ha
  · rw [o i (by omega) (by omega)]; exact hC i hi
