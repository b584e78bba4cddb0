/-! THE MODEL: what a pass and a tick do to the row and to the sums -/
def firstN (p : Nat → Bool) : Nat → Int
  | 0 => -1
  | n + 1 => if 0 ≤ firstN p n then firstN p n else if p n = true then n else -1
theorem firstN_s {p : Nat → Bool} {n : Nat} (h : firstN p n = -1) (h2 : p n = false) : firstN p (n + 1) = -1 := by rw [firstN, h]; simp [h2]
theorem firstN_t {p : Nat → Bool} {n : Nat} (h : firstN p n = -1) (h2 : p n = true) : ∀ k, firstN p (n + 1 + k) = n
  | 0 => by rw [Nat.add_zero, firstN, h]; simp [h2]
  | k + 1 => by rw [← Nat.add_assoc, firstN, firstN_t h h2 k, if_pos (by omega)]
theorem firstN_r {p : Nat → Bool} : ∀ n, firstN p n = -1 ∨ ∃ j, j < n ∧ firstN p n = (j : Nat) ∧ p j = true
  | 0 => Or.inl rfl
  | n + 1 => by
    rw [firstN]
    rcases firstN_r (p := p) n with h | ⟨j, h1, h2, h3⟩
    · rw [h, if_neg (by omega)]
      split
      · next e => exact Or.inr ⟨n, by omega, rfl, e⟩
      · exact Or.inl rfl
    · rw [if_pos (by omega)]; exact Or.inr ⟨j, by omega, h2, h3⟩
def colsF (G : Nat → Int) (j : Nat) : Int := sumN (fun a => G (96 + 32 * j + (12 + a))) (G (96 + 32 * j + 4)).toNat
def hbJ (G : Nat → Int) (acct : Int) (j : Nat) : Int := sumN (fun a => if (decide (G (96 + 32 * j) = acct) && hld G j a) = true then G (96 + 32 * j + (12 + a)) else 0) (G (96 + 32 * j + 4)).toNat
def heldF (G : Nat → Int) (acct : Int) : Int := sumN (hbJ G acct) (G 1).toNat
def spansF (G : Nat → Int) : Int := sumN (fun x => if 0 ≤ G (24 + 6 * x) then 1 else 0) 12
def theseF (G : Nat → Int) (how : Int) : Int := sumN (fun j => if G (96 + 32 * j + 5) = how then 1 else 0) (G 1).toNat
def uok (U : Nat → Int) : Prop := ∀ a, a < 8 → 0 ≤ U a ∧ U a ≤ 1000000000000
def shF (G U : Nat → Int) (a b : Nat) : Int := if U a * G (8 + b) < U b * G (8 + a) then -1 else if U b * G (8 + a) < U a * G (8 + b) then 1 else 0
def ahd (G U : Nat → Int) (j k : Nat) : Bool :=
  if G (96 + 32 * j + 1) = G (96 + 32 * k + 1) then decide (shF G U (G (96 + 32 * j)).toNat (G (96 + 32 * k)).toNat < 0) || (decide (shF G U (G (96 + 32 * j)).toNat (G (96 + 32 * k)).toNat = 0) && decide (j < k))
  else decide (G (96 + 32 * k + 1) < G (96 + 32 * j + 1))
def inl (G : Nat → Int) (j : Nat) : Bool :=
  decide (G (96 + 32 * j + 5) = 0) && decide (G (96 + 32 * j + 10) = 0) && (decide (G (96 + 32 * j + 3) < 0) || decide (G (96 + 32 * (G (96 + 32 * j + 3)).toNat + 5) = 2) || decide (G (96 + 32 * (G (96 + 32 * j + 3)).toNat + 5) = 3))
/-- where one comes to stand among the first k of a row: behind the last that it isn't ahead of -/
def insP (ah : Nat → Bool) (A : Nat → Nat) : Nat → Nat
  | 0 => 0
  | k + 1 => if ah (A k) = true then insP ah A k else k + 1
theorem insP_le (ah : Nat → Bool) (A : Nat → Nat) : ∀ k, insP ah A k ≤ k
  | 0 => Nat.le_refl 0
  | k + 1 => by rw [insP]; split; have := insP_le ah A k; omega; omega
def insA (A : Nat → Nat) (p j : Nat) : Nat → Nat := fun i => if i < p then A i else if i = p then j else A (i - 1)
/-- the line: the jobs, how many -/
def lnF (G U : Nat → Int) : Nat → (Nat → Nat) × Nat
  | 0 => (fun _ => 0, 0)
  | j + 1 => if inl G j = true then (insA (lnF G U j).1 (insP (ahd G U j) (lnF G U j).1 (lnF G U j).2) j, (lnF G U j).2 + 1) else lnF G U j
theorem lnF_b (G U : Nat → Int) : ∀ n, (lnF G U n).2 ≤ n ∧ ∀ i, i < (lnF G U n).2 → (lnF G U n).1 i < n ∧ inl G ((lnF G U n).1 i) = true
  | 0 => ⟨Nat.le_refl 0, fun i h => absurd h (by simp [lnF])⟩
  | j + 1 => by
    obtain ⟨h1, h2⟩ := lnF_b G U j
    rw [lnF]
    split
    · next e =>
      refine ⟨by dsimp only; omega, fun i hi => ?_⟩
      dsimp only at hi ⊢
      unfold insA
      have hp := insP_le (ahd G U j) (lnF G U j).1 (lnF G U j).2
      split
      · have := h2 i (by omega); exact ⟨by omega, this.2⟩
      · split
        · exact ⟨by omega, e⟩
        · have := h2 (i - 1) (by omega); exact ⟨by omega, this.2⟩
    · exact ⟨by omega, fun i hi => ⟨by have := (h2 i hi).1; omega, (h2 i hi).2⟩⟩
/-- something happens -/
def evB (G : Nat → Int) : Nat → Int := if G 7 = 60 then (fun i => if i = 7 then 59 else if 2736 ≤ i ∧ i < 2913 then G (i + 3) else G i) else G
def evF (G : Nat → Int) (kind : Int) (j : Nat) : Nat → Int :=
  zupd (zupd (zupd (zupd (evB G) (2736 + 3 * (evB G 7).toNat) (G 0)) (2736 + 3 * (evB G 7).toNat + 1) kind) (2736 + 3 * (evB G 7).toNat + 2) j) 7 (evB G 7 + 1)
theorem evF_o {G : Nat → Int} (h7 : 0 ≤ G 7 ∧ G 7 ≤ 60) {kind : Int} {j i : Nat} (hi : i < 7 ∨ 8 ≤ i ∧ i < 2736 ∨ 2916 ≤ i) : evF G kind j i = G i := by
  have h : 0 ≤ evB G 7 ∧ evB G 7 ≤ 59 := by
    unfold evB
    split
    · show 0 ≤ (if 7 = 7 then (59 : Int) else _) ∧ (if 7 = 7 then (59 : Int) else _) ≤ 59
      rw [if_pos rfl]; omega
    · omega
  unfold evF
  rw [udn (by omega), udn (by omega), udn (by omega), udn (by omega)]
  unfold evB
  split
  · dsimp only; rw [if_neg (by omega), if_neg (by omega)]
  · rfl
theorem evF_7 {G : Nat → Int} (h7 : 0 ≤ G 7 ∧ G 7 ≤ 60) {kind : Int} {j : Nat} : 0 ≤ evF G kind j 7 ∧ evF G kind j 7 ≤ 60 := by
  unfold evF
  rw [ude]
  unfold evB
  split
  · show 0 ≤ (if 7 = 7 then (59 : Int) else _) + 1 ∧ (if 7 = 7 then (59 : Int) else _) + 1 ≤ 60
    rw [if_pos rfl]; omega
  · omega
def lastsF (G : Nat → Int) (j a : Nat) : Int := max 1 (G (96 + 32 * j + (16 + a)) * G (96 + 32 * j + 2) / 100)
/-- a job starts, its arms at f, as long as they ask -/
def stA (G : Nat → Int) (j : Nat) (f ask : Nat → Int) (n : Nat) : Nat → Int := fun i =>
  if i = 96 + 32 * j + 5 then 1 else if i = 96 + 32 * j + 6 then G 0 else if 96 + 32 * j + 20 ≤ i ∧ i < 96 + 32 * j + 20 + n then f (i - (96 + 32 * j + 20))
  else if 96 + 32 * j + 24 ≤ i ∧ i < 96 + 32 * j + 24 + n then G 0 + min (ask (i - (96 + 32 * j + 24))) (lastsF G j (i - (96 + 32 * j + 24))) else G i
def stG (G : Nat → Int) (j : Nat) (f ask : Nat → Int) (n : Nat) : Nat → Int :=
  zupd (zupd (evF (stA G j f ask n) 1 j) (2656 + (G 6).toNat) j) 6 (G 6 + 1)
def stU (G U : Nat → Int) (j : Nat) : Nat → Int := zupd (zupd U 8 (U 8 + 1)) 13 (U 13 + (G 0 - G (96 + 32 * j + 11)))
/-- a job is promised tick t, its arms at f -/
def prG (G : Nat → Int) (j : Nat) (was t : Int) (f : Nat → Int) (n : Nat) : Nat → Int :=
  let G1 := fun i => if i = 96 + 32 * j + 9 then t else if 96 + 32 * j + 28 ≤ i ∧ i < 96 + 32 * j + 28 + n then f (i - (96 + 32 * j + 28)) else if i = 96 + 32 * j + 8 ∧ G i < 0 then t else G i
  if was = t then G1 else evF G1 5 j
def hofF (G : Nat → Int) (c : Nat) : Int := firstN (fun j => anyN (fun a => hld G j a && heldc G j a c) (G (96 + 32 * j + 4)).toNat) (G 1).toNat
/-- a running job may end -/
def lastEnd (G : Nat → Int) (j : Nat) : Nat → Int
  | 0 => 0
  | a + 1 => max (lastEnd G j a) (G (96 + 32 * j + (24 + a)))
def isCutF (G : Nat → Int) (j : Nat) : Bool := anyN (fun a => decide (G (96 + 32 * j + (16 + a)) < lastsF G j a)) (G (96 + 32 * j + 4)).toNat
def enG (G : Nat → Int) (j : Nat) : Nat → Int :=
  if lastEnd G j (G (96 + 32 * j + 4)).toNat ≤ G 0 then evF (zupd (zupd G (96 + 32 * j + 5) (if isCutF G j = true then 3 else 2)) (96 + 32 * j + 7) (G 0)) (if isCutF G j = true then 3 else 2) j else G
def enU (G U : Nat → Int) (j : Nat) : Nat → Int :=
  if lastEnd G j (G (96 + 32 * j + 4)).toNat ≤ G 0 then (if isCutF G j = true then zupd U 10 (U 10 + 1) else zupd U 9 (U 9 + 1)) else U
/-! THE MODEL: sums, the line -/
theorem c_columnsOf {d : Nat} {Q : ZQ} {H : ZH} {m : Nat} {s : MS} {j : Nat} (hM : MI H m) (hg : gok (s 1)) (hj : (j : Int) < s 1 1)
    (h : Q [zI (colsF (s 1) j)] (mput H m s)) : zcall ztb (d + 2) mX6_columnsOf [zR m, zI j] (mput H m s) Q := by
  have hh := hg.1
  unfold hok at hh
  obtain ⟨hj1, ha⟩ := hg.2.1 j hj
  unfold jok at hj1
  have main : ∀ i n : Nat, (n : Int) + i = s 1 (96 + 32 * j + 4) →
      zwp (zcall ztb (d + 1)) t_X6_columnsOf Q 4 [some (zR m), some (zI j), some (zI (sumN (fun a => s 1 (96 + 32 * j + (12 + a))) n)), some (zI n)] [] (mput H m s) := by
    intro i
    induction i with
    | zero =>
      intro n hn
      apply bm_X6_columnsOf_4 hM
      simp (disch := omega) only [zw_id, jx, Int.reduceToNat]
      refine ⟨by omega, fun _ => ?_, fun e => absurd e (by omega)⟩
      unfold colsF at h
      rw [show (s 1 (96 + 32 * j + 4)).toNat = n by omega] at h; exact h
    | succ i ih =>
      intro n hn
      have ih := ih (n + 1) (by omega)
      apply bm_X6_columnsOf_4 hM
      simp (disch := omega) only [zw_id, jx, jxa, Int.reduceToNat]
      refine ⟨by omega, fun e => absurd e (by omega), fun _ => ⟨by omega, ih⟩⟩
  exact bm_X6_columnsOf hM (main (s 1 (96 + 32 * j + 4)).toNat 0 (by omega))
theorem c_heldBy {d : Nat} {Q : ZQ} {H : ZH} {m : Nat} {s : MS} {acct : Int} (hM : MI H m) (hg : gok (s 1)) (hac : 0 ≤ acct ∧ acct ≤ 7)
    (h : Q [zI (heldF (s 1) acct)] (mput H m s)) : zcall ztb (d + 3) mX6_heldBy [zR m, zI acct] (mput H m s) Q := by
  have hh := hg.1
  unfold hok at hh
  have l4 : ∀ i j : Nat, (j : Int) + i = s 1 1 →
      zwp (zcall ztb (d + 2)) t_X6_heldBy Q 4 [some (zR m), some (zI acct), some (zI (sumN (hbJ (s 1) acct) j)), some (zI j), none] [] (mput H m s) := by
    intro i
    induction i with
    | zero =>
      intro j hj
      apply bm_X6_heldBy_4 hM
      simp (disch := omega) only [zw_id]
      refine ⟨fun _ => ?_, fun e => absurd e (by omega)⟩
      unfold heldF at h
      rw [show (s 1 1).toNat = j by omega] at h; exact h
    | succ i ih =>
      intro j hj
      obtain ⟨hj1, hA⟩ := hg.2.1 j (by omega)
      unfold jok at hj1
      have l17 : ∀ i a : Nat, ∀ x : Int, (a : Int) + i = s 1 (96 + 32 * j + 4) → x = sumN (hbJ (s 1) acct) j + sumN (fun a => if (decide (s 1 (96 + 32 * j) = acct) && hld (s 1) j a) = true then s 1 (96 + 32 * j + (12 + a)) else 0) a →
          zwp (zcall ztb (d + 2)) t_X6_heldBy Q 17 [some (zR m), some (zI acct), some (zI x), some (zI j), some (zI a)] [] (mput H m s) := by
        intro i
        induction i with
        | zero =>
          intro a x ha hx
          apply bm_X6_heldBy_17 hM
          simp (disch := omega) only [zw_id, jx, Int.reduceToNat]
          refine ⟨by omega, fun _ => ?_, fun e => absurd e (by omega)⟩
          have ih := ih (j + 1) (by omega)
          rw [sumN_s] at ih
          conv at ih => arg 5; unfold hbJ
          rw [show (s 1 (96 + 32 * j + 4)).toNat = a by omega] at ih
          rw [hx]; exact ih
        | succ i ih2 =>
          intro a x ha hx
          have hA := hA a (by omega)
          unfold aok at hA
          have ih2 := fun x => ih2 (a + 1) x (by omega)
          rw [sumN_s] at ih2
          apply bm_X6_heldBy_17 hM
          simp (disch := omega) only [zw_id, jx, jxa, Int.reduceToNat, Nat.add_zero]
          repeat' (first | with_reducible apply And.intro | with_reducible intro _)
          all_goals first | omega | (refine ih2 _ ?_; rw [hx, Int.add_assoc]; refine congrArg (_ + ·) (congrArg (_ + ·) ?_); unfold hld; simp only [Bool.and_eq_true, decide_eq_true_eq]; split <;> omega)
      apply bm_X6_heldBy_4 hM
      simp (disch := omega) only [zw_id]
      exact ⟨fun e => absurd e (by omega), fun _ => l17 (s 1 (96 + 32 * j + 4)).toNat 0 _ (by omega) (by simp [sumN])⟩
  exact bm_X6_heldBy hM (l4 (s 1 1).toNat 0 (by omega))
theorem c_spans {d : Nat} {Q : ZQ} {H : ZH} {m : Nat} {s : MS} (hM : MI H m) (hg : gok (s 1))
    (h : Q [zI (spansF (s 1))] (mput H m s)) : zcall ztb (d + 3) mX6_spans [zR m] (mput H m s) Q := by
  have main : ∀ i n : Nat, ∀ x : Int, n + i = 12 → x = sumN (fun x => if 0 ≤ s 1 (24 + 6 * x) then 1 else 0) n →
      zwp (zcall ztb (d + 2)) t_X6_spans Q 4 [some (zR m), some (zI x), some (zI n)] [] (mput H m s) := by
    intro i
    induction i with
    | zero =>
      intro n x hn hx
      have hn : n = 12 := by omega
      subst hn
      apply bm_X6_spans_4 hM
      exact ⟨fun _ => by rw [hx]; exact h, fun e => absurd (by decide) e⟩
    | succ i ih =>
      intro n x hn hx
      have hs := hg.2.2 n (by omega)
      unfold sok at hs
      have ih := fun x => ih (n + 1) x (by omega)
      rw [sumN_s] at ih
      apply bm_X6_spans_4 hM
      simp (disch := omega) only [zw_id, sx, Int.reduceToNat, Nat.add_zero]
      repeat' (first | with_reducible apply And.intro | with_reducible intro _)
      all_goals first | omega | (refine ih _ ?_; split <;> omega)
  exact bm_X6_spans hM (main 12 0 0 rfl rfl)
theorem c_ofThese {d : Nat} {Q : ZQ} {H : ZH} {m : Nat} {s : MS} {how : Int} (hM : MI H m) (hg : gok (s 1)) (hhow : 0 ≤ how ∧ how ≤ 4)
    (h : Q [zI (theseF (s 1) how)] (mput H m s)) : zcall ztb (d + 2) mX6_ofThese [zR m, zI how] (mput H m s) Q := by
  have hh := hg.1
  unfold hok at hh
  have main : ∀ i n : Nat, ∀ x : Int, (n : Int) + i = s 1 1 → x = sumN (fun j => if s 1 (96 + 32 * j + 5) = how then 1 else 0) n →
      zwp (zcall ztb (d + 1)) t_X6_ofThese Q 4 [some (zR m), some (zI how), some (zI x), some (zI n)] [] (mput H m s) := by
    intro i
    induction i with
    | zero =>
      intro n x hn hx
      apply bm_X6_ofThese_4 hM
      simp (disch := omega) only [zw_id]
      refine ⟨fun _ => ?_, fun e => absurd e (by omega)⟩
      unfold theseF at h
      rw [show (s 1 1).toNat = n by omega] at h; rw [hx]; exact h
    | succ i ih =>
      intro n x hn hx
      obtain ⟨hj1, hA⟩ := hg.2.1 n (by omega)
      unfold jok at hj1
      have ih := fun x => ih (n + 1) x (by omega)
      rw [sumN_s] at ih
      apply bm_X6_ofThese_4 hM
      simp (disch := omega) only [zw_id, jx, Int.reduceToNat, Nat.add_zero]
      repeat' (first | with_reducible apply And.intro | with_reducible intro _)
      all_goals first | omega | (refine ih _ ?_; split <;> omega)
  exact bm_X6_ofThese hM (main (s 1 1).toNat 0 0 (by omega) rfl)
theorem mulb {a b A B : Int} (h1 : 0 ≤ a) (h2 : a ≤ A) (h3 : 0 ≤ b) (h4 : b ≤ B) : 0 ≤ a * b ∧ a * b ≤ A * B :=
  ⟨Int.mul_nonneg h1 h3, Int.mul_le_mul h2 h4 h3 (by omega)⟩
theorem c_byShare {d : Nat} {Q : ZQ} {H : ZH} {m : Nat} {s : MS} {a b : Nat} (hM : MI H m) (hg : gok (s 1)) (hu : uok (s 4)) (ha : a < 8) (hb : b < 8)
    (h : Q [zI (shF (s 1) (s 4) a b)] (mput H m s)) : zcall ztb (d + 1) mX6_byShare [zR m, zI a, zI b] (mput H m s) Q := by
  have hh := hg.1
  unfold hok at hh
  obtain ⟨_, _, _, _, _, _, _, _, hw⟩ := hh
  have wa := hw a ha
  have wb := hw b hb
  have ua := hu a ha
  have ub := hu b hb
  have m1 := mulb ua.1 ua.2 (by omega : 0 ≤ s 1 (8 + b)) wb.1.2
  have m2 := mulb ub.1 ub.2 (by omega : 0 ≤ s 1 (8 + a)) wa.1.2
  apply bm_X6_byShare hM
  rw [show ((8 : Int) + a).toNat = 8 + a by omega, show ((8 : Int) + b).toNat = 8 + b by omega, show ((0 : Int) + a).toNat = a by omega, show ((0 : Int) + b).toNat = b by omega]
  rw [zw_id (x := s 1 (8 + a)) (by omega) (by omega), zw_id (x := s 1 (8 + b)) (by omega) (by omega), zwl_id (x := s 4 a * s 1 (8 + b)) (by omega) (by omega), zwl_id (x := s 4 b * s 1 (8 + a)) (by omega) (by omega)]
  unfold shF at h
  refine ⟨by omega, by omega, by omega, by omega, fun e => ⟨fun e2 => ?_, fun e2 => ?_⟩, fun e => ?_⟩
  · rw [if_neg (by omega), if_neg (by omega)] at h; exact h
  · rw [if_neg (by omega), if_pos (by omega)] at h; exact h
  · rw [if_pos (by omega)] at h; exact h
theorem c_isAhead {d : Nat} {Q : ZQ} {H : ZH} {m : Nat} {s : MS} {j k : Nat} (hM : MI H m) (hg : gok (s 1)) (hu : uok (s 4)) (hj : (j : Int) < s 1 1) (hk : (k : Int) < s 1 1)
    (h : Q [zI (if ahd (s 1) (s 4) j k = true then 1 else 0)] (mput H m s)) : zcall ztb (d + 2) mX6_isAhead [zR m, zI j, zI k] (mput H m s) Q := by
  have hh := hg.1
  unfold hok at hh
  obtain ⟨hj1, hA⟩ := hg.2.1 j (by omega)
  unfold jok at hj1
  obtain ⟨hk1, hA⟩ := hg.2.1 k (by omega)
  unfold jok at hk1
  obtain ⟨a, ea⟩ := Int.eq_ofNat_of_zero_le hj1.1.1
  obtain ⟨b, eb⟩ := Int.eq_ofNat_of_zero_le hk1.1.1
  unfold ahd at h
  apply bm_X6_isAhead hM
  simp (disch := omega) only [zw_id, jx, Int.reduceToNat, Nat.add_zero]
  refine ⟨by omega, by omega, fun e => ⟨by omega, by omega, ?_⟩, fun e => ⟨fun e2 => ?_, fun e2 => ?_⟩⟩
  · rw [if_pos e, ea, eb, Int.toNat_natCast, Int.toNat_natCast] at h
    rw [ea, eb]
    refine c_byShare hM hg hu (by omega) (by omega) ?_
    have hs : -1 ≤ shF (s 1) (s 4) a b ∧ shF (s 1) (s 4) a b ≤ 1 := by unfold shF; split; omega; split <;> omega
    apply bm_X6_isAhead_52 hM
    simp (disch := omega) only [zw_id]
    refine ⟨fun e => ?_, fun e => ⟨fun e2 => ?_, fun e2 => ⟨fun e3 => ?_, fun e3 => ?_⟩⟩⟩
    · rw [if_pos (by simp [e])] at h; exact h
    · rw [if_neg (by simp [e, e2])] at h; exact h
    · rw [if_neg (by simp; omega)] at h; exact h
    · rw [if_pos (by simp; omega)] at h; exact h
  · rw [if_neg e, if_neg (by simp; omega)] at h; exact h
  · rw [if_neg e, if_pos (by simp; omega)] at h; exact h
theorem c_linesUp {d : Nat} {Q : ZQ} {H : ZH} {m : Nat} {s : MS} (hM : MI H m) (hg : gok (s 1)) (hu : uok (s 4))
    (h : ∀ A : Nat → Int, (∀ i, i < (lnF (s 1) (s 4) (s 1 1).toNat).2 → A i = ((lnF (s 1) (s 4) (s 1 1).toNat).1 i : Nat)) → Q [zI ((lnF (s 1) (s 4) (s 1 1).toNat).2 : Nat)] (mput H m (mset s 13 A))) :
    zcall ztb (d + 4) mX6_linesUp [zR m] (mput H m s) Q := by
  have hh := hg.1
  unfold hok at hh
  have main : ∀ i j : Nat, ∀ A : Nat → Int, ∀ n : Int, (j : Int) + i = s 1 1 → n = ((lnF (s 1) (s 4) j).2 : Nat) → (∀ i, i < (lnF (s 1) (s 4) j).2 → A i = ((lnF (s 1) (s 4) j).1 i : Nat)) →
      zwp (zcall ztb (d + 3)) t_X6_linesUp Q 4 [some (zR m), some (zI n), some (zI j), none] [] (mput H m (mset s 13 A)) := by
    intro i
    induction i with
    | zero =>
      intro j A n hj hn hA
      apply bm_X6_linesUp_4 hM
      simp (disch := omega) only [msn, zw_id]
      refine ⟨fun _ => ?_, fun e => absurd e (by omega)⟩
      rw [show (s 1 1).toNat = j by omega] at h
      rw [hn]; exact h A hA
    | succ i ih =>
      intro j A n hj hn hA
      subst hn
      obtain ⟨hj1, _⟩ := hg.2.1 j (by omega)
      unfold jok at hj1
      obtain ⟨hb1, hb2⟩ := lnF_b (s 1) (s 4) j
      have hno : inl (s 1) j = false → zwp (zcall ztb (d + 3)) t_X6_linesUp Q 4 [some (zR m), some (zI ((lnF (s 1) (s 4) j).2 : Nat)), some (zI (j + 1 : Nat)), none] [] (mput H m (mset s 13 A)) := fun e =>
        ih (j + 1) A _ (by omega) (by rw [lnF, if_neg (by rw [e]; decide)]) (by rw [lnF, if_neg (by rw [e]; decide)]; exact hA)
      have ins : inl (s 1) j = true → ∀ k : Nat, ∀ A' : Nat → Int, k ≤ (lnF (s 1) (s 4) j).2 → insP (ahd (s 1) (s 4) j) (lnF (s 1) (s 4) j).1 k = insP (ahd (s 1) (s 4) j) (lnF (s 1) (s 4) j).1 (lnF (s 1) (s 4) j).2 →
          (∀ i, i < (lnF (s 1) (s 4) j).2 + 1 → ¬ i = k → A' i = ((if i < k then (lnF (s 1) (s 4) j).1 i else (lnF (s 1) (s 4) j).1 (i - 1) : Nat) : Int)) →
          zwp (zcall ztb (d + 3)) t_X6_linesUp Q 24 [some (zR m), some (zI ((lnF (s 1) (s 4) j).2 : Nat)), some (zI j), some (zI k)] [] (mput H m (mset s 13 A')) := by
        intro hin k
        have fin : ∀ k : Nat, ∀ A' : Nat → Int, k ≤ (lnF (s 1) (s 4) j).2 → k = insP (ahd (s 1) (s 4) j) (lnF (s 1) (s 4) j).1 (lnF (s 1) (s 4) j).2 →
            (∀ i, i < (lnF (s 1) (s 4) j).2 + 1 → ¬ i = k → A' i = ((if i < k then (lnF (s 1) (s 4) j).1 i else (lnF (s 1) (s 4) j).1 (i - 1) : Nat) : Int)) →
            zwp (zcall ztb (d + 3)) t_X6_linesUp Q 4 [some (zR m), some (zI (((lnF (s 1) (s 4) j).2 : Nat) + 1)), some (zI (j + 1 : Nat)), none] [] (mput H m (mset s 13 (zupd A' k j))) := by
          intro k A' hk hp hA'
          refine ih (j + 1) _ _ (by omega) (by rw [lnF, if_pos hin]; dsimp only; omega) (fun i hi => ?_)
          rw [lnF, if_pos hin] at hi ⊢
          dsimp only at hi ⊢
          unfold zupd insA
          rw [← hp]
          by_cases e : i = k
          · subst e; simp
          · rw [if_neg e, hA' i hi e]
            by_cases e2 : i < k
            · rw [if_pos e2, if_pos e2]
            · rw [if_neg e2, if_neg e2, if_neg e]
        induction k with
        | zero =>
          intro A' hk hp hA'
          apply bm_X6_linesUp_24 hM
          simp (disch := omega) only [zw_id]
          refine ⟨fun _ => ⟨by omega, ?_⟩, fun e => absurd (by omega) e⟩
          rw [mup_mset, mse, mset_mset]
          exact fin 0 A' hk (by rw [← hp]; rfl) hA'
        | succ k ihk =>
          intro A' hk hp hA'
          have hAk : A' k = ((lnF (s 1) (s 4) j).1 k : Nat) := by rw [hA' k (by omega) (by omega), if_pos (by omega)]
          have hlt := hb2 k (by omega)
          apply bm_X6_linesUp_24 hM
          simp (disch := omega) only [zw_id]
          refine ⟨fun e => absurd e (by omega), fun _ => ⟨by omega, ?_⟩⟩
          rw [show (((k + 1 : Nat) : Int) - 1).toNat = k by omega]
          simp only [mse]
          rw [hAk]
          refine c_isAhead (d := d + 1) (s := mset s 13 A') hM hg hu (by show (j : Int) < s 1 1; omega) (by show (_ : Int) < s 1 1; omega) ?_
          show zwp (zcall ztb (d + 3)) t_X6_linesUp Q 41 [some (zR m), some (zI ((lnF (s 1) (s 4) j).2 : Nat)), some (zI j), some (zI (k + 1 : Nat))] [zI (if ahd (s 1) (s 4) j ((lnF (s 1) (s 4) j).1 k) = true then 1 else 0)] (mput H m (mset s 13 A'))
          rw [insP] at hp
          apply bm_X6_linesUp_41 hM
          by_cases hah : ahd (s 1) (s 4) j ((lnF (s 1) (s 4) j).1 k) = true
          · rw [if_pos hah] at hp ⊢
            simp (disch := omega) only [zw_id]
            refine ⟨fun e => absurd e (by decide), fun _ => ⟨by omega, by omega, ?_⟩⟩
            rw [show (((k + 1 : Nat) : Int) - 1).toNat = k by omega, show (((k + 1 : Nat) : Int)).toNat = k + 1 by omega, show (((k + 1 : Nat) : Int)) + -1 = (k : Nat) by omega]
            simp only [mse]
            rw [mup_mset, mse, mset_mset, hAk]
            refine ihk _ (by omega) hp (fun i hi he => ?_)
            unfold zupd
            by_cases e : i = k + 1
            · subst e; rw [if_pos rfl, if_neg (by omega)]; rfl
            · rw [if_neg e, hA' i hi e]
              by_cases e2 : i < k
              · rw [if_pos (by omega), if_pos e2]
              · rw [if_neg (by omega), if_neg e2]
          · rw [if_neg hah] at hp ⊢
            simp (disch := omega) only [zw_id]
            refine ⟨fun _ => ⟨by omega, ?_⟩, fun e => absurd (by decide) e⟩
            rw [mup_mset, mse, mset_mset, show (((k + 1 : Nat) : Int)).toNat = k + 1 by omega]
            exact fin (k + 1) A' hk hp hA'
      have ins0 : inl (s 1) j = true → zwp (zcall ztb (d + 3)) t_X6_linesUp Q 24 [some (zR m), some (zI ((lnF (s 1) (s 4) j).2 : Nat)), some (zI j), some (zI ((lnF (s 1) (s 4) j).2 : Nat))] [] (mput H m (mset s 13 A)) := fun e =>
        ins e _ A (Nat.le_refl _) rfl (fun i hi he => by rw [if_pos (by omega)]; exact hA i (by omega))
      apply bm_X6_linesUp_4 hM
      simp (disch := omega) only [msn, zw_id, jx, Int.reduceToNat, Nat.add_zero]
      refine ⟨fun e => absurd e (by omega), fun _ => ⟨by omega, by omega, fun e => hno (by unfold inl; simp [e]), fun e => ⟨by omega, fun e2 => hno (by unfold inl; simp [e2]), fun e2 => ⟨fun e3 => ins0 ?_, fun e3 => ?_⟩⟩⟩⟩
      · unfold inl; simp only [Bool.and_eq_true, Bool.or_eq_true, decide_eq_true_eq]; omega
      · obtain ⟨k, hk⟩ := Int.eq_ofNat_of_zero_le (show 0 ≤ s 1 (96 + 32 * j + 3) by omega)
        obtain ⟨hk1, _⟩ := hg.2.1 k (by omega)
        unfold jok at hk1
        simp only [hk]
        simp (disch := omega) only [zw_id, jx, Int.reduceToNat]
        refine ⟨by omega, fun e4 => ins0 ?_, fun e4 => ⟨fun e5 => hno ?_, fun e5 => ins0 ?_⟩⟩
        · unfold inl; simp only [hk, Int.toNat_natCast, Bool.and_eq_true, Bool.or_eq_true, decide_eq_true_eq]; omega
        · unfold inl; rw [hk, Int.toNat_natCast]; simp; omega
        · unfold inl; simp only [hk, Int.toNat_natCast, Bool.and_eq_true, Bool.or_eq_true, decide_eq_true_eq]; omega
  have := main (s 1 1).toNat 0 (s 13) 0 (by omega) rfl (fun i hi => absurd hi (by simp [lnF]))
  rw [mset_self] at this
  exact bm_X6_linesUp hM this
/-! THE MODEL: happens, starts, promises, holderOf, ends -/
theorem c_happens {d : Nat} {Q : ZQ} {H : ZH} {m : Nat} {s : MS} {kind : Int} {j : Nat} (hM : MI H m) (h7 : 0 ≤ s 1 7 ∧ s 1 7 ≤ 60)
    (h : Q [] (mput H m (mset s 1 (evF (s 1) kind j)))) : zcall ztb (d + 1) mX6_happens [zR m, zI kind, zI j] (mput H m s) Q := by
  have fin : ∀ B : Nat → Int, 0 ≤ B 7 → B 7 ≤ 59 → evF (s 1) kind j = zupd (zupd (zupd (zupd B (2736 + 3 * (B 7).toNat) (B 0)) (2736 + 3 * (B 7).toNat + 1) kind) (2736 + 3 * (B 7).toNat + 2) j) 7 (B 7 + 1) →
      Q [] (mput H m (mup (mup (mup (mup (mset s 1 B) 1 ((2736 + (3 * (B 7))).toNat) (B 0)) 1 (((2736 + (3 * (B 7))) + 1).toNat) kind) 1 (((2736 + (3 * (B 7))) + 2).toNat) j) 1 7 (B 7 + 1))) := by
    intro B h1 h2 he
    have e : mup (mup (mup (mup (mset s 1 B) 1 ((2736 + (3 * (B 7))).toNat) (B 0)) 1 (((2736 + (3 * (B 7))) + 1).toNat) kind) 1 (((2736 + (3 * (B 7))) + 2).toNat) j) 1 7 (B 7 + 1) = mset s 1 (evF (s 1) kind j) := by
      rw [he]
      simp only [mup_mset, mse, mset_mset]
      rw [show ((2736 + (3 * (B 7))).toNat) = 2736 + 3 * (B 7).toNat by omega, show (((2736 + (3 * (B 7))) + 1).toNat) = 2736 + 3 * (B 7).toNat + 1 by omega, show (((2736 + (3 * (B 7))) + 2).toNat) = 2736 + 3 * (B 7).toNat + 2 by omega]
    rw [e]; exact h
  apply bm_X6_happens hM
  simp (disch := omega) only [zw_id]
  refine ⟨fun e => ⟨by omega, by omega, by omega, ?_⟩, fun e => ?_⟩
  · have := fin (s 1) (by omega) (by omega) (by unfold evF evB; rw [if_neg (by omega)])
    rw [mset_self] at this
    simp (disch := omega) only [mup_mset, mse, mset_mset, udn] at this ⊢
    exact this
  · have e60 : s 1 7 = 60 := by omega
    have main : ∀ i k : Nat, k + i = 177 → zwp (zcall ztb d) t_X6_happens Q 14 [some (zR m), some (zI kind), some (zI j), some (zI k)] [] (mput H m (mset s 1 (fun i => if 2736 ≤ i ∧ i < 2736 + k then s 1 (i + 3) else s 1 i))) := by
      intro i
      induction i with
      | zero =>
        intro k hk
        have hk : k = 177 := by omega
        subst hk
        apply bm_X6_happens_14 hM
        have hf := fin (zupd (fun i => if 2736 ≤ i ∧ i < 2736 + 177 then s 1 (i + 3) else s 1 i) 7 59) (by rw [ude]; omega) (by rw [ude]; omega) (by
          unfold evF evB
          rw [if_pos e60]
          have e1 : (fun i => if i = 7 then (59 : Int) else if 2736 ≤ i ∧ i < 2913 then s 1 (i + 3) else s 1 i) = zupd (fun i => if 2736 ≤ i ∧ i < 2736 + 177 then s 1 (i + 3) else s 1 i) 7 59 := rfl
          rw [e1]
          rfl)
        have e7 : (if 2736 ≤ 7 ∧ 7 < 2736 + 177 then s 1 (7 + 3) else s 1 7) = s 1 7 := by rw [if_neg (by omega)]
        have e0 : (if 2736 ≤ 0 ∧ 0 < 2736 + 177 then s 1 (0 + 3) else s 1 0) = s 1 0 := by rw [if_neg (by omega)]
        refine ⟨fun _ => ?_, fun e => absurd (by decide) e⟩
        simp (disch := omega) only [mup_mset, mse, mset_mset, udn, ude] at hf ⊢
        simp only [e7, e60, show (60 : Int) - 1 = 59 by decide] at hf ⊢
        rw [e0] at hf ⊢
        exact ⟨by omega, by omega, by omega, hf⟩
      | succ i ih =>
        intro k hk
        have ih := ih (k + 1) (by omega)
        apply bm_X6_happens_14 hM
        simp (disch := omega) only [zw_id]
        refine ⟨fun e => absurd e (by omega), fun _ => ⟨by omega, by omega, ?_⟩⟩
        rw [show ((2736 : Int) + k).toNat = 2736 + k by omega, show (((2736 : Int) + k) + 3).toNat = 2736 + k + 3 by omega]
        simp only [mup_mset, mse, mset_mset]
        rw [if_neg (by omega)]
        have e : (fun i => if 2736 ≤ i ∧ i < 2736 + (k + 1) then s 1 (i + 3) else s 1 i) = zupd (fun i => if 2736 ≤ i ∧ i < 2736 + k then s 1 (i + 3) else s 1 i) (2736 + k) (s 1 (2736 + k + 3)) := by
          funext i'
          unfold zupd
          by_cases e : i' = 2736 + k
          · subst e; rw [if_pos (by omega), if_pos rfl]
          · rw [if_neg e]
            by_cases e2 : 2736 ≤ i' ∧ i' < 2736 + k
            · rw [if_pos (by omega)]; exact (if_pos e2).symm
            · rw [if_neg (by omega)]; exact (if_neg e2).symm
        rw [← e]; exact ih
    have := main 177 0 rfl
    rw [show (fun i => if 2736 ≤ i ∧ i < 2736 + 0 then s 1 (i + 3) else s 1 i) = s 1 from funext fun i => if_neg (by omega), mset_self] at this
    exact this
theorem tdiv100 {x : Int} (h : 0 ≤ x) : Int.tdiv x 100 = x / 100 := Int.tdiv_eq_ediv_of_nonneg h
theorem stA_n (G : Nat → Int) (j : Nat) (f ask : Nat → Int) (n : Nat) (hn : n < 4) : zupd (zupd (stA G j f ask n) (96 + 32 * j + (20 + n)) (f n)) (96 + 32 * j + (24 + n)) (G 0 + min (ask n) (lastsF G j n)) = stA G j f ask (n + 1) := by
  funext i
  unfold zupd stA
  by_cases h1 : i = 96 + 32 * j + (24 + n)
  · subst h1
    rw [if_pos rfl, if_neg (by omega), if_neg (by omega), if_neg (by omega), if_pos (by omega)]
    rw [show 96 + 32 * j + (24 + n) - (96 + 32 * j + 24) = n by omega]
  · rw [if_neg h1]
    by_cases h2 : i = 96 + 32 * j + (20 + n)
    · subst h2
      rw [if_pos rfl, if_neg (by omega), if_neg (by omega), if_pos (by omega)]
      rw [show 96 + 32 * j + (20 + n) - (96 + 32 * j + 20) = n by omega]
    · rw [if_neg h2]
      by_cases h3 : 96 + 32 * j + 20 ≤ i ∧ i < 96 + 32 * j + 20 + n
      · simp only [if_pos h3, if_pos (show 96 + 32 * j + 20 ≤ i ∧ i < 96 + 32 * j + 20 + (n + 1) by omega)]
      · by_cases h4 : 96 + 32 * j + 24 ≤ i ∧ i < 96 + 32 * j + 24 + n
        · simp only [if_neg h3, if_neg (show ¬ (96 + 32 * j + 20 ≤ i ∧ i < 96 + 32 * j + 20 + (n + 1)) by omega), if_pos h4, if_pos (show 96 + 32 * j + 24 ≤ i ∧ i < 96 + 32 * j + 24 + (n + 1) by omega)]
        · simp only [if_neg h3, if_neg (show ¬ (96 + 32 * j + 20 ≤ i ∧ i < 96 + 32 * j + 20 + (n + 1)) by omega), if_neg h4, if_neg (show ¬ (96 + 32 * j + 24 ≤ i ∧ i < 96 + 32 * j + 24 + (n + 1)) by omega)]
theorem stA_0 (G : Nat → Int) (j : Nat) (f ask : Nat → Int) : stA G j f ask 0 = zupd (zupd G (96 + 32 * j + 5) 1) (96 + 32 * j + 6) (G 0) := by
  funext i
  unfold zupd stA
  by_cases h1 : i = 96 + 32 * j + 5
  · subst h1; rw [if_pos rfl, if_neg (by omega), if_pos rfl]
  · rw [if_neg h1, if_neg h1]
    by_cases h2 : i = 96 + 32 * j + 6
    · rw [if_pos h2, if_pos h2]
    · rw [if_neg h2, if_neg h2, if_neg (by omega), if_neg (by omega)]
theorem stA_o {G : Nat → Int} {j : Nat} {f ask : Nat → Int} {n i : Nat} (hn : n ≤ 4) (h : i < 96 + 32 * j + 5 ∨ 96 + 32 * j + 7 ≤ i ∧ i < 96 + 32 * j + 20 ∨ 96 + 32 * j + 28 ≤ i) : stA G j f ask n i = G i := by
  unfold stA
  rw [if_neg (by omega), if_neg (by omega), if_neg (by omega), if_neg (by omega)]
theorem c_starts {d : Nat} {Q : ZQ} {H : ZH} {m : Nat} {s : MS} {j : Nat} (hM : MI H m) (hg : gok (s 1)) (ha : amok s) (hj : (j : Int) < s 1 1) (hn : s 0 110 = s 1 (96 + 32 * j + 4)) (h6 : s 1 6 < 80)
    (h : Q [] (mput H m (mset (mset s 1 (stG (s 1) j (s 10) (s 9) (s 0 110).toNat)) 4 (stU (s 1) (s 4) j)))) : zcall ztb (d + 3) mX6_starts [zR m, zI j] (mput H m s) Q := by
  have hh := hg.1
  unfold hok at hh
  obtain ⟨hj1, hA⟩ := hg.2.1 j hj
  unfold jok at hj1
  obtain ⟨ha1, ha2, ha3⟩ := ha
  have main : ∀ i n : Nat, (n : Int) + i = s 0 110 →
      zwp (zcall ztb (d + 2)) t_X6_starts Q 22 [some (zR m), some (zI j), some (zI n)] [] (mput H m (mset s 1 (stA (s 1) j (s 10) (s 9) n))) := by
    intro i
    induction i with
    | zero =>
      intro n hn1
      apply bm_X6_starts_22 hM
      simp (disch := omega) only [msn, zw_id]
      refine ⟨fun _ => ?_, fun e => absurd e (by omega)⟩
      have hnn : n = (s 0 110).toNat := by omega
      subst hnn
      have o : ∀ i, i < 7 ∨ 2656 ≤ i → stA (s 1) j (s 10) (s 9) (s 0 110).toNat i = s 1 i := fun i hi => stA_o (by omega) (by omega)
      refine c_happens (d := d + 1) (s := mset s 1 (stA (s 1) j (s 10) (s 9) (s 0 110).toNat)) hM (by rw [mse, stA_o (by omega) (by omega)]; omega) ?_
      show zwp _ _ _ 88 [_, _, _] [] _
      rw [mse, mset_mset]
      have b7 : 0 ≤ stA (s 1) j (s 10) (s 9) (s 0 110).toNat 7 ∧ stA (s 1) j (s 10) (s 9) (s 0 110).toNat 7 ≤ 60 := by rw [stA_o (by omega) (by omega)]; omega
      have e6 : evF (stA (s 1) j (s 10) (s 9) (s 0 110).toNat) 1 j 6 = s 1 6 := by rw [evF_o b7 (by omega), o _ (by omega)]
      have e0 : evF (stA (s 1) j (s 10) (s 9) (s 0 110).toNat) 1 j 0 = s 1 0 := by rw [evF_o b7 (by omega), o _ (by omega)]
      have e11 : evF (stA (s 1) j (s 10) (s 9) (s 0 110).toNat) 1 j (96 + 32 * j + 11) = s 1 (96 + 32 * j + 11) := by rw [evF_o b7 (by omega), stA_o (by omega) (by omega)]
      apply bm_X6_starts_88 hM
      simp (disch := omega) only [jx, Int.reduceToNat, mup_mset, mse, msn, mset_mset, e6]
      rw [show ((2656 : Int) + s 1 6).toNat = 2656 + (s 1 6).toNat by omega]
      simp (disch := omega) only [ude, udn, e6, e0, e11, zw_id]
      refine ⟨by omega, by omega, ?_⟩
      have e : mset (mset (mset s 1 (evF (stA (s 1) j (s 10) (s 9) (s 0 110).toNat) 1 j)) 4 (zupd (s 4) 8 (s 4 8 + 1))) 4 (s 4) = mset (mset s 1 (evF (stA (s 1) j (s 10) (s 9) (s 0 110).toNat) 1 j)) 4 (s 4) := mset_mset _ _ _ _
      unfold stG stU at h
      exact h
    | succ i ih =>
      intro n hn1
      have ih := ih (n + 1) (by omega)
      rw [← stA_n _ _ _ _ _ (by omega)] at ih
      have hA := hA n (by omega)
      unfold aok at hA
      have h3 := ha3 n (by omega)
      have ml := mulb (show 0 ≤ s 1 (96 + 32 * j + (16 + n)) by omega) hA.2.1.2 (show 0 ≤ s 1 (96 + 32 * j + 2) by omega) hj1.2.2.1.2
      have e16 : stA (s 1) j (s 10) (s 9) n (96 + 32 * j + (16 + n)) = s 1 (96 + 32 * j + (16 + n)) := stA_o (by omega) (by omega)
      have e2 : stA (s 1) j (s 10) (s 9) n (96 + 32 * j + 2) = s 1 (96 + 32 * j + 2) := stA_o (by omega) (by omega)
      have e0 : stA (s 1) j (s 10) (s 9) n 0 = s 1 0 := stA_o (by omega) (by omega)
      apply bm_X6_starts_22 hM
      simp (disch := omega) only [msn, zw_id, jx, jxa, Int.reduceToNat, Int.toNat_natCast, mup_mset, mse, mset_mset, udn, e16, e2, e0, tdiv100]
      have hl : lastsF (s 1) j n = max 1 (s 1 (96 + 32 * j + (16 + n)) * s 1 (96 + 32 * j + 2) / 100) := rfl
      rw [hl] at ih
      refine ⟨fun e => absurd e (by omega), fun _ => ⟨by omega, by omega, by omega, by omega, by omega, fun e => ⟨fun e2 => ⟨by omega, ?_⟩, fun e2 => ⟨by omega, ?_⟩⟩, fun e => ⟨fun e2 => ⟨by omega, ?_⟩, fun e2 => ⟨by omega, ?_⟩⟩⟩⟩
      · rw [show min (s 9 n) (max 1 (s 1 (96 + 32 * j + (16 + n)) * s 1 (96 + 32 * j + 2) / 100)) = s 1 (96 + 32 * j + (16 + n)) * s 1 (96 + 32 * j + 2) / 100 by omega] at ih; exact ih
      · rw [show min (s 9 n) (max 1 (s 1 (96 + 32 * j + (16 + n)) * s 1 (96 + 32 * j + 2) / 100)) = s 9 n by omega] at ih; exact ih
      · rw [show min (s 9 n) (max 1 (s 1 (96 + 32 * j + (16 + n)) * s 1 (96 + 32 * j + 2) / 100)) = 1 by omega] at ih; exact ih
      · rw [show min (s 9 n) (max 1 (s 1 (96 + 32 * j + (16 + n)) * s 1 (96 + 32 * j + 2) / 100)) = s 9 n by omega] at ih; exact ih
  have m0 := main (s 0 110).toNat 0 (by omega)
  rw [stA_0] at m0
  apply bm_X6_starts hM
  simp (disch := omega) only [jx, Int.reduceToNat, mup_mset, mse, mset_mset, udn]
  exact ⟨by omega, by omega, m0⟩
/-! THE MODEL: promises, holderOf, ends -/
def prA (G : Nat → Int) (j : Nat) (t : Int) (f : Nat → Int) (n : Nat) : Nat → Int := fun i => if i = 96 + 32 * j + 9 then t else if 96 + 32 * j + 28 ≤ i ∧ i < 96 + 32 * j + 28 + n then f (i - (96 + 32 * j + 28)) else G i
theorem prA_n (G : Nat → Int) (j : Nat) (t : Int) (f : Nat → Int) (n : Nat) : zupd (prA G j t f n) (96 + 32 * j + (28 + n)) (f n) = prA G j t f (n + 1) := by
  funext i
  unfold zupd prA
  by_cases h1 : i = 96 + 32 * j + (28 + n)
  · subst h1
    rw [if_pos rfl, if_neg (by omega), if_pos (by omega)]
    rw [show 96 + 32 * j + (28 + n) - (96 + 32 * j + 28) = n by omega]
  · rw [if_neg h1]
    by_cases h3 : 96 + 32 * j + 28 ≤ i ∧ i < 96 + 32 * j + 28 + n
    · simp only [if_pos h3, if_pos (show 96 + 32 * j + 28 ≤ i ∧ i < 96 + 32 * j + 28 + (n + 1) by omega)]
    · simp only [if_neg h3, if_neg (show ¬ (96 + 32 * j + 28 ≤ i ∧ i < 96 + 32 * j + 28 + (n + 1)) by omega)]
theorem prA_0 (G : Nat → Int) (j : Nat) (t : Int) (f : Nat → Int) : prA G j t f 0 = zupd G (96 + 32 * j + 9) t := by
  funext i
  unfold zupd prA
  by_cases h1 : i = 96 + 32 * j + 9
  · rw [if_pos h1, if_pos h1]
  · rw [if_neg h1, if_neg h1, if_neg (by omega)]
theorem prA_o {G : Nat → Int} {j : Nat} {t : Int} {f : Nat → Int} {n i : Nat} (hn : n ≤ 4) (h : i < 96 + 32 * j + 9 ∨ 96 + 32 * j + 10 ≤ i ∧ i < 96 + 32 * j + 28 ∨ 96 + 32 * j + 32 ≤ i) : prA G j t f n i = G i := by
  unfold prA
  rw [if_neg (by omega), if_neg (by omega)]
theorem prG_eq (G : Nat → Int) (j : Nat) (was t : Int) (f : Nat → Int) (n : Nat) (hn : n ≤ 4) : prG G j was t f n =
    if was = t then (if G (96 + 32 * j + 8) < 0 then zupd (prA G j t f n) (96 + 32 * j + 8) t else prA G j t f n) else evF (if G (96 + 32 * j + 8) < 0 then zupd (prA G j t f n) (96 + 32 * j + 8) t else prA G j t f n) 5 j := by
  have e : (fun i => if i = 96 + 32 * j + 9 then t else if 96 + 32 * j + 28 ≤ i ∧ i < 96 + 32 * j + 28 + n then f (i - (96 + 32 * j + 28)) else if i = 96 + 32 * j + 8 ∧ G i < 0 then t else G i) =
      (if G (96 + 32 * j + 8) < 0 then zupd (prA G j t f n) (96 + 32 * j + 8) t else prA G j t f n) := by
    funext i
    by_cases h : G (96 + 32 * j + 8) < 0
    · rw [if_pos h]
      unfold zupd prA
      by_cases h8 : i = 96 + 32 * j + 8
      · subst h8; rw [if_pos rfl, if_neg (by omega), if_neg (by omega), if_pos ⟨rfl, h⟩]
      · rw [if_neg h8]
        have : ¬ (i = 96 + 32 * j + 8 ∧ G i < 0) := fun q => h8 q.1
        rw [if_neg this]
    · rw [if_neg h]
      unfold prA
      have : ¬ (i = 96 + 32 * j + 8 ∧ G i < 0) := fun q => h (by have := q.2; rw [q.1] at this; exact this)
      rw [if_neg this]
  unfold prG
  dsimp only
  rw [e]
theorem c_promises {d : Nat} {Q : ZQ} {H : ZH} {m : Nat} {s : MS} {j : Nat} (hM : MI H m) (hg : gok (s 1)) (hk : skok s) (ha : amok s) (hj : (j : Int) < s 1 1) (hb : -1 ≤ s 14 j ∧ s 14 j ≤ 200000)
    (h1 : ∀ t, s 1 0 + 1 ≤ t → t ≤ s 1 0 + 20000 → fitOK s t = true → fsR s 300000 (s 1 0 + 1) t → ∀ f, (∀ a : Nat, (a : Int) < s 0 110 → f a = fitF s t a) → Q [zI 1] (mput H m (mset (mset s 10 f) 1 (prG (s 1) j (s 14 j) t f (s 0 110).toNat))))
    (h0 : fsR s 300000 (s 1 0 + 1) (-1) → ∀ f, Q [zI 0] (mput H m (mset s 10 f))) : zcall ztb (d + 6) mX6_promises [zR m, zI j] (mput H m s) Q := by
  have hh := hg.1
  unfold hok at hh
  obtain ⟨hj1, hA⟩ := hg.2.1 j hj
  unfold jok at hj1
  have ha' := ha
  obtain ⟨ha1, ha2, ha3⟩ := ha'
  apply bm_X6_promises (d := d + 4) hM
  refine c_first hM hg hk ha (by omega) (fun r hr1 hr2 hr3 hr4 f hf => ?_) (fun hr f => ?_)
  · apply bm_X6_promises_12 (d := d + 4) hM
    simp (disch := omega) only [zw_id, jx, Int.reduceToNat, mup_mset, mse, msn]
    refine ⟨fun _ => ⟨by omega, ?_⟩, fun e => absurd e (by omega)⟩
    have main : ∀ i n : Nat, (n : Int) + i = s 0 110 →
        zwp (zcall ztb (d + 5)) t_X6_promises Q 29 [some (zR m), some (zI j), some (zI r), some (zI n)] [] (mput H m (mset (mset s 10 f) 1 (prA (s 1) j r f n))) := by
      intro i
      induction i with
      | zero =>
        intro n hn
        have h1 := h1 r hr1 hr2 hr3 hr4 f hf
        rw [prG_eq _ _ _ _ _ _ (by omega), show (s 0 110).toNat = n by omega] at h1
        have e8 : prA (s 1) j r f n (96 + 32 * j + 8) = s 1 (96 + 32 * j + 8) := prA_o (by omega) (by omega)
        have e7 : prA (s 1) j r f n 7 = s 1 7 := prA_o (by omega) (by omega)
        apply bm_X6_promises_29 (d := d + 4) hM
        simp (disch := omega) only [zw_id, jx, Int.reduceToNat, mup_mset, mse, msn, mset_mset, e8, Int.toNat_natCast]
        refine ⟨fun _ => ⟨by omega, fun e => ⟨by omega, fun e2 => ?_, fun e2 => ?_⟩, fun e => ⟨by omega, fun e2 => ?_, fun e2 => ?_⟩⟩, fun e => absurd e (by omega)⟩
        · rw [if_pos e2, if_neg (by omega)] at h1; exact h1
        · rw [if_neg e2, if_neg (by omega)] at h1
          refine c_happens (d := d + 4) (s := mset (mset s 10 f) 1 (prA (s 1) j r f n)) hM (by rw [mse, e7]; omega) ?_
          show zwp _ _ _ 92 [_, _, _, _] [] _
          rw [mse, mset_mset]
          exact bm_X6_promises_92 (d := d + 4) hM h1
        · rw [if_pos e2, if_pos (by omega)] at h1; exact h1
        · rw [if_neg e2, if_pos (by omega)] at h1
          refine c_happens (d := d + 4) (s := mset (mset s 10 f) 1 (zupd (prA (s 1) j r f n) (96 + 32 * j + 8) r)) hM (by rw [mse, udn (by omega), e7]; omega) ?_
          show zwp _ _ _ 92 [_, _, _, _] [] _
          rw [mse, mset_mset]
          exact bm_X6_promises_92 (d := d + 4) hM h1
      | succ i ih =>
        intro n hn
        have ih := ih (n + 1) (by omega)
        rw [← prA_n] at ih
        apply bm_X6_promises_29 (d := d + 4) hM
        simp (disch := omega) only [zw_id, jx, jxa, Int.reduceToNat, mup_mset, mse, msn, mset_mset, Int.toNat_natCast]
        exact ⟨fun e => absurd e (by omega), fun _ => ⟨by omega, by omega, ih⟩⟩
    have m0 := main (s 0 110).toNat 0 (by omega)
    rw [prA_0] at m0
    exact m0
  · apply bm_X6_promises_12 (d := d + 4) hM
    simp (disch := omega) only [zw_id]
    exact ⟨fun e => absurd e (by decide), fun _ => h0 hr f⟩
theorem c_holderOf {d : Nat} {Q : ZQ} {H : ZH} {m : Nat} {s : MS} {c : Nat} (hM : MI H m) (hg : gok (s 1)) (hc : c < 16)
    (h : Q [zI (hofF (s 1) c)] (mput H m s)) : zcall ztb (d + 3) mX6_holderOf [zR m, zI c] (mput H m s) Q := by
  have hh := hg.1
  unfold hok at hh
  have l2 : ∀ i j : Nat, (j : Int) + i = s 1 1 → firstN (fun j => anyN (fun a => hld (s 1) j a && heldc (s 1) j a c) (s 1 (96 + 32 * j + 4)).toNat) j = -1 →
      zwp (zcall ztb (d + 2)) t_X6_holderOf Q 2 [some (zR m), some (zI c), some (zI j), none] [] (mput H m s) := by
    intro i
    induction i with
    | zero =>
      intro j hj hf
      apply bm_X6_holderOf_2 hM
      simp (disch := omega) only [zw_id]
      refine ⟨fun _ => ?_, fun e => absurd e (by omega)⟩
      unfold hofF at h
      rw [show (s 1 1).toNat = j by omega, hf] at h; exact h
    | succ i ih =>
      intro j hj hf
      obtain ⟨hj1, hA⟩ := hg.2.1 j (by omega)
      unfold jok at hj1
      have l14 : ∀ q a : Nat, (a : Int) + q = s 1 (96 + 32 * j + 4) → anyN (fun a => hld (s 1) j a && heldc (s 1) j a c) a = false →
          zwp (zcall ztb (d + 2)) t_X6_holderOf Q 14 [some (zR m), some (zI c), some (zI j), some (zI a)] [] (mput H m s) := by
        intro q
        induction q with
        | zero =>
          intro a ha hn
          apply bm_X6_holderOf_14 hM
          simp (disch := omega) only [zw_id, jx, Int.reduceToNat]
          refine ⟨by omega, fun _ => ih (j + 1) (by omega) (firstN_s hf ?_), fun e => absurd e (by omega)⟩
          rw [show (s 1 (96 + 32 * j + 4)).toNat = a by omega]; exact hn
        | succ q ih2 =>
          intro a ha hn
          have hA := hA a (by omega)
          unfold aok at hA
          have no : (hld (s 1) j a && heldc (s 1) j a c) = false → zwp (zcall ztb (d + 2)) t_X6_holderOf Q 14 [some (zR m), some (zI c), some (zI j), some (zI (a + 1 : Nat))] [] (mput H m s) :=
            fun e => ih2 (a + 1) (by omega) (by rw [anyN, hn, e]; rfl)
          apply bm_X6_holderOf_14 hM
          simp (disch := omega) only [zw_id, jx, jxa, Int.reduceToNat]
          refine ⟨by omega, fun e => absurd e (by omega), fun _ => ⟨by omega, fun e => no (by unfold hld; simp [e]), fun e => ⟨by omega, fun e2 => no (by unfold hld; simp; intros; omega), fun e2 => ⟨by omega, by omega, ?_⟩⟩⟩⟩
          rw [cset_cov (by omega) (by omega) (by omega)]
          have hl : hld (s 1) j a = true := by unfold hld; simp; omega
          rw [cset_at _ hc]
          by_cases hcv : heldc (s 1) j a c = true
          · have hcv' := hcv
            unfold heldc at hcv'
            rw [if_pos hcv']
            refine ⟨fun e => absurd (by decide) e, fun _ => ?_⟩
            unfold hofF at h
            have hft := firstN_t hf (show anyN (fun a => hld (s 1) j a && heldc (s 1) j a c) (s 1 (96 + 32 * j + 4)).toNat = true from anyN_iff.mpr ⟨a, by omega, by rw [hl, hcv]; rfl⟩) i
            rw [show (s 1 1).toNat = j + 1 + i by omega, hft] at h
            exact h
          · have hcv' := hcv
            unfold heldc at hcv'
            rw [if_neg hcv']
            refine ⟨fun _ => no (by simp [hcv]), fun e => absurd (by decide) e⟩
      apply bm_X6_holderOf_2 hM
      simp (disch := omega) only [zw_id]
      exact ⟨fun e => absurd e (by omega), fun _ => l14 (s 1 (96 + 32 * j + 4)).toNat 0 (by omega) rfl⟩
  exact bm_X6_holderOf hM (l2 (s 1 1).toNat 0 (by omega) rfl)
theorem lastEnd_b {G : Nat → Int} {j : Nat} (hA : ∀ a : Nat, (a : Int) < G (96 + 32 * j + 4) → aok G j a) : ∀ n : Nat, (n : Int) ≤ G (96 + 32 * j + 4) → 0 ≤ lastEnd G j n ∧ lastEnd G j n ≤ 300000
  | 0, _ => by simp [lastEnd]
  | n + 1, h => by
    have h1 := lastEnd_b hA n (by omega)
    have h2 := hA n (by omega)
    unfold aok at h2
    rw [lastEnd]
    omega
theorem c_ends {d : Nat} {Q : ZQ} {H : ZH} {m : Nat} {s : MS} {j : Nat} (hM : MI H m) (hg : gok (s 1)) (hj : (j : Int) < s 1 1)
    (h : Q [] (mput H m (mset (mset s 1 (enG (s 1) j)) 4 (enU (s 1) (s 4) j)))) : zcall ztb (d + 3) mX6_ends [zR m, zI j] (mput H m s) Q := by
  have hh := hg.1
  unfold hok at hh
  obtain ⟨hj1, hA⟩ := hg.2.1 j hj
  unfold jok at hj1
  have main : ∀ i n : Nat, ∀ l b : Int, (n : Int) + i = s 1 (96 + 32 * j + 4) → l = lastEnd (s 1) j n → b = (if anyN (fun a => decide (s 1 (96 + 32 * j + (16 + a)) < lastsF (s 1) j a)) n = true then 1 else 0) →
      zwp (zcall ztb (d + 2)) t_X6_ends Q 7 [some (zR m), some (zI j), some (zI l), some (zI b), some (zI n)] [] (mput H m s) := by
    intro i
    induction i with
    | zero =>
      intro n l b hn hl hb
      have hlb := lastEnd_b hA n (by omega)
      have hnn : (s 1 (96 + 32 * j + 4)).toNat = n := by omega
      have hbb : b = if isCutF (s 1) j = true then 1 else 0 := by unfold isCutF; rw [hnn]; exact hb
      unfold enG enU at h
      rw [hnn, ← hl] at h
      have k7 : ∀ v1 v2, 0 ≤ zupd (zupd (s 1) (96 + 32 * j + 5) v1) (96 + 32 * j + 7) v2 7 ∧ zupd (zupd (s 1) (96 + 32 * j + 5) v1) (96 + 32 * j + 7) v2 7 ≤ 60 := fun v1 v2 => by rw [udn (by omega), udn (by omega)]; omega
      apply bm_X6_ends_7 hM
      rw [hbb]
      by_cases hcut : isCutF (s 1) j = true
      · simp only [if_pos hcut] at h ⊢
        simp (disch := omega) only [zw_id, jx, Int.reduceToNat, mup_mset, mse, mset_mset, udn]
        refine ⟨by omega, fun _ => ⟨fun e => ?_, fun e => ⟨fun e2 => absurd e2 (by decide), fun _ => ⟨by omega, by omega, fun e2 => absurd e2 (by decide), fun _ => ?_⟩⟩⟩, fun e => absurd e (by omega)⟩
        · rw [if_neg (by omega), if_neg (by omega), mset_comm _ _ _ (by omega), mset_self, mset_self] at h; exact h
        · rw [if_pos (by omega), if_pos (by omega)] at h
          refine c_happens (d := d + 1) (s := mset s 1 (zupd (zupd (s 1) (96 + 32 * j + 5) 3) (96 + 32 * j + 7) (s 1 0))) hM (by rw [mse]; exact k7 _ _) ?_
          show zwp _ _ _ 119 [_, _, _, _, _] [] _
          rw [mse, mset_mset]
          apply bm_X6_ends_119 hM
          simp (disch := omega) only [zw_id, mup_mset, mse, msn, mset_mset]
          refine ⟨fun e => absurd e (by decide), fun _ => h⟩
      · simp only [if_neg hcut] at h ⊢
        simp (disch := omega) only [zw_id, jx, Int.reduceToNat, mup_mset, mse, mset_mset, udn]
        refine ⟨by omega, fun _ => ⟨fun e => ?_, fun e => ⟨fun _ => ⟨by omega, by omega, fun _ => ?_, fun e2 => absurd (by decide) e2⟩, fun e2 => absurd (by decide) e2⟩⟩, fun e => absurd e (by omega)⟩
        · rw [if_neg (by omega), if_neg (by omega), mset_comm _ _ _ (by omega), mset_self, mset_self] at h; exact h
        · rw [if_pos (by omega), if_pos (by omega)] at h
          refine c_happens (d := d + 1) (s := mset s 1 (zupd (zupd (s 1) (96 + 32 * j + 5) 2) (96 + 32 * j + 7) (s 1 0))) hM (by rw [mse]; exact k7 _ _) ?_
          show zwp _ _ _ 119 [_, _, _, _, _] [] _
          rw [mse, mset_mset]
          apply bm_X6_ends_119 hM
          simp (disch := omega) only [zw_id, mup_mset, mse, msn, mset_mset]
          refine ⟨fun _ => h, fun e => absurd (by decide) e⟩
    | succ i ih =>
      intro n l b hn hl hb
      have hlb := lastEnd_b hA n (by omega)
      have hA := hA n (by omega)
      unfold aok at hA
      have ml := mulb (show 0 ≤ s 1 (96 + 32 * j + (16 + n)) by omega) hA.2.1.2 (show 0 ≤ s 1 (96 + 32 * j + 2) by omega) hj1.2.2.1.2
      have hb01 : b = 0 ∨ b = 1 := by rw [hb]; split <;> omega
      have o0 : zor b 0 = b := by rcases hb01 with e | e <;> rw [e] <;> decide
      have o1 : zor b 1 = 1 := by rcases hb01 with e | e <;> rw [e] <;> decide
      have fin : ∀ l' b' : Int, l' = max l (s 1 (96 + 32 * j + (24 + n))) → (s 1 (96 + 32 * j + (16 + n)) < max 1 (s 1 (96 + 32 * j + (16 + n)) * s 1 (96 + 32 * j + 2) / 100) ∧ b' = 1 ∨ ¬ s 1 (96 + 32 * j + (16 + n)) < max 1 (s 1 (96 + 32 * j + (16 + n)) * s 1 (96 + 32 * j + 2) / 100) ∧ b' = b) →
          zwp (zcall ztb (d + 2)) t_X6_ends Q 7 [some (zR m), some (zI j), some (zI l'), some (zI b'), some (zI (n + 1 : Nat))] [] (mput H m s) := by
        intro l' b' h1 h2
        refine ih (n + 1) l' b' (by omega) (by rw [lastEnd, ← hl]; exact h1) ?_
        rw [anyN]
        rcases h2 with ⟨h2, h3⟩ | ⟨h2, h3⟩
        · rw [h3, if_pos]; simp only [Bool.or_eq_true, decide_eq_true_eq]; exact Or.inr h2
        · rw [h3, hb]
          have : decide (s 1 (96 + 32 * j + (16 + n)) < lastsF (s 1) j n) = false := decide_eq_false h2
          rw [this, Bool.or_false]
      apply bm_X6_ends_7 hM
      simp (disch := omega) only [zw_id, jx, jxa, Int.reduceToNat, tdiv100, o0, o1]
      repeat' (first | with_reducible apply And.intro | with_reducible intro _)
      all_goals first | omega | (refine fin _ _ ?_ ?_ <;> omega)
  exact bm_X6_ends hM (main (s 1 (96 + 32 * j + 4)).toNat 0 0 0 (by omega) rfl rfl)
