/-! HEAP OPERATIONS -/
def ZLy (t f : Nat) : Prop := Cond.lays (znm t) (zfo f).1 (zfo f).2.1 (zfo f).2.2.1 ∈ lw_all ∨ Cond.laysFinal (znm t) (zfo f).1 (zfo f).2.1 (zfo f).2.2.1 ∈ lw_all
theorem zly_1 : ∀ f ∈ zfl 1, ZLy 1 f := List.forall_mem_cons.mpr ⟨Or.inr q460, List.forall_mem_cons.mpr ⟨Or.inl q462, List.forall_mem_cons.mpr ⟨Or.inl q464, List.forall_mem_cons.mpr ⟨Or.inl q466, (fun _ h => absurd h List.not_mem_nil)⟩⟩⟩⟩
theorem zly_2 : ∀ f ∈ zfl 2, ZLy 2 f := List.forall_mem_cons.mpr ⟨Or.inr q1935, List.forall_mem_cons.mpr ⟨Or.inr q1931, List.forall_mem_cons.mpr ⟨Or.inr q1933, (fun _ h => absurd h List.not_mem_nil)⟩⟩⟩
theorem zly_3 : ∀ f ∈ zfl 3, ZLy 3 f := List.forall_mem_cons.mpr ⟨Or.inr q1971, List.forall_mem_cons.mpr ⟨Or.inr q1967, List.forall_mem_cons.mpr ⟨Or.inr q1969, (fun _ h => absurd h List.not_mem_nil)⟩⟩⟩
theorem zly_4 : ∀ f ∈ zfl 4, ZLy 4 f := List.forall_mem_cons.mpr ⟨Or.inr q1465, List.forall_mem_cons.mpr ⟨Or.inr q1467, List.forall_mem_cons.mpr ⟨Or.inr q1469, List.forall_mem_cons.mpr ⟨Or.inl q1471, List.forall_mem_cons.mpr ⟨Or.inl q1473, List.forall_mem_cons.mpr ⟨Or.inl q1475, (fun _ h => absurd h List.not_mem_nil)⟩⟩⟩⟩⟩⟩
theorem zly_5 : ∀ f ∈ zfl 5, ZLy 5 f := List.forall_mem_cons.mpr ⟨Or.inr q1340, List.forall_mem_cons.mpr ⟨Or.inl q1342, List.forall_mem_cons.mpr ⟨Or.inr q1344, (fun _ h => absurd h List.not_mem_nil)⟩⟩⟩
theorem zly_6 : ∀ f ∈ zfl 6, ZLy 6 f := (fun _ h => absurd h List.not_mem_nil)
theorem zly_7 : ∀ f ∈ zfl 7, ZLy 7 f := (fun _ h => absurd h List.not_mem_nil)
theorem zly_8 : ∀ f ∈ zfl 8, ZLy 8 f := List.forall_mem_cons.mpr ⟨Or.inr q401, List.forall_mem_cons.mpr ⟨Or.inr q403, List.forall_mem_cons.mpr ⟨Or.inr q405, List.forall_mem_cons.mpr ⟨Or.inr q407, List.forall_mem_cons.mpr ⟨Or.inr q409, List.forall_mem_cons.mpr ⟨Or.inr q411, List.forall_mem_cons.mpr ⟨Or.inr q413, List.forall_mem_cons.mpr ⟨Or.inr q415, List.forall_mem_cons.mpr ⟨Or.inl q417, List.forall_mem_cons.mpr ⟨Or.inr q419, List.forall_mem_cons.mpr ⟨Or.inl q421, List.forall_mem_cons.mpr ⟨Or.inl q423, List.forall_mem_cons.mpr ⟨Or.inl q425, List.forall_mem_cons.mpr ⟨Or.inl q427, List.forall_mem_cons.mpr ⟨Or.inl q429, List.forall_mem_cons.mpr ⟨Or.inl q431, List.forall_mem_cons.mpr ⟨Or.inl q433, List.forall_mem_cons.mpr ⟨Or.inl q435, List.forall_mem_cons.mpr ⟨Or.inr q437, List.forall_mem_cons.mpr ⟨Or.inr q439, List.forall_mem_cons.mpr ⟨Or.inr q441, List.forall_mem_cons.mpr ⟨Or.inl q443, List.forall_mem_cons.mpr ⟨Or.inr q445, List.forall_mem_cons.mpr ⟨Or.inr q447, (fun _ h => absurd h List.not_mem_nil)⟩⟩⟩⟩⟩⟩⟩⟩⟩⟩⟩⟩⟩⟩⟩⟩⟩⟩⟩⟩⟩⟩⟩⟩
theorem zly_9 : ∀ f ∈ zfl 9, ZLy 9 f := List.forall_mem_cons.mpr ⟨Or.inr q339, (fun _ h => absurd h List.not_mem_nil)⟩
theorem zly_10 : ∀ f ∈ zfl 10, ZLy 10 f := List.forall_mem_cons.mpr ⟨Or.inr q351, (fun _ h => absurd h List.not_mem_nil)⟩
theorem zly_11 : ∀ f ∈ zfl 11, ZLy 11 f := List.forall_mem_cons.mpr ⟨Or.inr q1725, List.forall_mem_cons.mpr ⟨Or.inr q1727, List.forall_mem_cons.mpr ⟨Or.inr q1729, (fun _ h => absurd h List.not_mem_nil)⟩⟩⟩
theorem zly_12 : ∀ f ∈ zfl 12, ZLy 12 f := List.forall_mem_cons.mpr ⟨Or.inl q1375, List.forall_mem_cons.mpr ⟨Or.inl q1377, List.forall_mem_cons.mpr ⟨Or.inl q1379, List.forall_mem_cons.mpr ⟨Or.inl q1381, List.forall_mem_cons.mpr ⟨Or.inl q1383, List.forall_mem_cons.mpr ⟨Or.inl q1425, List.forall_mem_cons.mpr ⟨Or.inr q1419, (fun _ h => absurd h List.not_mem_nil)⟩⟩⟩⟩⟩⟩⟩
theorem zly_13 : ∀ f ∈ zfl 13, ZLy 13 f := List.forall_mem_cons.mpr ⟨Or.inr q2960, List.forall_mem_cons.mpr ⟨Or.inr q2962, List.forall_mem_cons.mpr ⟨Or.inr q2964, (fun _ h => absurd h List.not_mem_nil)⟩⟩⟩
theorem zly_14 : ∀ f ∈ zfl 14, ZLy 14 f := List.forall_mem_cons.mpr ⟨Or.inr q3133, (fun _ h => absurd h List.not_mem_nil)⟩
theorem zly_15 : ∀ f ∈ zfl 15, ZLy 15 f := List.forall_mem_cons.mpr ⟨Or.inl q1898, List.forall_mem_cons.mpr ⟨Or.inr q1900, (fun _ h => absurd h List.not_mem_nil)⟩⟩
theorem zly_16 : ∀ f ∈ zfl 16, ZLy 16 f := List.forall_mem_cons.mpr ⟨Or.inr q2543, List.forall_mem_cons.mpr ⟨Or.inr q2545, (fun _ h => absurd h List.not_mem_nil)⟩⟩
theorem zly_17 : ∀ f ∈ zfl 17, ZLy 17 f := List.forall_mem_cons.mpr ⟨Or.inr q1674, List.forall_mem_cons.mpr ⟨Or.inr q1676, List.forall_mem_cons.mpr ⟨Or.inr q1678, List.forall_mem_cons.mpr ⟨Or.inr q1680, List.forall_mem_cons.mpr ⟨Or.inr q1682, List.forall_mem_cons.mpr ⟨Or.inr q1684, List.forall_mem_cons.mpr ⟨Or.inr q1686, List.forall_mem_cons.mpr ⟨Or.inl q1688, List.forall_mem_cons.mpr ⟨Or.inl q1690, List.forall_mem_cons.mpr ⟨Or.inl q1692, List.forall_mem_cons.mpr ⟨Or.inl q1694, List.forall_mem_cons.mpr ⟨Or.inl q1696, List.forall_mem_cons.mpr ⟨Or.inl q1698, (fun _ h => absurd h List.not_mem_nil)⟩⟩⟩⟩⟩⟩⟩⟩⟩⟩⟩⟩⟩
theorem zly_18 : ∀ f ∈ zfl 18, ZLy 18 f := List.forall_mem_cons.mpr ⟨Or.inr q2391, List.forall_mem_cons.mpr ⟨Or.inr q2393, List.forall_mem_cons.mpr ⟨Or.inr q2389, (fun _ h => absurd h List.not_mem_nil)⟩⟩⟩
theorem zly_19 : ∀ f ∈ zfl 19, ZLy 19 f := List.forall_mem_cons.mpr ⟨Or.inr q3081, List.forall_mem_cons.mpr ⟨Or.inr q3083, List.forall_mem_cons.mpr ⟨Or.inr q3085, List.forall_mem_cons.mpr ⟨Or.inr q3087, (fun _ h => absurd h List.not_mem_nil)⟩⟩⟩⟩
theorem zly_20 : ∀ f ∈ zfl 20, ZLy 20 f := List.forall_mem_cons.mpr ⟨Or.inr q3031, List.forall_mem_cons.mpr ⟨Or.inr q3033, List.forall_mem_cons.mpr ⟨Or.inl q3035, List.forall_mem_cons.mpr ⟨Or.inr q3037, (fun _ h => absurd h List.not_mem_nil)⟩⟩⟩⟩
theorem zly_21 : ∀ f ∈ zfl 21, ZLy 21 f := List.forall_mem_cons.mpr ⟨Or.inr q2589, List.forall_mem_cons.mpr ⟨Or.inr q2590, List.forall_mem_cons.mpr ⟨Or.inr q2587, (fun _ h => absurd h List.not_mem_nil)⟩⟩⟩
theorem zly_22 : ∀ f ∈ zfl 22, ZLy 22 f := List.forall_mem_cons.mpr ⟨Or.inr q325, List.forall_mem_cons.mpr ⟨Or.inl q327, (fun _ h => absurd h List.not_mem_nil)⟩⟩
theorem zly_23 : ∀ f ∈ zfl 23, ZLy 23 f := List.forall_mem_cons.mpr ⟨Or.inr q1206, List.forall_mem_cons.mpr ⟨Or.inr q1208, (fun _ h => absurd h List.not_mem_nil)⟩⟩
theorem zly_24 : ∀ f ∈ zfl 24, ZLy 24 f := List.forall_mem_cons.mpr ⟨Or.inr q2556, List.forall_mem_cons.mpr ⟨Or.inr q2557, List.forall_mem_cons.mpr ⟨Or.inr q2554, (fun _ h => absurd h List.not_mem_nil)⟩⟩⟩
theorem zly_25 : ∀ f ∈ zfl 25, ZLy 25 f := List.forall_mem_cons.mpr ⟨Or.inr q513, List.forall_mem_cons.mpr ⟨Or.inr q515, List.forall_mem_cons.mpr ⟨Or.inr q517, (fun _ h => absurd h List.not_mem_nil)⟩⟩⟩
theorem zly_26 : ∀ f ∈ zfl 26, ZLy 26 f := List.forall_mem_cons.mpr ⟨Or.inr q2335, List.forall_mem_cons.mpr ⟨Or.inr q2337, List.forall_mem_cons.mpr ⟨Or.inr q2339, List.forall_mem_cons.mpr ⟨Or.inr q2341, List.forall_mem_cons.mpr ⟨Or.inr q2343, List.forall_mem_cons.mpr ⟨Or.inr q2345, (fun _ h => absurd h List.not_mem_nil)⟩⟩⟩⟩⟩⟩
theorem zly_27 : ∀ f ∈ zfl 27, ZLy 27 f := (fun _ h => absurd h List.not_mem_nil)
theorem zly_28 : ∀ f ∈ zfl 28, ZLy 28 f := List.forall_mem_cons.mpr ⟨Or.inr q3384, List.forall_mem_cons.mpr ⟨Or.inr q3386, List.forall_mem_cons.mpr ⟨Or.inr q3388, List.forall_mem_cons.mpr ⟨Or.inr q3390, List.forall_mem_cons.mpr ⟨Or.inr q3392, List.forall_mem_cons.mpr ⟨Or.inr q3394, List.forall_mem_cons.mpr ⟨Or.inr q3396, List.forall_mem_cons.mpr ⟨Or.inl q3398, List.forall_mem_cons.mpr ⟨Or.inl q3400, List.forall_mem_cons.mpr ⟨Or.inl q3402, List.forall_mem_cons.mpr ⟨Or.inr q3404, List.forall_mem_cons.mpr ⟨Or.inr q3406, List.forall_mem_cons.mpr ⟨Or.inr q3408, List.forall_mem_cons.mpr ⟨Or.inl q3410, List.forall_mem_cons.mpr ⟨Or.inl q3412, List.forall_mem_cons.mpr ⟨Or.inl q3414, List.forall_mem_cons.mpr ⟨Or.inl q3416, List.forall_mem_cons.mpr ⟨Or.inl q3418, List.forall_mem_cons.mpr ⟨Or.inr q3420, List.forall_mem_cons.mpr ⟨Or.inr q3422, List.forall_mem_cons.mpr ⟨Or.inr q3424, List.forall_mem_cons.mpr ⟨Or.inr q3426, List.forall_mem_cons.mpr ⟨Or.inr q3428, List.forall_mem_cons.mpr ⟨Or.inl q3430, List.forall_mem_cons.mpr ⟨Or.inr q3432, List.forall_mem_cons.mpr ⟨Or.inl q3434, (fun _ h => absurd h List.not_mem_nil)⟩⟩⟩⟩⟩⟩⟩⟩⟩⟩⟩⟩⟩⟩⟩⟩⟩⟩⟩⟩⟩⟩⟩⟩⟩⟩
theorem zly_29 : ∀ f ∈ zfl 29, ZLy 29 f := List.forall_mem_cons.mpr ⟨Or.inr q537, (fun _ h => absurd h List.not_mem_nil)⟩
theorem zly_30 : ∀ f ∈ zfl 30, ZLy 30 f := (fun _ h => absurd h List.not_mem_nil)
theorem zly_31 : ∀ f ∈ zfl 31, ZLy 31 f := List.forall_mem_cons.mpr ⟨Or.inr q2192, List.forall_mem_cons.mpr ⟨Or.inr q2194, List.forall_mem_cons.mpr ⟨Or.inl q2196, List.forall_mem_cons.mpr ⟨Or.inl q2198, (fun _ h => absurd h List.not_mem_nil)⟩⟩⟩⟩
theorem zly_32 : ∀ f ∈ zfl 32, ZLy 32 f := List.forall_mem_cons.mpr ⟨Or.inl q2004, List.forall_mem_cons.mpr ⟨Or.inl q2006, List.forall_mem_cons.mpr ⟨Or.inl q2008, List.forall_mem_cons.mpr ⟨Or.inl q2010, (fun _ h => absurd h List.not_mem_nil)⟩⟩⟩⟩
theorem zly_33 : ∀ f ∈ zfl 33, ZLy 33 f := List.forall_mem_cons.mpr ⟨Or.inl q1376, List.forall_mem_cons.mpr ⟨Or.inl q1378, List.forall_mem_cons.mpr ⟨Or.inl q1380, List.forall_mem_cons.mpr ⟨Or.inl q1382, List.forall_mem_cons.mpr ⟨Or.inl q1384, (fun _ h => absurd h List.not_mem_nil)⟩⟩⟩⟩⟩
theorem zly_34 : ∀ f ∈ zfl 34, ZLy 34 f := List.forall_mem_cons.mpr ⟨Or.inl q231, List.forall_mem_cons.mpr ⟨Or.inl q227, List.forall_mem_cons.mpr ⟨Or.inl q229, (fun _ h => absurd h List.not_mem_nil)⟩⟩⟩
theorem zly_35 : ∀ f ∈ zfl 35, ZLy 35 f := List.forall_mem_cons.mpr ⟨Or.inl q991, List.forall_mem_cons.mpr ⟨Or.inl q993, List.forall_mem_cons.mpr ⟨Or.inl q995, List.forall_mem_cons.mpr ⟨Or.inr q997, (fun _ h => absurd h List.not_mem_nil)⟩⟩⟩⟩
theorem zly_36 : ∀ f ∈ zfl 36, ZLy 36 f := List.forall_mem_cons.mpr ⟨Or.inl q302, List.forall_mem_cons.mpr ⟨Or.inl q304, List.forall_mem_cons.mpr ⟨Or.inr q306, List.forall_mem_cons.mpr ⟨Or.inl q308, (fun _ h => absurd h List.not_mem_nil)⟩⟩⟩⟩
theorem zly_37 : ∀ f ∈ zfl 37, ZLy 37 f := List.forall_mem_cons.mpr ⟨Or.inl q1018, List.forall_mem_cons.mpr ⟨Or.inl q1020, List.forall_mem_cons.mpr ⟨Or.inl q1022, List.forall_mem_cons.mpr ⟨Or.inl q1024, List.forall_mem_cons.mpr ⟨Or.inl q1026, List.forall_mem_cons.mpr ⟨Or.inr q1028, (fun _ h => absurd h List.not_mem_nil)⟩⟩⟩⟩⟩⟩
theorem zly_38 : ∀ f ∈ zfl 38, ZLy 38 f := List.forall_mem_cons.mpr ⟨Or.inl q269, List.forall_mem_cons.mpr ⟨Or.inl q271, List.forall_mem_cons.mpr ⟨Or.inr q255, List.forall_mem_cons.mpr ⟨Or.inl q257, List.forall_mem_cons.mpr ⟨Or.inl q259, List.forall_mem_cons.mpr ⟨Or.inl q261, List.forall_mem_cons.mpr ⟨Or.inl q263, List.forall_mem_cons.mpr ⟨Or.inl q265, List.forall_mem_cons.mpr ⟨Or.inl q267, (fun _ h => absurd h List.not_mem_nil)⟩⟩⟩⟩⟩⟩⟩⟩⟩
theorem zly_39 : ∀ f ∈ zfl 39, ZLy 39 f := List.forall_mem_cons.mpr ⟨Or.inl q910, List.forall_mem_cons.mpr ⟨Or.inl q912, List.forall_mem_cons.mpr ⟨Or.inl q914, List.forall_mem_cons.mpr ⟨Or.inl q916, List.forall_mem_cons.mpr ⟨Or.inl q918, List.forall_mem_cons.mpr ⟨Or.inl q920, (fun _ h => absurd h List.not_mem_nil)⟩⟩⟩⟩⟩⟩
theorem zly_40 : ∀ f ∈ zfl 40, ZLy 40 f := List.forall_mem_cons.mpr ⟨Or.inl q1054, List.forall_mem_cons.mpr ⟨Or.inl q1056, List.forall_mem_cons.mpr ⟨Or.inl q1058, List.forall_mem_cons.mpr ⟨Or.inr q1060, (fun _ h => absurd h List.not_mem_nil)⟩⟩⟩⟩
theorem zly_41 : ∀ f ∈ zfl 41, ZLy 41 f := List.forall_mem_cons.mpr ⟨Or.inr q2757, (fun _ h => absurd h List.not_mem_nil)⟩
theorem zly_42 : ∀ f ∈ zfl 42, ZLy 42 f := List.forall_mem_cons.mpr ⟨Or.inl q1081, List.forall_mem_cons.mpr ⟨Or.inl q1082, List.forall_mem_cons.mpr ⟨Or.inl q1083, List.forall_mem_cons.mpr ⟨Or.inr q1084, (fun _ h => absurd h List.not_mem_nil)⟩⟩⟩⟩
theorem zly_43 : ∀ f ∈ zfl 43, ZLy 43 f := List.forall_mem_cons.mpr ⟨Or.inr q1134, (fun _ h => absurd h List.not_mem_nil)⟩
theorem zly_44 : ∀ f ∈ zfl 44, ZLy 44 f := List.forall_mem_cons.mpr ⟨Or.inl q1103, List.forall_mem_cons.mpr ⟨Or.inl q1104, List.forall_mem_cons.mpr ⟨Or.inl q1105, List.forall_mem_cons.mpr ⟨Or.inr q1106, (fun _ h => absurd h List.not_mem_nil)⟩⟩⟩⟩
theorem zly_45 : ∀ f ∈ zfl 45, ZLy 45 f := List.forall_mem_cons.mpr ⟨Or.inr q968, (fun _ h => absurd h List.not_mem_nil)⟩
theorem zly_46 : ∀ f ∈ zfl 46, ZLy 46 f := List.forall_mem_cons.mpr ⟨Or.inl q1604, (fun _ h => absurd h List.not_mem_nil)⟩
theorem zly : ∀ t, 0 < t → t < 47 → ∀ f ∈ zfl t, ZLy t f
  | 1, _, _ => zly_1
  | 2, _, _ => zly_2
  | 3, _, _ => zly_3
  | 4, _, _ => zly_4
  | 5, _, _ => zly_5
  | 6, _, _ => zly_6
  | 7, _, _ => zly_7
  | 8, _, _ => zly_8
  | 9, _, _ => zly_9
  | 10, _, _ => zly_10
  | 11, _, _ => zly_11
  | 12, _, _ => zly_12
  | 13, _, _ => zly_13
  | 14, _, _ => zly_14
  | 15, _, _ => zly_15
  | 16, _, _ => zly_16
  | 17, _, _ => zly_17
  | 18, _, _ => zly_18
  | 19, _, _ => zly_19
  | 20, _, _ => zly_20
  | 21, _, _ => zly_21
  | 22, _, _ => zly_22
  | 23, _, _ => zly_23
  | 24, _, _ => zly_24
  | 25, _, _ => zly_25
  | 26, _, _ => zly_26
  | 27, _, _ => zly_27
  | 28, _, _ => zly_28
  | 29, _, _ => zly_29
  | 30, _, _ => zly_30
  | 31, _, _ => zly_31
  | 32, _, _ => zly_32
  | 33, _, _ => zly_33
  | 34, _, _ => zly_34
  | 35, _, _ => zly_35
  | 36, _, _ => zly_36
  | 37, _, _ => zly_37
  | 38, _, _ => zly_38
  | 39, _, _ => zly_39
  | 40, _, _ => zly_40
  | 41, _, _ => zly_41
  | 42, _, _ => zly_42
  | 43, _, _ => zly_43
  | 44, _, _ => zly_44
  | 45, _, _ => zly_45
  | 46, _, _ => zly_46
  | 0, h, _ => absurd h (Nat.lt_irrefl 0)
  | n + 47, _, h => absurd h (by omega)
/-! FIELDS -/
theorem zty_ok : ∀ f, f < zNF → (parseFieldDescriptor (zfo f).2.2.1).isSome = true := by decide +kernel
theorem znames0 : (List.range 47).all (fun t => t == 2 || t == 3 || (zfl t).all (fun f => (zfl t).all (fun g => f == g || (zfo f).2.1 != (zfo g).2.1))) = true := by decide +kernel
theorem znames (t : Nat) (h : t < 47) (h2 : t ≠ 2) (h3 : t ≠ 3) (f : Nat) (hf : f ∈ zfl t) (g : Nat) (hg : g ∈ zfl t) (hne : f ≠ g) : (zfo f).2.1 ≠ (zfo g).2.1 := by
  have h1 := List.all_eq_true.mp znames0 t (List.mem_range.mpr h)
  simp only [Bool.or_eq_true, beq_iff_eq, h2, h3, false_or, List.all_eq_true] at h1
  rcases h1 f hf g hg with e | e
  · exact absurd e hne
  · simpa using e
theorem zfc_name {vm : Vm} {name : String} {c : ClassId} {k : Class} (h : vm.findClass name = some c) (hk : vm.classes[c]? = some k) : k.name = name := by
  obtain ⟨hlt, hp, _⟩ := Array.findIdx?_eq_some_iff_getElem.mp h
  have : vm.classes[c] = k := by simpa [hlt] using hk
  rw [this] at hp
  simp only [Bool.and_eq_true, beq_iff_eq] at hp
  exact hp.1.1.1
theorem zfl_lt : ∀ t, t < 50 → ∀ f ∈ zfl t, f < zNF := by decide +kernel
theorem zly_use {s : State} {args : Array Value} (hts : ∀ w ∈ lw_all, w.before args s = true) {t f : Nat} (h : ZLy t f) : (Cond.lays (znm t) (zfo f).1 (zfo f).2.1 (zfo f).2.2.1).before args s = true ∨ (Cond.laysFinal (znm t) (zfo f).1 (zfo f).2.1 (zfo f).2.2.1).before args s = true := h.elim (fun q => Or.inl (hts _ q)) (fun q => Or.inr (hts _ q))
theorem zapart1 {G : ZG} {s : State} {args : Array Value} (hts : ∀ w ∈ lw_all, w.before args s = true) (hV : ZVm G s) {t f g : Nat} (h0 : 0 < t) (ht : t < 47) (h2 : t ≠ 2) (h3 : t ≠ 3) (hf : f ∈ zfl t) (hg : g ∈ zfl t) (hne : f ≠ g) : G.2.1 f ≠ G.2.1 g := by
  have lf := zfl_lt t (by omega) f hf
  have lg := zfl_lt t (by omega) g hg
  obtain ⟨_, _, _, fa, hia, ea⟩ := hV.2.1 f lf
  obtain ⟨_, _, _, fb, hib, eb⟩ := hV.2.1 g lg
  obtain ⟨ta, hta⟩ := Option.isSome_iff_exists.mp (zty_ok f lf)
  obtain ⟨tb, htb⟩ := Option.isSome_iff_exists.mp (zty_ok g lg)
  rw [← ea, ← eb]
  refine u_apart (zly_use hts (zly t h0 ht f hf)) (zly_use hts (zly t h0 ht g hg)) hia hib ?_
  rw [(State.fieldFound?_type hia hta).1, (State.fieldFound?_type hib htb).1]
  exact znames t ht h2 h3 f hf g hg hne
/-- two final fields of one name, of two classes -/
theorem zapart2 {s : State} {args : Array Value} {C O f d O' f' d' : String} (h : (Cond.laysFinal C O f d).before args s = true) (h' : (Cond.laysFinal C O' f' d').before args s = true) (hO : O ≠ O')
    {cf kf fi fd cf' kf' fi' fd'} (hi : s.fieldFound? O f d = some (cf, kf, fi, fd)) (hi' : s.fieldFound? O' f' d' = some (cf', kf', fi', fd')) : fd.slot ≠ fd'.slot := by
  obtain ⟨a, k, c1, k1, i1, g1, a1, a2, a3, -, -, -, a4, -, d1, b1, b2, -⟩ := Cond.laysFinal_spec h
  obtain ⟨a', k', c2, k2, i2, g2, a1', a2', a3', -, -, -, a4', -, d2, b1', b2', -⟩ := Cond.laysFinal_spec h'
  cases hi.symm.trans a3
  cases hi'.symm.trans a3'
  cases a1.symm.trans a1'
  intro e
  rw [e] at b1
  cases b1.symm.trans b1'
  have n1 : kf.name = kf'.name := b2.symm.trans b2'
  have m1 := hi
  have m2 := hi'
  simp only [State.fieldFound?, Option.bind_eq_bind, Option.bind_eq_some_iff, Option.pure_def, Option.some.injEq, Prod.mk.injEq] at m1 m2
  obtain ⟨_, _, _, _, ⟨_, _⟩, _, q1, hq1, _, _, r1, r2, r3, r4⟩ := m1
  obtain ⟨_, _, _, _, ⟨_, _⟩, _, q2, hq2, _, _, r5, r6, r7, r8⟩ := m2
  rw [r1] at hq1
  rw [r5] at hq2
  rw [r2] at hq1
  rw [r6] at hq2
  have e1 := zfc_name a4 hq1
  have e2 := zfc_name a4' hq2
  exact hO (e1.symm.trans (n1.trans e2))
theorem zsome0 : (List.range zNF).all (fun f => (List.range 47).any (fun t => (zfl t).contains f)) = true := by decide +kernel
theorem zsome {f : Nat} (h : f < zNF) : ∃ t, 0 < t ∧ t < 47 ∧ f ∈ zfl t := by
  have h1 := List.all_eq_true.mp zsome0 f (List.mem_range.mpr h)
  obtain ⟨t, ht, hc⟩ := List.any_eq_true.mp h1
  refine ⟨t, ?_, List.mem_range.mp ht, by simpa using hc⟩
  cases t with
  | zero => simp [zfl, zcls] at hc
  | succ n => exact Nat.succ_pos n
theorem zfld_st {G : ZG} {s : State} {args : Array Value} (hts : ∀ w ∈ lw_all, w.before args s = true) (hV : ZVm G s) {f : Nat} (hf : f < zNF) : ∃ cf k i fd, s.fieldFound? (zfo f).1 (zfo f).2.1 (zfo f).2.2.1 = some (cf, k, i, fd) ∧ fd.slot = G.2.1 f ∧ fd.isStatic = false := by
  obtain ⟨cf, k, i, fd, hi, e⟩ := hV.2.1 f hf
  obtain ⟨t, h0, ht, hft⟩ := zsome hf
  obtain ⟨hfc, kC, hkC, -⟩ := hV.1 t h0 (by unfold zNO; omega)
  exact ⟨cf, k, i, fd, hi, e, (u_facts hfc hkC (zly_use hts (zly t h0 ht f hft)) hi).1⟩
/-- the tags ts all have the field f -/
def zhas (f : Nat) (ts : List Nat) : Bool := ts.all (fun t => Nat.blt t 50 && (zfl t).contains f)
def zlink (own : String) (idx : Nat) (ref : String) (f : Nat) : Prop := Cond.fieldLink own idx ref (zfo f).2.1 (zfo f).2.2.1 ∈ lw_all ∨ ∃ host, Cond.fieldLinkNest own idx ref (zfo f).2.1 (zfo f).2.2.1 host ∈ lw_tbl
def zsamef (ref : String) (f : Nat) : Prop := ref = (zfo f).1 ∨ Cond.sameField ref (zfo f).1 (zfo f).2.1 (zfo f).2.2.1 ∈ lw_all
section HR
variable {p : Program} {l : Launch} {e : Env} {R : Room} {s : State} {m : MethodId} {args : Array Value} {below : List Frame} {meth : Method} {c : Code} {G : ZG} {H0 H : ZH} {d : Nat} {own nm de : String} {cc : ByteArray} {nL : Nat} {rt : Option FieldType} {pc : Nat} {ls : Array Slot} {M : Heap} {locs : List Loc} {rest : List Value} {L : ZL} {Qm : State → Prop} {cells slots : Nat}
theorem zobj (hH : ZHeap G H M) {r t : Nat} (ht : hT H r = t) (h0 : t ≠ 0) : ∃ a cell, r = a + 1 ∧ M[a]? = some cell ∧ cell.vm = .none ∧ cell.cls = G.1 t ∧ (t < 100 → ∀ f ∈ zfl t, cell.slots[G.2.1 f]? = some (zfv H f r)) ∧ (¬ t < 100 → t ∈ zarrs ∧ cell = arrV (G.1 t) (hL H r) (zav H t r) ∧ hL H r < 1073741824) := by
  obtain ⟨a, cell, e1, e2, e3, e4, e5⟩ := hH.2.2.2.1 r (by rw [ht]; exact h0)
  rw [ht] at e4 e5
  refine ⟨a, cell, e1, e2, e3, e4, fun q => ?_, fun q => ?_⟩
  · rw [if_pos q] at e5; exact e5
  · rw [if_neg q] at e5; exact e5
theorem zhas_of {f t : Nat} {ts : List Nat} (h : zhas f ts = true) (ht : t ∈ ts) : t < 50 ∧ t ≠ 0 ∧ f ∈ zfl t ∧ f < zNF := by
  have h1 := List.all_eq_true.mp h t ht
  simp only [Bool.and_eq_true, List.contains_eq_mem, decide_eq_true_eq] at h1
  have hlt : t < 50 := Nat.blt_eq.mp h1.1
  refine ⟨hlt, ?_, h1.2, zfl_lt t hlt f h1.2⟩
  intro e
  rw [e] at h1
  simp [zfl, zcls] at h1
theorem zget_row {idx r f : Nat} {ref : String} {ts : List Nat} (cx : ZCx p R s m args meth c G H0 d own nm de cc nL rt) (hH : ZHeap G H M) (hd : decode cc pc = .ok (.getfield idx, 3)) (hl : zlink own idx ref f) (hs : zsamef ref f) (hz : zhas f ts = true) (ht : hT H r ∈ ts)
    (kk : W p l e R s m args below meth c M locs cells slots Qm (F0 m (pc + 3) ls (zfv H f r :: rest))) : W p l e R s m args below meth c M locs cells slots Qm (F0 m pc ls (zref r :: rest)) := by
  obtain ⟨h50, hn0, hft, hf⟩ := zhas_of hz ht
  obtain ⟨a, cell, rfl, e2, e3, e4, e5, -⟩ := zobj hH rfl hn0
  obtain ⟨cf, k, i, fd, hi, he, hst⟩ := zfld_st cx.2.2.2.2.2.2.1 cx.2.2.2.2.2.2.2.1 hf
  have hi2 : s.fieldFound? ref (zfo f).2.1 (zfo f).2.2.1 = some (cf, k, i, fd) := by
    rcases hs with rfl | hs
    · exact hi
    · exact u_same (cx.2.2.2.2.2.2.1 _ hs) _ hi
  have hslot : cell.slots[fd.slot]? = some (zfv H f (a + 1)) := by rw [he]; exact e5 (by omega) f hft
  rcases hl with hl | ⟨host, hl⟩
  · exact W.getf cx.1 cx.2.1 cx.2.2.2.2.2.1 (cx.2.2.2.2.2.2.1 _ hl) hi2 hst e2 (by rw [e3]; exact fun q => by cases q) hslot rfl rfl hd kk
  · exact va_Wgetf cx.1 cx.2.1 cx.2.2.2.2.2.1 (va_Nw.use rfl (cx.2.2.2.2.2.2.2.1.2.2.2.1 _ hl rfl)) hi2 hst e2 (by rw [e3]; exact fun q => by cases q) hslot rfl rfl hd kk
end HR
section SN2
variable {mt : Nat → ZY} {own nm de : String} {cc : ByteArray} {nL : Nat} {rt : Option FieldType} {pc : Nat}
theorem sn_getI {idx f : Nat} {ref : String} {ts : List Nat} (hd : decode cc pc = .ok (.getfield idx, 3)) (hl : zlink own idx ref f) (hs : zsamef ref f) (hz : zhas f ts = true) (hty : zft f = 0) : ZSn mt own nm de cc nL rt pc (ogetI f ts (pc + 3)) := by
  intro p l e R s m args below meth c G H0 d C Q P cx hC hP L S H ho ls M locs fr
  simp only [ogetI] at ho
  split at ho
  · next r S' =>
    refine zget_row cx fr.2.1 hd hl hs hz ho.1 ?_
    have k := hP _ _ _ _ ho.2 ls M locs fr
    simp only [zfv, hty]
    exact k
  · exact ho.elim
theorem sn_getJ {idx f : Nat} {ref : String} {ts : List Nat} (hd : decode cc pc = .ok (.getfield idx, 3)) (hl : zlink own idx ref f) (hs : zsamef ref f) (hz : zhas f ts = true) (hty : zft f = 1) : ZSn mt own nm de cc nL rt pc (ogetJ f ts (pc + 3)) := by
  intro p l e R s m args below meth c G H0 d C Q P cx hC hP L S H ho ls M locs fr
  simp only [ogetJ] at ho
  split at ho
  · next r S' =>
    refine zget_row cx fr.2.1 hd hl hs hz ho.1 ?_
    have k := hP _ _ _ _ ho.2 ls M locs fr
    simp only [zfv, hty]
    exact k
  · exact ho.elim
theorem sn_getR {idx f : Nat} {ref : String} {ts : List Nat} (hd : decode cc pc = .ok (.getfield idx, 3)) (hl : zlink own idx ref f) (hs : zsamef ref f) (hz : zhas f ts = true) (hty : zft f = 2) : ZSn mt own nm de cc nL rt pc (ogetR f ts (pc + 3)) := by
  intro p l e R s m args below meth c G H0 d C Q P cx hC hP L S H ho ls M locs fr
  simp only [ogetR] at ho
  split at ho
  · next r S' =>
    refine zget_row cx fr.2.1 hd hl hs hz ho.1 ?_
    have k := hP _ _ _ _ ho.2 ls M locs fr
    simp only [zfv, hty]
    exact k
  · exact ho.elim
end SN2
