/-! PURE 1: small functions, by what they answer -/
set_option maxRecDepth 100000
theorem cl_0 : (0 : Int32).toNatClampNeg = 0 := by decide
theorem cl_1 : (1 : Int32).toNatClampNeg = 1 := by decide
theorem nb_0 : narrow .boolean (.int 0) = .int 0 := rfl
theorem nb_1 : narrow .boolean (.int 1) = .int 1 := rfl
theorem nb_if (c : Prop) [Decidable c] : narrow .boolean (.int (if c then 1 else 0)) = .int (if c then 1 else 0) := by split <;> rfl
theorem up2_s (v : V) (j i : Nat) (x : Int32) (b : Nat) : up2 v j i x j b = if b = i then x else v j b := by
  unfold up2
  rw [if_pos rfl]
  rfl
theorem up2_n (v : V) {j : Nat} (i : Nat) (x : Int32) {a : Nat} (b : Nat) (h : a ≠ j) : up2 v j i x a b = v a b := by
  unfold up2
  rw [if_neg h]
theorem up2_f (v : V) {j : Nat} (i : Nat) (x : Int32) {a : Nat} (h : a ≠ j) : up2 v j i x a = v a := by
  unfold up2
  rw [if_neg h]
theorem up2_e (v : V) (j i : Nat) (x : Int32) (a b : Nat) : up2 v j i x a b = if a = j ∧ b = i then x else v a b := by
  by_cases h : a = j
  · subst h
    rw [up2_s]
    by_cases h2 : b = i
    · rw [if_pos h2, if_pos ⟨rfl, h2⟩]
    · rw [if_neg h2, if_neg (fun q => h2 q.2)]
  · rw [up2_n v i x b h, if_neg (fun q => h q.1)]
theorem b01 {c : Prop} [Decidable c] {A B : Prop} : (((if c then (1 : Int32) else 0) = 0 → A) ∧ (¬ (if c then (1 : Int32) else 0) = 0 → B)) ↔ ((¬ c → A) ∧ (c → B)) := by
  by_cases h : c
  · simp [h]
  · simp [h]
theorem s_isIn {v lo hi : Int32} {Post : Int32 → Prop} : wp_X0_isIn v lo hi Post ↔ Post (if lo ≤ v ∧ v ≤ hi then 1 else 0) := by
  unfold wp_X0_isIn wp_X0_isIn_L14 wp_X0_isIn_L15
  by_cases h1 : v < lo
  · have h2 : ¬ (lo ≤ v ∧ v ≤ hi) := fun h => absurd h.1 (Int32.not_le.mpr h1)
    rw [if_neg h2]
    exact ⟨fun h => (h.1 h1).2, fun h => ⟨fun _ => ⟨rfl, h⟩, fun q => absurd h1 q⟩⟩
  · by_cases h3 : hi < v
    · have h2 : ¬ (lo ≤ v ∧ v ≤ hi) := fun h => absurd h.2 (Int32.not_le.mpr h3)
      rw [if_neg h2]
      exact ⟨fun h => ((h.2 h1).1 h3).2, fun h => ⟨fun q => absurd q h1, fun _ => ⟨fun _ => ⟨rfl, h⟩, fun q => absurd h3 q⟩⟩⟩
    · rw [if_pos ⟨Int32.not_lt.mp h1, Int32.not_lt.mp h3⟩]
      exact ⟨fun h => ((h.2 h1).2 h3).2, fun h => ⟨fun q => absurd q h1, fun _ => ⟨fun q => absurd q h3, fun _ => ⟨rfl, h⟩⟩⟩⟩
theorem s_isOne {v : Int32} {Post : Int32 → Prop} : wp_X0_isOne v Post ↔ Post (if 0 ≤ v ∧ v ≤ 5 then 1 else 0) := by
  unfold wp_X0_isOne
  rw [s_isIn]
  exact ⟨fun h => h.2, fun h => ⟨nb_if _, h⟩⟩
theorem s_isLot {v : Int32} {Post : Int32 → Prop} : wp_X0_isLot v Post ↔ Post (if 0 ≤ v ∧ v ≤ 7 then 1 else 0) := by
  unfold wp_X0_isLot
  rw [s_isIn]
  exact ⟨fun h => h.2, fun h => ⟨nb_if _, h⟩⟩
theorem s_areTwo {a b : Int32} {Post : Int32 → Prop} : wp_X0_areTwo a b Post ↔ Post (if (0 ≤ a ∧ a ≤ 5) ∧ (0 ≤ b ∧ b ≤ 5) ∧ ¬ a = b then 1 else 0) := by
  unfold wp_X0_areTwo wp_X0_areTwo_L23 wp_X0_areTwo_L24
  rw [s_isOne, b01]
  by_cases h1 : 0 ≤ a ∧ a ≤ 5
  · by_cases h2 : 0 ≤ b ∧ b ≤ 5
    · by_cases h3 : a = b
      · simp only [s_isOne, b01, h1, h2, h3, not_true_eq_false, false_implies, true_implies, and_self, and_true, true_and, and_false, if_false, nb_0, nb_1]
        try simp [h2, s_isOne, nb_0]
      · simp [s_isOne, h1, h2, h3, nb_1]
    · simp [s_isOne, h1, h2, nb_0]
  · simp [h1, nb_0]
theorem s_asNumber {i : Int32} {Post : Int32 → Prop} : wp_X0_asNumber i Post ↔ Post (if i = 0 then 0 else 1) := by
  unfold wp_X0_asNumber wp_X0_asNumber_L9
  by_cases h : i = 0 <;> simp [h]
theorem s_has {a k : Int32} {Post : Int32 → Prop} : wp_X0_has a k Post ↔ Post (if ((a >>> (k &&& 31)) &&& 1) = 1 then 1 else 0) := by
  unfold wp_X0_has wp_X0_has_L14
  by_cases h : ((a >>> (k &&& 31)) &&& 1) = 1 <;> simp [h, nb_0, nb_1]
theorem s2_inL {a b c : Int64} {Post : Int32 → Prop} : wp_X2_in a b c Post ↔ Post (if b ≤ a ∧ a ≤ c then 1 else 0) := by
  unfold wp_X2_in wp_X2_in_L17 wp_X2_in_L18
  rw [lg_cmp_lt, lg_cmp_gt]
  by_cases h1 : a < b
  · have h2 : ¬ (b ≤ a ∧ a ≤ c) := fun h => absurd h.1 (Int64.not_le.mpr h1)
    rw [if_neg h2]
    exact ⟨fun h => (h.1 h1).2, fun h => ⟨fun _ => ⟨rfl, h⟩, fun q => absurd h1 q⟩⟩
  · by_cases h3 : c < a
    · have h2 : ¬ (b ≤ a ∧ a ≤ c) := fun h => absurd h.2 (Int64.not_le.mpr h3)
      rw [if_neg h2]
      exact ⟨fun h => ((h.2 h1).1 h3).2, fun h => ⟨fun q => absurd q h1, fun _ => ⟨fun _ => ⟨rfl, h⟩, fun q => absurd h3 q⟩⟩⟩
    · rw [if_pos ⟨Int64.not_lt.mp h1, Int64.not_lt.mp h3⟩]
      exact ⟨fun h => ((h.2 h1).2 h3).2, fun h => ⟨fun q => absurd q h1, fun _ => ⟨fun q => absurd q h3, fun _ => ⟨rfl, h⟩⟩⟩⟩
/-- the model's ranges, over ints -/
theorem s2_in (v lo hi : Int32) {a b : Int64} {Post : Int32 → Prop} (ha : a = lo.toInt64) (hb : b = hi.toInt64) : wp_X2_in v.toInt64 a b Post ↔ Post (if lo ≤ v ∧ v ≤ hi then 1 else 0) := by
  subst ha hb
  rw [s2_inL]
  simp only [Int32.toInt64_le]
theorem s2_isOne {v : Int32} {Post : Int32 → Prop} : wp_X2_isOne v Post ↔ Post (if 0 ≤ v ∧ v ≤ 5 then 1 else 0) := by
  unfold wp_X2_isOne
  rw [s2_in v 0 5 (by decide) (by decide)]
  exact ⟨fun h => h.2, fun h => ⟨nb_if _, h⟩⟩
theorem s2_isLetter {v : Int32} {Post : Int32 → Prop} : wp_X2_isLetter v Post ↔ Post (if 65 ≤ v ∧ v ≤ 70 then 1 else 0) := by
  unfold wp_X2_isLetter
  rw [s2_in v 65 70 (by decide) (by decide)]
  exact ⟨fun h => h.2, fun h => ⟨nb_if _, h⟩⟩
/-- the rate of a hundred paper, one for both -/
def rateF (land : Int32) (notes : Int64) : Int32 := if notes = 0 then 100 else if (((100 : Int64) * land.toInt64) / notes) < 100 then (((100 : Int64) * land.toInt64) / notes).toInt32 else 100
theorem s_rateOf {a : Int32} {n : Int64} {Post : Int32 → Prop} : wp_X0_rateOf a n Post ↔ Post (rateF a n) := by
  unfold wp_X0_rateOf wp_X0_rateOf_L26 rateF
  rw [lg_cmp_eq]
  by_cases h : n = 0
  · rw [if_pos h]
    exact ⟨fun q => q.1 h, fun q => ⟨fun _ => q, fun z => absurd h z⟩⟩
  · rw [if_neg h]
    by_cases h2 : (((100 : Int64) * a.toInt64) / n) < 100
    · rw [if_pos h2, if_pos h2]
      exact ⟨fun q => (q.2 h).2, fun q => ⟨fun z => absurd z h, fun _ => ⟨h, q⟩⟩⟩
    · rw [if_neg h2, if_neg h2]
      exact ⟨fun q => (q.2 h).2, fun q => ⟨fun z => absurd z h, fun _ => ⟨h, q⟩⟩⟩
theorem s2_rateOf {a : Int32} {n : Int64} {Post : Int32 → Prop} : wp_X2_rateOf a n Post ↔ Post (rateF a n) := by
  have h100 : ∀ q : Int64, (wp_X2_rateOf_L20 Post q ↔ Post (if q < 100 then q.toInt32 else 100)) := by
    intro q
    unfold wp_X2_rateOf_L20 wp_X2_rateOf_L36
    rw [lg_cmp_le]
    by_cases h : q < 100
    · rw [if_pos h]
      exact ⟨fun z => z.1 (Int64.le_of_lt h), fun z => ⟨fun _ => z, fun w => absurd (Int64.le_of_lt h) w⟩⟩
    · rw [if_neg h]
      by_cases h2 : q ≤ 100
      · have e : q = 100 := Int64.le_antisymm h2 (Int64.not_lt.mp h)
        subst e
        exact ⟨fun z => z.1 h2, fun z => ⟨fun _ => z, fun w => absurd h2 w⟩⟩
      · exact ⟨fun z => z.2 h2, fun z => ⟨fun w => absurd w h2, fun _ => z⟩⟩
  unfold wp_X2_rateOf rateF
  rw [lg_cmp_eq, h100, h100]
  by_cases h : n = 0
  · rw [if_pos h]
    exact ⟨fun q => q.1 h, fun q => ⟨fun _ => q, fun z => absurd h z⟩⟩
  · rw [if_neg h]
    exact ⟨fun q => (q.2 h).2, fun q => ⟨fun z => absurd z h, fun _ => ⟨h, q⟩⟩⟩
