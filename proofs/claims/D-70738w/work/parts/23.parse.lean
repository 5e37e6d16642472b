/-! PURE 4: the pad read, by the class's states and by the model's -/
set_option maxRecDepth 100000
def LT (c : Int32) : Prop := 65 ≤ c ∧ c ≤ 70
def DG (c : Int32) : Prop := 49 ≤ c ∧ c ≤ 57
def D7 (c : Int32) : Prop := 48 ≤ c ∧ c ≤ 55
theorem t_65 : (65 : Int32).toInt = 65 := by decide
theorem t_70 : (70 : Int32).toInt = 70 := by decide
theorem t_5 : (5 : Int32).toInt = 5 := by decide
theorem lt_sub (c : Int32) : (0 ≤ c - 65 ∧ c - 65 ≤ 5) ↔ (65 ≤ c ∧ c ≤ 70) := by
  rw [le_i, le_i, le_i, le_i, t_0, t_5, t_65, t_70]
  have h1 := Int32.le_toInt c
  have h2 := Int32.toInt_lt c
  by_cases h : -2147483648 ≤ c.toInt - 65
  · rw [ti_sub (by rw [t_65]; omega) (by rw [t_65]; omega), t_65]
    omega
  · have e : (c - 65).toInt = c.toInt - 65 + 4294967296 := by
      rw [Int32.toInt_sub, t_65]
      have : (c.toInt - 65).bmod (2 ^ 32) = (c.toInt - 65 + 4294967296).bmod (2 ^ 32) := by
        rw [show (4294967296 : Int) = ((2 ^ 32 : Nat) : Int) by decide, Int.add_bmod_right]
      rw [this]
      exact Int.bmod_eq_of_le (by omega) (by omega)
    rw [e]
    omega
def stepF (s c : Int32) : Int32 :=
  if s = 0 then (if 65 ≤ c ∧ c ≤ 70 then 1 else if c = 43 then 2 else if c = 33 then 5 else if c = 46 then 0 else -6)
  else if s = 1 then (if c = 36 then 3 else if c = 47 then 2 else if c = 64 then 2 else if c = 62 then 4 else -6)
  else if s = 2 then (if 49 ≤ c ∧ c ≤ 57 then 0 else -6)
  else if s = 3 then (if 48 ≤ c ∧ c ≤ 55 then 0 else -6)
  else if s = 4 then (if 65 ≤ c ∧ c ≤ 70 then 0 else -6)
  else if s = 5 then (if 65 ≤ c ∧ c ≤ 70 then 2 else -6)
  else (if 65 ≤ c ∧ c ≤ 70 then 0 else -6)
theorem br_e {c A B : Prop} [Decidable c] : ((c → A) ∧ (¬ c → B)) ↔ (if c then A else B) := by
  by_cases h : c <;> simp [h]
theorem s_step {s c : Int32} {Post : Int32 → Prop} (h : Post (stepF s c)) : wp_X0_step s c Post := by
  unfold wp_X0_step wp_X0_step_L88 wp_X0_step_L127 wp_X0_step_L111 wp_X0_step_L127 wp_X0_step_L145 wp_X0_step_L163 wp_X0_step_L174 wp_X0_step_L175 wp_X0_step_L185
  rw [s_isOne]
  have e : (if 0 ≤ c - 65 ∧ c - 65 ≤ 5 then (1 : Int32) else 0) = if 65 ≤ c ∧ c ≤ 70 then 1 else 0 := by
    by_cases q : 65 ≤ c ∧ c ≤ 70
    · rw [if_pos q, if_pos ((lt_sub c).mpr q)]
    · rw [if_neg q, if_neg (fun z => q ((lt_sub c).mp z))]
  rw [e]
  unfold stepF at h
  simp only [b01, s_isIn]
  refine ⟨fun c0 => ?_, fun c0 => ⟨fun c1 => ?_, fun c1 => ⟨fun c2 => ?_, fun c2 => ⟨fun c3 => ?_, fun c3 => ⟨fun c4 => ?_, fun c4 => ⟨fun c5 => ?_, fun c5 => ?_⟩⟩⟩⟩⟩⟩
  · rw [if_pos c0] at h
    refine ⟨fun q => ⟨fun q1 => ?_, fun q1 => ⟨fun q2 => ?_, fun q2 => ⟨fun q3 => ?_, fun q3 => ?_⟩⟩⟩, fun q => ?_⟩
    · rw [if_neg q, if_pos q1] at h; exact h
    · rw [if_neg q, if_neg q1, if_pos q2] at h; exact h
    · rw [if_neg q, if_neg q1, if_neg q2, if_pos q3] at h; exact h
    · rw [if_neg q, if_neg q1, if_neg q2, if_neg q3] at h; exact h
    · rw [if_pos q] at h; exact h
  · rw [if_neg c0, if_pos c1] at h
    refine ⟨fun q1 => ?_, fun q1 => ⟨fun q2 => ?_, fun q2 => ⟨fun q3 => ?_, fun q3 => ⟨fun q4 => ?_, fun q4 => ?_⟩⟩⟩⟩
    · rw [if_pos q1] at h; exact h
    · rw [if_neg q1, if_pos q2] at h; exact h
    · rw [if_neg q1, if_neg q2, if_pos q3] at h; exact h
    · rw [if_neg q1, if_neg q2, if_neg q3, if_pos q4] at h; exact h
    · rw [if_neg q1, if_neg q2, if_neg q3, if_neg q4] at h; exact h
  · rw [if_neg c0, if_neg c1, if_pos c2] at h
    exact ⟨fun q => by rw [if_neg q] at h; exact h, fun q => by rw [if_pos q] at h; exact h⟩
  · rw [if_neg c0, if_neg c1, if_neg c2, if_pos c3] at h
    exact ⟨fun q => by rw [if_neg q] at h; exact h, fun q => by rw [if_pos q] at h; exact h⟩
  · rw [if_neg c0, if_neg c1, if_neg c2, if_neg c3, if_pos c4] at h
    exact ⟨fun q => by rw [if_neg q] at h; exact h, fun q => by rw [if_pos q] at h; exact h⟩
  · rw [if_neg c0, if_neg c1, if_neg c2, if_neg c3, if_neg c4, if_pos c5] at h
    exact ⟨fun q => by rw [if_neg q] at h; exact h, fun q => by rw [if_pos q] at h; exact h⟩
  · rw [if_neg c0, if_neg c1, if_neg c2, if_neg c3, if_neg c4, if_neg c5] at h
    exact ⟨fun q => by rw [if_neg q] at h; exact h, fun q => by rw [if_pos q] at h; exact h⟩
/-- the fault of the text c of n signs, k of them left -/
def faultG (c : Nat → Int32) (n : Nat) : Nat → Int32 → Nat → Int32
  | 0, s, _ => if s = 0 then -6 else nI n
  | k + 1, s, i => if 0 ≤ stepF s (c i) then faultG c n k (stepF s (c i)) (i + 1) else nI i
theorem s_faultL {x : V} {y : VL} {v0 v1 v2 v3 : V} {n : Nat} {Post : Int32 → V → VL → V → V → V → V → Prop} (hn : n ≤ 60) (hx : x 5 0 = nI n) : ∀ (k i : Nat) (s : Int32), i + k = n → Post (faultG (x 0) n k s i) x y v0 v1 v2 v3 → wp_X0_faultOf_L4 Post (k + 1) s (nI i) x y v0 v1 v2 v3 := by
  intro k
  induction k with
  | zero =>
    intro i s he h
    obtain rfl : i = n := he
    refine ⟨fun _ => ?_, fun q => absurd (by rw [hx]; exact nI_le (Nat.le_refl _) (by omega)) q⟩
    unfold wp_X0_faultOf_L48
    rw [hx]
    unfold faultG at h
    exact ⟨fun q => by rw [if_pos q] at h; exact h, fun q => by rw [if_neg q] at h; exact h⟩
  | succ k ih =>
    intro i s he h
    refine ⟨fun q => absurd (by rw [hx] at q; exact q) (nI_ge (a := i) (b := n) (by omega) (by omega)), fun _ => ⟨vp_in_nI (by omega) (by decide), s_step ?_⟩⟩
    rw [nI_clamp (by omega), nI_1]
    unfold faultG at h
    exact ⟨fun q => ih (i + 1) _ (by omega) (by rw [if_pos q] at h; exact h), fun q => by rw [if_neg q] at h; exact h⟩
theorem s_faultOf {x : V} {y : VL} {v0 v1 v2 v3 : V} {n : Nat} {Post : Int32 → V → VL → V → V → V → V → Prop} (hn : n ≤ 60) (hx : x 5 0 = nI n) (h : Post (faultG (x 0) n n 0 0) x y v0 v1 v2 v3) : wp_X0_faultOf x y v0 v1 v2 v3 Post :=
  ⟨n + 1, s_faultL hn hx n 0 0 (by omega) h⟩
