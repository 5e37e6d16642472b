/-! PURE 2: the acts, of the class and of the model -/
set_option maxRecDepth 100000
theorem ix_6 {a b : Int32} (ha : vp_in a 6) (hb : vp_in b 6) : ((6 : Int32) * a + b).toNatClampNeg = 6 * a.toNatClampNeg + b.toNatClampNeg ∧ vp_in ((6 : Int32) * a + b) 36 := by
  obtain ⟨i, hi, rfl⟩ := vp_in_of ha (by decide)
  obtain ⟨j, hj, rfl⟩ := vp_in_of hb (by decide)
  rw [show (6 : Int32) = nI 6 from rfl, pk_mul, nI_add, nI_clamp (by omega), nI_clamp (by omega), nI_clamp (by omega)]
  exact ⟨rfl, vp_in_nI (by omega) (by decide)⟩
theorem ix_lt {a : Int32} {n : Nat} (h : vp_in a n) : a.toNatClampNeg < n := x_vlt h
/-- the lands agree: the class's own (v) and the model's (in z) -/
def RL (v z : V) : Prop := (∀ k, k < 6 → z 0 k = v 0 k) ∧ (∀ k, k < 6 → z 1 k = v 1 k) ∧ (∀ a b, a < 6 → b < 6 → z 2 (6 * a + b) = v (2 + a) b) ∧ (∀ l, l < 8 → z 3 l = v 8 l) ∧ (∀ l, l < 8 → z 4 l = v 9 l) ∧ z 19 0 = v 10 0 ∧ z 19 1 = v 10 1 ∧ z 19 2 = v 14 0 ∧ z 19 3 = v 14 1
/-- what the class's land keeps to -/
def BL (v : V) : Prop := (∀ k, k < 6 → 0 ≤ v 0 k ∧ v 0 k ≤ 9999) ∧ (∀ a b, a < 6 → b < 6 → 0 ≤ v (2 + a) b) ∧ (∀ l, l < 8 → 0 ≤ v 8 l ∧ v 8 l ≤ 999) ∧ (∀ l, l < 8 → v 9 l = -6 ∨ 0 ≤ v 9 l) ∧ 0 ≤ v 10 0 ∧ v 10 0 ≤ 99999 ∧ (∀ k, k < 8 → 0 ≤ v 11 k ∧ v 11 k ≤ 255)
/-- what months leave of the model -/
def FrZ (z z' : V) : Prop := (∀ a, a ≠ 0 → a ≠ 1 → a ≠ 2 → a ≠ 4 → a ≠ 19 → z' a = z a) ∧ ∀ i, 4 ≤ i → z' 19 i = z 19 i
/-- what months leave of the class's land -/
def FrV (v v' : V) : Prop := v' 8 = v 8 ∧ v' 11 = v 11 ∧ v' 12 = v 12 ∧ v' 13 = v 13 ∧ v' 14 2 = v 14 2 ∧ v' 14 3 = v 14 3
theorem FrZ.rf {z : V} : FrZ z z := ⟨fun _ _ _ _ _ _ => rfl, fun _ _ => rfl⟩
theorem FrV.rf {v : V} : FrV v v := ⟨rfl, rfl, rfl, rfl, rfl, rfl⟩
theorem FrZ.tr {a b c : V} (h : FrZ a b) (k : FrZ b c) : FrZ a c := ⟨fun i h0 h1 h2 h4 h9 => (k.1 i h0 h1 h2 h4 h9).trans (h.1 i h0 h1 h2 h4 h9), fun i hi => (k.2 i hi).trans (h.2 i hi)⟩
theorem FrV.tr {a b c : V} (h : FrV a b) (k : FrV b c) : FrV a c := ⟨k.1.trans h.1, k.2.1.trans h.2.1, k.2.2.1.trans h.2.2.1, k.2.2.2.1.trans h.2.2.2.1, k.2.2.2.2.1.trans h.2.2.2.2.1, k.2.2.2.2.2.trans h.2.2.2.2.2⟩
theorem FrZ.up {z : V} {j i : Nat} {x : Int32} (h : j = 0 ∨ j = 1 ∨ j = 2 ∨ j = 4 ∨ (j = 19 ∧ i < 4)) : FrZ z (up2 z j i x) := by
  refine ⟨fun a h0 h1 h2 h4 h9 => up2_f z i x (by omega), fun b hb => ?_⟩
  rw [up2_e, if_neg (by omega)]
theorem FrV.up {v : V} {j i : Nat} {x : Int32} (h : j ≠ 8 ∧ j ≠ 11 ∧ j ≠ 12 ∧ j ≠ 13 ∧ (j = 14 → i ≠ 2 ∧ i ≠ 3)) : FrV v (up2 v j i x) := by
  refine ⟨up2_f v i x (by omega), up2_f v i x (by omega), up2_f v i x (by omega), up2_f v i x (by omega), ?_, ?_⟩ <;> rw [up2_e, if_neg (by omega)]
/-- one act on both sides: why not, and what then is -/
def ActOk (w k m : Int32) (v z : V) (g : VL) (r : Int32) (v' : V) : Prop :=
  (∀ P : Int32 → V → VL → Prop, P r z g → wp_X2_whyNot w k m z g P) ∧ 0 ≤ r ∧ (r = 0 → ∃ z', (∀ P : V → VL → Prop, P z' g → wp_X2_happen w k m z g P) ∧ RL v' z' ∧ BL v' ∧ FrZ z z' ∧ FrV v v') ∧ (¬ r = 0 → v' = v)
theorem ti_add {a b : Int32} (h1 : -2147483648 ≤ a.toInt + b.toInt) (h2 : a.toInt + b.toInt < 2147483648) : (a + b).toInt = a.toInt + b.toInt := by
  rw [Int32.toInt_add]
  exact Int.bmod_eq_of_le (by omega) (by omega)
theorem ti_sub {a b : Int32} (h1 : -2147483648 ≤ a.toInt - b.toInt) (h2 : a.toInt - b.toInt < 2147483648) : (a - b).toInt = a.toInt - b.toInt := by
  rw [Int32.toInt_sub]
  exact Int.bmod_eq_of_le (by omega) (by omega)
theorem le_i {a b : Int32} : a ≤ b ↔ a.toInt ≤ b.toInt := Int32.le_iff_toInt_le
theorem lt_i {a b : Int32} : a < b ↔ a.toInt < b.toInt := Int32.lt_iff_toInt_lt
theorem t_0 : (0 : Int32).toInt = 0 := by decide
theorem t_99999 : (99999 : Int32).toInt = 99999 := by decide
theorem le_add_i {a b : Int32} (ha : 0 ≤ a) (ha2 : a ≤ 99999) (hb : 0 ≤ b) (hb2 : b ≤ 99999) : 0 ≤ a + b := by
  rw [le_i, t_0] at ha hb
  rw [le_i, t_99999] at ha2 hb2
  rw [le_i, t_0, ti_add (by omega) (by omega)]
  omega
theorem a_no {w k m r : Int32} {v z : V} {g : VL} (h0 : 0 ≤ r) (hr : ¬ r = 0) (h : ∀ P : Int32 → V → VL → Prop, P r z g → wp_X2_whyNot w k m z g P) : ActOk w k m v z g r v := ⟨h, h0, fun q => absurd q hr, fun _ => rfl⟩
theorem ite_2 {C1 C2 : Prop} [Decidable C1] [Decidable C2] {x a b : Int32} (hc : C1 ↔ C2) (h : a = b) : (if C1 then x else a) = if C2 then x else b := by
  subst h
  by_cases h1 : C1
  · rw [if_pos h1, if_pos (hc.mp h1)]
  · rw [if_neg h1, if_neg (fun q => h1 (hc.mpr q))]
theorem up2_c (v : V) {j i j2 i2 : Nat} {x x2 : Int32} (h : j ≠ j2) : up2 (up2 v j i x) j2 i2 x2 = up2 (up2 v j2 i2 x2) j i x := by
  funext a b
  rw [up2_e, up2_e, up2_e, up2_e]
  by_cases h1 : a = j2 ∧ b = i2
  · rw [if_pos h1, if_neg (by omega), if_pos h1]
  · rw [if_neg h1, if_neg h1]
theorem RL.up {v z : V} (h : RL v z) {j i j2 i2 : Nat} {x : Int32} (c1 : ∀ k, k < 6 → ((0 = j2 ∧ k = i2) ↔ (0 = j ∧ k = i))) (c2 : ∀ k, k < 6 → ((1 = j2 ∧ k = i2) ↔ (1 = j ∧ k = i))) (c3 : ∀ a b, a < 6 → b < 6 → ((2 = j2 ∧ 6 * a + b = i2) ↔ (2 + a = j ∧ b = i))) (c4 : ∀ k, k < 8 → ((3 = j2 ∧ k = i2) ↔ (8 = j ∧ k = i))) (c5 : ∀ k, k < 8 → ((4 = j2 ∧ k = i2) ↔ (9 = j ∧ k = i))) (c6 : (19 = j2 ∧ 0 = i2) ↔ (10 = j ∧ 0 = i)) (c7 : (19 = j2 ∧ 1 = i2) ↔ (10 = j ∧ 1 = i)) (c8 : (19 = j2 ∧ 2 = i2) ↔ (14 = j ∧ 0 = i)) (c9 : (19 = j2 ∧ 3 = i2) ↔ (14 = j ∧ 1 = i)) : RL (up2 v j i x) (up2 z j2 i2 x) := by
  obtain ⟨h1, h2, h3, h4, h5, h6, h7, h8, h9⟩ := h
  refine ⟨fun k hk => ?_, fun k hk => ?_, fun a b ha hb => ?_, fun k hk => ?_, fun k hk => ?_, ?_, ?_, ?_, ?_⟩ <;> rw [up2_e, up2_e]
  · exact ite_2 (c1 k hk) (h1 k hk)
  · exact ite_2 (c2 k hk) (h2 k hk)
  · exact ite_2 (c3 a b ha hb) (h3 a b ha hb)
  · exact ite_2 (c4 k hk) (h4 k hk)
  · exact ite_2 (c5 k hk) (h5 k hk)
  · exact ite_2 c6 h6
  · exact ite_2 c7 h7
  · exact ite_2 c8 h8
  · exact ite_2 c9 h9
theorem RL.paper {v z : V} (h : RL v z) {k : Nat} {x : Int32} : RL (up2 v 0 k x) (up2 z 0 k x) := h.up (fun _ _ => by omega) (fun _ _ => by omega) (fun _ _ _ _ => by omega) (fun _ _ => by omega) (fun _ _ => by omega) (by omega) (by omega) (by omega) (by omega)
theorem RL.coin {v z : V} (h : RL v z) {k : Nat} {x : Int32} : RL (up2 v 1 k x) (up2 z 1 k x) := h.up (fun _ _ => by omega) (fun _ _ => by omega) (fun _ _ _ _ => by omega) (fun _ _ => by omega) (fun _ _ => by omega) (by omega) (by omega) (by omega) (by omega)
theorem RL.owe {v z : V} (h : RL v z) {a b : Nat} {x : Int32} (ha : a < 6) (hb : b < 6) : RL (up2 v (2 + a) b x) (up2 z 2 (6 * a + b) x) := h.up (fun _ _ => by omega) (fun _ _ => by omega) (fun _ _ _ _ => by omega) (fun _ _ => by omega) (fun _ _ => by omega) (by omega) (by omega) (by omega) (by omega)
theorem RL.price {v z : V} (h : RL v z) {k : Nat} {x : Int32} : RL (up2 v 8 k x) (up2 z 3 k x) := h.up (fun _ _ => by omega) (fun _ _ => by omega) (fun _ _ _ _ => by omega) (fun _ _ => by omega) (fun _ _ => by omega) (by omega) (by omega) (by omega) (by omega)
theorem RL.whose {v z : V} (h : RL v z) {k : Nat} {x : Int32} : RL (up2 v 9 k x) (up2 z 4 k x) := h.up (fun _ _ => by omega) (fun _ _ => by omega) (fun _ _ _ _ => by omega) (fun _ _ => by omega) (fun _ _ => by omega) (by omega) (by omega) (by omega) (by omega)
theorem RL.told0 {v z : V} (h : RL v z) {x : Int32} : RL (up2 v 10 0 x) (up2 z 19 0 x) := h.up (fun _ _ => by omega) (fun _ _ => by omega) (fun _ _ _ _ => by omega) (fun _ _ => by omega) (fun _ _ => by omega) (by omega) (by omega) (by omega) (by omega)
theorem RL.told1 {v z : V} (h : RL v z) {x : Int32} : RL (up2 v 10 1 x) (up2 z 19 1 x) := h.up (fun _ _ => by omega) (fun _ _ => by omega) (fun _ _ _ _ => by omega) (fun _ _ => by omega) (fun _ _ => by omega) (by omega) (by omega) (by omega) (by omega)
theorem RL.burnt {v z : V} (h : RL v z) {x : Int32} : RL (up2 v 14 0 x) (up2 z 19 2 x) := h.up (fun _ _ => by omega) (fun _ _ => by omega) (fun _ _ _ _ => by omega) (fun _ _ => by omega) (fun _ _ => by omega) (by omega) (by omega) (by omega) (by omega)
theorem RL.months {v z : V} (h : RL v z) {x : Int32} : RL (up2 v 14 1 x) (up2 z 19 3 x) := h.up (fun _ _ => by omega) (fun _ _ => by omega) (fun _ _ _ _ => by omega) (fun _ _ => by omega) (fun _ _ => by omega) (by omega) (by omega) (by omega) (by omega)
/-- a region that the model's land hasn't -/
theorem RL.other {v z : V} (h : RL v z) {j i : Nat} {x : Int32} (hj : j ≠ 0 ∧ j ≠ 1 ∧ j ≠ 2 ∧ j ≠ 3 ∧ j ≠ 4 ∧ (j = 19 → 4 ≤ i)) : RL v (up2 z j i x) := by
  obtain ⟨h1, h2, h3, h4, h5, h6, h7, h8, h9⟩ := h
  refine ⟨fun k hk => ?_, fun k hk => ?_, fun a b ha hb => ?_, fun k hk => ?_, fun k hk => ?_, ?_, ?_, ?_, ?_⟩ <;> rw [up2_e, if_neg (by omega)]
  · exact h1 k hk
  · exact h2 k hk
  · exact h3 a b ha hb
  · exact h4 k hk
  · exact h5 k hk
  · exact h6
  · exact h7
  · exact h8
  · exact h9
theorem BL.up {v : V} (h : BL v) {j i : Nat} {x : Int32} (c1 : j = 0 → 0 ≤ x ∧ x ≤ 9999) (c2 : 2 ≤ j → j < 8 → 0 ≤ x) (c3 : j = 8 → 0 ≤ x ∧ x ≤ 999) (c4 : j = 9 → x = -6 ∨ 0 ≤ x) (c5 : j = 10 → i = 0 → 0 ≤ x ∧ x ≤ 99999) (c6 : j = 11 → 0 ≤ x ∧ x ≤ 255) : BL (up2 v j i x) := by
  obtain ⟨b1, b2, b3, b4, b5, b6, b7⟩ := h
  refine ⟨fun k hk => ?_, fun a b ha hb => ?_, fun k hk => ?_, fun k hk => ?_, ?_, ?_, fun k hk => ?_⟩ <;> rw [up2_e] <;> split
  · rename_i q; exact c1 q.1.symm
  · exact b1 k hk
  · rename_i q; exact c2 (by omega) (by omega)
  · exact b2 a b ha hb
  · rename_i q; exact c3 q.1.symm
  · exact b3 k hk
  · rename_i q; exact c4 q.1.symm
  · exact b4 k hk
  · rename_i q; exact (c5 q.1.symm q.2.symm).1
  · exact b5
  · rename_i q; exact (c5 q.1.symm q.2.symm).2
  · exact b6
  · rename_i q; exact c6 q.1.symm
  · exact b7 k hk
/-- a region whose bounds aren't kept -/
theorem BL.free {v : V} (h : BL v) {j i : Nat} {x : Int32} (hj : j = 1 ∨ j = 14 ∨ j = 12 ∨ j = 13 ∨ (j = 10 ∧ i ≠ 0)) : BL (up2 v j i x) :=
  h.up (fun _ => by omega) (fun _ _ => by omega) (fun _ => by omega) (fun _ => by omega) (fun _ _ => by omega) (fun _ => by omega)
theorem BL.paper {v : V} (h : BL v) {i : Nat} {x : Int32} (hx : 0 ≤ x ∧ x ≤ 9999) : BL (up2 v 0 i x) := h.up (fun _ => hx) (fun _ _ => by omega) (fun _ => by omega) (fun _ => by omega) (fun _ _ => by omega) (fun _ => by omega)
theorem BL.owe {v : V} (h : BL v) {a i : Nat} {x : Int32} (ha : a < 6) (hx : 0 ≤ x) : BL (up2 v (2 + a) i x) := h.up (fun _ => by omega) (fun _ _ => hx) (fun _ => by omega) (fun _ => by omega) (fun _ _ => by omega) (fun _ => by omega)
theorem BL.price {v : V} (h : BL v) {i : Nat} {x : Int32} (hx : 0 ≤ x ∧ x ≤ 999) : BL (up2 v 8 i x) := h.up (fun _ => by omega) (fun _ _ => by omega) (fun _ => hx) (fun _ => by omega) (fun _ _ => by omega) (fun _ => by omega)
theorem BL.whose {v : V} (h : BL v) {i : Nat} {x : Int32} (hx : x = -6 ∨ 0 ≤ x) : BL (up2 v 9 i x) := h.up (fun _ => by omega) (fun _ _ => by omega) (fun _ => by omega) (fun _ => hx) (fun _ _ => by omega) (fun _ => by omega)
theorem BL.told0 {v : V} (h : BL v) {x : Int32} (hx : 0 ≤ x ∧ x ≤ 99999) : BL (up2 v 10 0 x) := h.up (fun _ => by omega) (fun _ _ => by omega) (fun _ => by omega) (fun _ => by omega) (fun _ _ => hx) (fun _ => by omega)
theorem vin_0 {i : Int32} {n : Nat} (h : vp_in i n) : 0 ≤ i := Int32.not_lt.mp (fun q => h (Or.inl q))
theorem sub_i {a b : Int32} (ha2 : a ≤ 99999) (hb : 0 ≤ b) (hab : b ≤ a) : 0 ≤ a - b ∧ a - b ≤ a := by
  rw [le_i, t_0] at hb
  rw [le_i, t_99999] at ha2
  rw [le_i] at hab
  rw [le_i, le_i, t_0, ti_sub (by omega) (by omega)]
  omega
theorem a_print {k m : Int32} {v z : V} {g : VL} {Q : Int32 → V → Prop} (h : RL v z) (b : BL v) (hm : 0 ≤ m ∧ m ≤ 900) (hQ : ∀ r v', ActOk 0 k m v z g r v' → Q r v') : wp_X1_print m v Q := by
  have h6 := h.2.2.2.2.2.1
  have b5 := b.2.2.2.2.1
  have b6 := b.2.2.2.2.2.1
  unfold wp_X1_print
  rw [cl_0]
  refine ⟨fun c => hQ 0 _ ⟨fun P hP => ?_, by decide, fun _ => ⟨up2 z 19 0 (v 10 0 + m), fun P hP => ?_, h.told0, b.told0 ⟨le_add_i b5 b6 hm.1 (Int32.le_trans hm.2 (by decide)), c⟩, FrZ.up (by omega), FrV.up (by omega)⟩, fun q => absurd rfl q⟩, fun c => hQ 5 v (a_no (by decide) (by decide) (fun P hP => ?_))⟩
  · simpa [wp_X2_whyNot, wp_X2_whyNot_L56, h6, c] using hP
  · simpa [wp_X2_happen, wp_X2_happen_L136, h6] using hP
  · simpa [wp_X2_whyNot, wp_X2_whyNot_L56, h6, c] using hP
theorem a_spend {k m : Int32} {v z : V} {g : VL} {Q : Int32 → V → Prop} (h : RL v z) (b : BL v) (hk : vp_in k 6) (hm : 0 ≤ m ∧ m ≤ 900) (hQ : ∀ r v', ActOk 5 k m v z g r v' → Q r v') : wp_X1_spend k m v Q := by
  have h6 := h.2.2.2.2.2.1
  have hp := h.1 _ (ix_lt hk)
  have b1 := b.1 _ (ix_lt hk)
  have b6 := b.2.2.2.2.2.1
  unfold wp_X1_spend
  rw [cl_0]
  refine ⟨fun c => ⟨hk, fun c2 => ⟨hk, hk, hQ 0 _ ⟨fun P hP => ?_, by decide, fun _ => ⟨up2 (up2 z 19 0 (v 10 0 - m)) 0 k.toNatClampNeg (v 0 k.toNatClampNeg + m), fun P hP => ?_, h.told0.paper, (b.told0 ⟨(sub_i b6 hm.1 c).1, Int32.le_trans (sub_i b6 hm.1 c).2 b6⟩).paper ⟨le_add_i b1.1 (Int32.le_trans b1.2 (by decide)) hm.1 (Int32.le_trans hm.2 (by decide)), c2⟩, (FrZ.up (by omega)).tr (FrZ.up (by omega)), (FrV.up (by omega)).tr (FrV.up (by omega))⟩, fun q => absurd rfl q⟩⟩, fun c2 => hQ 5 v (a_no (by decide) (by decide) (fun P hP => ?_))⟩, fun c => hQ 3 v (a_no (by decide) (by decide) (fun P hP => ?_))⟩
  · simpa [wp_X2_whyNot, wp_X2_whyNot_L167, h6, hp, c, c2, hk] using hP
  · simpa [wp_X2_happen, wp_X2_happen_L136, h6, hp, hk] using hP
  · simpa [wp_X2_whyNot, wp_X2_whyNot_L167, h6, hp, c, c2, hk] using hP
  · simpa [wp_X2_whyNot, wp_X2_whyNot_L167, h6, hp, c, hk] using hP
theorem a_forge {k m : Int32} {v z : V} {g : VL} {Q : Int32 → V → Prop} (h : RL v z) (b : BL v) (hk : vp_in k 6) (hm : 0 ≤ m ∧ m ≤ 900) (hQ : ∀ r v', ActOk 1 k m v z g r v' → Q r v') : wp_X1_forge k m v Q := by
  have h7 := h.2.2.2.2.2.2.1
  have hp := h.1 _ (ix_lt hk)
  have b1 := b.1 _ (ix_lt hk)
  unfold wp_X1_forge wp_X1_forge_L27
  rw [cl_1]
  refine ⟨hk, fun c => hQ 5 v (a_no (by decide) (by decide) (fun P hP => ?_)), fun c => ⟨fun c2 => ⟨hk, hk, hQ 0 _ ⟨fun P hP => ?_, by decide, fun _ => ⟨up2 (up2 z 0 k.toNatClampNeg (v 0 k.toNatClampNeg + m)) 19 1 (v 10 1 + m), fun P hP => ?_, h.paper.told1, (b.paper ⟨le_add_i b1.1 (Int32.le_trans b1.2 (by decide)) hm.1 (Int32.le_trans hm.2 (by decide)), Int32.not_lt.mp c⟩).free (by omega), (FrZ.up (by omega)).tr (FrZ.up (by omega)), (FrV.up (by omega)).tr (FrV.up (by omega))⟩, fun q => absurd rfl q⟩⟩, fun c2 => hQ 5 v (a_no (by decide) (by decide) (fun P hP => ?_))⟩⟩
  · simpa [wp_X2_whyNot, wp_X2_whyNot_L82, wp_X2_whyNot_L87, h7, hp, c, hk] using hP
  · simpa [wp_X2_whyNot, wp_X2_whyNot_L82, wp_X2_whyNot_L87, h7, hp, c, c2, hk] using hP
  · simpa [wp_X2_happen, wp_X2_happen_L136, h7, hp, hk] using hP
  · simpa [wp_X2_whyNot, wp_X2_whyNot_L82, wp_X2_whyNot_L87, h7, hp, c, c2, hk] using hP
theorem a_month {k m : Int32} {v z : V} {g : VL} {Q : Int32 → V → Prop} (h : RL v z) (b : BL v) (hQ : ∀ r v', ActOk 6 k m v z g r v' → Q r v') : wp_X1_month v Q := by
  have h9 := h.2.2.2.2.2.2.2.2
  unfold wp_X1_month
  refine ⟨fun c => hQ 6 v (a_no (by decide) (by decide) (fun P hP => ?_)), fun c => hQ 0 _ ⟨fun P hP => ?_, by decide, fun _ => ⟨up2 z 19 3 (v 14 1 + 1), fun P hP => ?_, h.months, b.free (by omega), FrZ.up (by omega), FrV.up (by omega)⟩, fun q => absurd rfl q⟩⟩
  · simpa [wp_X2_whyNot, wp_X2_whyNot_L183, h9, c] using hP
  · simpa [wp_X2_whyNot, wp_X2_whyNot_L183, h9, c] using hP
  · simpa [wp_X2_happen, wp_X2_happen_L136, h9] using hP
theorem a_buy {k m : Int32} {v z : V} {g : VL} {Q : Int32 → V → Prop} (h : RL v z) (b : BL v) (hk : vp_in k 6) (hm : vp_in m 8) (hQ : ∀ r v', ActOk 2 k m v z g r v' → Q r v') : wp_X1_buy k m v Q := by
  have hp := h.1 _ (ix_lt hk)
  have h4 := h.2.2.2.1 _ (ix_lt hm)
  have h5 := h.2.2.2.2.1 _ (ix_lt hm)
  have h8 := h.2.2.2.2.2.2.2.1
  have b1 := b.1 _ (ix_lt hk)
  have b3 := b.2.2.1 _ (ix_lt hm)
  unfold wp_X1_buy
  refine ⟨hm, fun c => ⟨hk, hm, fun c2 => ⟨hk, hm, hk, hm, hm, hQ 0 _ ⟨fun P hP => ?_, by decide, fun _ => ⟨up2 (up2 (up2 z 4 m.toNatClampNeg k) 0 k.toNatClampNeg (v 0 k.toNatClampNeg - v 8 m.toNatClampNeg)) 19 2 (v 14 0 + v 8 m.toNatClampNeg), fun P hP => ?_, ?_, ?_, ((FrZ.up (by omega)).tr (FrZ.up (by omega))).tr (FrZ.up (by omega)), ((FrV.up (by omega)).tr (FrV.up (by omega))).tr (FrV.up (by omega))⟩, fun q => absurd rfl q⟩⟩, fun c2 => hQ 3 v (a_no (by decide) (by decide) (fun P hP => ?_))⟩, fun c => hQ 2 v (a_no (by decide) (by decide) (fun P hP => ?_))⟩
  · simpa [wp_X2_whyNot, wp_X2_whyNot_L121, hp, h4, h5, c, c2, hk, hm] using hP
  · have e0 : up2 z 4 m.toNatClampNeg k 0 k.toNatClampNeg = z 0 k.toNatClampNeg := by rw [up2_e, if_neg (by omega)]
    simpa [wp_X2_happen, wp_X2_happen_L136, wp_X2_buy, hp, h4, h8, hk, hm] using hP
  · rw [up2_c _ (j := 14) (j2 := 9) (by decide), up2_c _ (j := 0) (j2 := 9) (by decide)]
    exact h.whose.paper.burnt
  · exact (((b.paper ⟨(sub_i (Int32.le_trans b1.2 (by decide)) b3.1 c2).1, Int32.le_trans (sub_i (Int32.le_trans b1.2 (by decide)) b3.1 c2).2 b1.2⟩).free (j := 14) (by omega))).whose (Or.inr (vin_0 hk))
  · simpa [wp_X2_whyNot, wp_X2_whyNot_L121, hp, h4, h5, c, c2, hk, hm] using hP
  · simpa [wp_X2_whyNot, wp_X2_whyNot_L121, hp, h4, h5, c, hk, hm] using hP
