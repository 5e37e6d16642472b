/-! PURE 8: the relation of class and model; the small calls -/
set_option maxRecDepth 100000
def RS (v z : V) : Prop := z 19 4 = v 14 2 ∧ (∃ s, s ≤ 8 ∧ v 14 2 = nI s) ∧ (∀ k, k < 8 → z 5 k = v 11 k) ∧ (∀ k, k < 8 → z 6 k = v 12 k) ∧ (∀ k, k < 8 → z 7 k = v 13 k)
def RP (x z : V) : Prop := (∃ n, n ≤ 60 ∧ x 5 0 = nI n ∧ z 19 5 = nI n) ∧ ∀ k, k < 60 → z 8 k = x 0 k
/-- an image, in the model's row -/
def KP (v z : V) (o : Nat) : Prop := z 17 o = v 10 0 ∧ z 17 (o + 1) = v 10 1 ∧ z 17 (o + 2) = v 14 0 ∧ z 17 (o + 3) = v 14 1 ∧ z 17 (o + 4) = v 14 2 ∧ (∀ k, k < 6 → z 17 (o + (5 + k)) = v 0 k) ∧ (∀ k, k < 6 → z 17 (o + (11 + k)) = v 1 k) ∧ (∀ a b, a < 6 → b < 6 → z 17 (o + (17 + (6 * a + b))) = v (2 + a) b) ∧ (∀ l, l < 8 → z 17 (o + (53 + l)) = v 8 l) ∧ (∀ l, l < 8 → z 17 (o + (61 + l)) = v 9 l) ∧ (∀ k, k < 8 → z 17 (o + (69 + k)) = v 11 k) ∧ (∀ k, k < 8 → z 17 (o + (77 + k)) = v 12 k) ∧ (∀ k, k < 8 → z 17 (o + (85 + k)) = v 13 k)
def RI (v z : V) (j : Nat) : Prop := z 18 j = v 14 3 ∧ (v 14 3 = 0 ∨ (v 14 3 = 1 ∧ KP v z (100 * j) ∧ BL v ∧ ∃ s, s ≤ 8 ∧ v 14 2 = nI s))
def RR (x v0 v2 v3 z : V) : Prop := RL v0 z ∧ BL v0 ∧ RS v0 z ∧ RP x z ∧ RI v2 z 0 ∧ RI v3 z 1
abbrev QT : Type := Int32 → V → VL → V → V → V → V → Int32 → V → VL → Prop
/-- the same answer, and related again -/
def Agree (Q : QT) : Prop := ∀ (r : Int32) (x : V) (y : VL) (v0 v1 v2 v3 z : V) (g : VL), RR x v0 v2 v3 z → Q r x y v0 v1 v2 v3 r z g
theorem KP.fr {v z z' : V} {o : Nat} (h : KP v z o) (e : z' 17 = z 17) : KP v z' o := by
  unfold KP
  rw [e]
  exact h
theorem RI.fr {v z z' : V} {j : Nat} (h : RI v z j) (e : z' 17 = z 17) (e8 : z' 18 = z 18) : RI v z' j := by
  refine ⟨by rw [e8]; exact h.1, ?_⟩
  rcases h.2 with q | ⟨q, k, b, s⟩
  · exact Or.inl q
  · exact Or.inr ⟨q, k.fr e, b, s⟩
theorem RS.fr {v z v' z' : V} (h : RS v z) (e4 : z' 19 4 = z 19 4) (e5 : z' 5 = z 5) (e6 : z' 6 = z 6) (e7 : z' 7 = z 7) (f2 : v' 14 2 = v 14 2) (f11 : ∀ k, k < 8 → v' 11 k = v 11 k) (f12 : ∀ k, k < 8 → v' 12 k = v 12 k) (f13 : ∀ k, k < 8 → v' 13 k = v 13 k) : RS v' z' := by
  obtain ⟨h1, ⟨s, hs, h2⟩, h3, h4, h5⟩ := h
  refine ⟨by rw [e4, f2]; exact h1, ⟨s, hs, f2.trans h2⟩, fun k q => ?_, fun k q => ?_, fun k q => ?_⟩
  · rw [e5, f11 k q]; exact h3 k q
  · rw [e6, f12 k q]; exact h4 k q
  · rw [e7, f13 k q]; exact h5 k q
theorem RP.fr {x z x' z' : V} (h : RP x z) (hx : x' 0 = x 0) (hx5 : x' 5 0 = x 5 0) (e8 : z' 8 = z 8) (e5 : z' 19 5 = z 19 5) : RP x' z' := by
  obtain ⟨⟨n, hn, h1, h2⟩, h3⟩ := h
  exact ⟨⟨n, hn, hx5.trans h1, e5.trans h2⟩, fun k q => by rw [e8, hx]; exact h3 k q⟩
/-- nothing that the relation looks at is changed, but the land -/
theorem RR.land {x x' v0 v0' v2 v3 z z' : V} (h : RR x v0 v2 v3 z) (hx : x' 0 = x 0) (hx5 : x' 5 0 = x 5 0) (hR : RL v0' z') (hB : BL v0') (f2 : v0' 14 2 = v0 14 2) (f11 : ∀ k, k < 8 → v0' 11 k = v0 11 k) (f12 : ∀ k, k < 8 → v0' 12 k = v0 12 k) (f13 : ∀ k, k < 8 → v0' 13 k = v0 13 k) (hz : ∀ r, r = 5 ∨ r = 6 ∨ r = 7 ∨ r = 8 ∨ r = 17 ∨ r = 18 → z' r = z r) (e4 : z' 19 4 = z 19 4) (e5 : z' 19 5 = z 19 5) : RR x' v0' v2 v3 z' :=
  ⟨hR, hB, h.2.2.1.fr e4 (hz 5 (by omega)) (hz 6 (by omega)) (hz 7 (by omega)) f2 f11 f12 f13, h.2.2.2.1.fr hx hx5 (hz 8 (by omega)) e5, h.2.2.2.2.1.fr (hz 17 (by omega)) (hz 18 (by omega)), h.2.2.2.2.2.fr (hz 17 (by omega)) (hz 18 (by omega))⟩
/-- only scratch is changed -/
theorem RR.fr {x x' v0 v2 v3 z z' : V} (h : RR x v0 v2 v3 z) (hx : x' 0 = x 0) (hx5 : x' 5 0 = x 5 0) (hL : LZ z z') (hz : ∀ r, r = 3 ∨ r = 5 ∨ r = 6 ∨ r = 7 ∨ r = 8 ∨ r = 17 ∨ r = 18 → z' r = z r) (e4 : z' 19 4 = z 19 4) (e5 : z' 19 5 = z 19 5) : RR x' v0 v2 v3 z' :=
  h.land hx hx5 (hL.RL (hz 3 (by omega)) h.1) h.2.1 rfl (fun _ _ => rfl) (fun _ _ => rfl) (fun _ _ => rfl) (fun r q => hz r (by omega)) e4 e5
theorem LZ.rf {z : V} : LZ z z := ⟨fun _ _ => rfl, fun _ _ => rfl, fun _ _ => rfl, fun _ _ => rfl, fun _ _ => rfl⟩
theorem in_of {k : Int32} {n : Nat} (hn : n < 2 ^ 30) (h : 0 ≤ k ∧ k ≤ nI n) : vp_in k (n + 1) := by
  obtain ⟨j, h1, h2, rfl⟩ := ch_of (lo := 0) (hi := n) (by omega) (by omega) h.1 h.2
  exact vp_in_nI (by omega) (by omega)
theorem rel_one {i1 i2 i3 : Int32} {x v0 v1 v2 v3 z : V} {y g : VL} {Q : QT} {Z : Int32 → V → VL → V → V → V → V → Prop} (hR : RR x v0 v2 v3 z) (hQ : Agree Q) (hZ : ∀ r x' y' v0' v1' v2' v3', wp_X2_one i1 i2 i3 z g (Q r x' y' v0' v1' v2' v3') → Z r x' y' v0' v1' v2' v3') : wp_X0_one i1 i2 i3 x y v0 v1 v2 v3 Z := by
  unfold wp_X2_one wp_X2_one_L33 at hZ
  simp only [s2_isOne, b01, s2_in i2 0 9999 (show (0 : Int64) = (0 : Int32).toInt64 by decide) (show (9999 : Int64) = (9999 : Int32).toInt64 by decide), s2_in i3 0 9999 (show (0 : Int64) = (0 : Int32).toInt64 by decide) (show (9999 : Int64) = (9999 : Int32).toInt64 by decide)] at hZ
  unfold wp_X0_one wp_X0_one_L31
  simp only [s_isOne, b01, s_isIn]
  refine ⟨fun c => hZ _ _ _ _ _ _ _ ⟨fun _ => hQ _ _ _ _ _ _ _ _ _ hR, fun q => absurd q c⟩, fun c => ⟨fun c2 => hZ _ _ _ _ _ _ _ ⟨fun q => absurd c q, fun _ => ⟨fun _ => hQ _ _ _ _ _ _ _ _ _ hR, fun q => absurd q c2⟩⟩, fun c2 => ⟨fun c3 => hZ _ _ _ _ _ _ _ ⟨fun q => absurd c q, fun _ => ⟨fun q => absurd c2 q, fun _ => ⟨fun _ => hQ _ _ _ _ _ _ _ _ _ hR, fun q => absurd q c3⟩⟩⟩, fun c3 => ?_⟩⟩⟩
  have v : vp_in i1 6 := in_of (n := 5) (by decide) c
  refine ⟨v, v, fun n hn => ⟨v, v, hZ _ _ _ _ _ _ _ ⟨fun q => absurd c q, fun _ => ⟨fun q => absurd c2 q, fun _ => ⟨fun q => absurd c3 q, fun _ => ⟨v, v, v, v, ?_⟩⟩⟩⟩⟩⟩
  rw [hR.1.1 _ (ix_lt v), hR.1.2.1 _ (ix_lt v), ← hn]
  refine hQ _ _ _ _ _ _ _ _ _ (hR.land rfl rfl hR.1.paper.coin ((hR.2.1.paper c2).free (by omega)) ?_ (fun k _ => ?_) (fun k _ => ?_) (fun k _ => ?_) (fun r q => ?_) ?_ ?_)
  · rw [up2_n _ _ _ _ (by decide), up2_n _ _ _ _ (by decide)]
  · rw [up2_n _ _ _ _ (by decide), up2_n _ _ _ _ (by decide)]
  · rw [up2_n _ _ _ _ (by decide), up2_n _ _ _ _ (by decide)]
  · rw [up2_n _ _ _ _ (by decide), up2_n _ _ _ _ (by decide)]
  · rw [up2_f _ _ _ (by omega), up2_f _ _ _ (by omega)]
  · rw [up2_n _ _ _ _ (by decide), up2_n _ _ _ _ (by decide)]
  · rw [up2_n _ _ _ _ (by decide), up2_n _ _ _ _ (by decide)]
theorem rel_owe {i1 i2 i3 : Int32} {x v0 v1 v2 v3 z : V} {y g : VL} {Q : QT} {Z : Int32 → V → VL → V → V → V → V → Prop} (hR : RR x v0 v2 v3 z) (hQ : Agree Q) (hZ : ∀ r x' y' v0' v1' v2' v3', wp_X2_owe i1 i2 i3 z g (Q r x' y' v0' v1' v2' v3') → Z r x' y' v0' v1' v2' v3') : wp_X0_owe i1 i2 i3 x y v0 v1 v2 v3 Z := by
  unfold wp_X2_owe wp_X2_owe_L19 at hZ
  simp only [s2_isOne, b01, s2_in i3 0 999 (show (0 : Int64) = (0 : Int32).toInt64 by decide) (show (999 : Int64) = (999 : Int32).toInt64 by decide)] at hZ
  unfold wp_X0_owe
  simp only [s_areTwo, b01, s_isIn]
  refine ⟨fun c => hZ _ _ _ _ _ _ _ ?_, fun c => ?_⟩
  · refine ⟨fun _ => hQ _ _ _ _ _ _ _ _ _ hR, fun c1 => ⟨fun _ => hQ _ _ _ _ _ _ _ _ _ hR, fun c2 => ⟨fun _ => hQ _ _ _ _ _ _ _ _ _ hR, fun c3 => absurd ⟨c1, c2, c3⟩ c⟩⟩⟩
  · obtain ⟨c1, c2, c3⟩ := c
    have va : vp_in i1 6 := in_of (n := 5) (by decide) c1
    have vb : vp_in i2 6 := in_of (n := 5) (by decide) c2
    obtain ⟨e6, i36⟩ := ix_6 va vb
    refine ⟨fun c4 => hZ _ _ _ _ _ _ _ ⟨fun q => absurd c1 q, fun _ => ⟨fun q => absurd c2 q, fun _ => ⟨fun q => absurd q c3, fun _ => ⟨fun _ => hQ _ _ _ _ _ _ _ _ _ hR, fun q => absurd q c4⟩⟩⟩⟩, fun c4 => ⟨va, vb, va, vb, hZ _ _ _ _ _ _ _ ⟨fun q => absurd c1 q, fun _ => ⟨fun q => absurd c2 q, fun _ => ⟨fun q => absurd q c3, fun _ => ⟨fun q => absurd c4 q, fun _ => ⟨i36, i36, ?_⟩⟩⟩⟩⟩⟩⟩
    rw [e6, hR.1.2.2.1 _ _ (ix_lt va) (ix_lt vb)]
    have hl := ix_lt va
    refine hQ _ _ _ _ _ _ _ _ _ (hR.land rfl rfl (hR.1.owe hl (ix_lt vb)) (hR.2.1.owe hl c4.1) ?_ (fun k _ => ?_) (fun k _ => ?_) (fun k _ => ?_) (fun r q => ?_) ?_ ?_)
    · rw [up2_n _ _ _ _ (by omega)]
    · rw [up2_n _ _ _ _ (by omega)]
    · rw [up2_n _ _ _ _ (by omega)]
    · rw [up2_n _ _ _ _ (by omega)]
    · rw [up2_f _ _ _ (by omega)]
    · rw [up2_n _ _ _ _ (by decide)]
    · rw [up2_n _ _ _ _ (by decide)]
theorem t_m1 : (-1 : Int32).toInt = -1 := by decide
theorem rel_lot {i1 i2 i3 : Int32} {x v0 v1 v2 v3 z : V} {y g : VL} {Q : QT} {Z : Int32 → V → VL → V → V → V → V → Prop} (hR : RR x v0 v2 v3 z) (hQ : Agree Q) (hZ : ∀ r x' y' v0' v1' v2' v3', wp_X2_lot i1 i2 i3 z g (Q r x' y' v0' v1' v2' v3') → Z r x' y' v0' v1' v2' v3') : wp_X0_lot i1 i2 i3 x y v0 v1 v2 v3 Z := by
  unfold wp_X2_lot wp_X2_lot_L26 wp_X2_lot_L73 at hZ
  simp only [b01, s2_in i1 0 7 (show (0 : Int64) = (0 : Int32).toInt64 by decide) (show (7 : Int64) = (7 : Int32).toInt64 by decide), s2_in i3 (-1) 5 (show (-1 : Int64) = (-1 : Int32).toInt64 by decide) (show (5 : Int64) = (5 : Int32).toInt64 by decide), s2_in i2 1 999 (show (1 : Int64) = (1 : Int32).toInt64 by decide) (show (999 : Int64) = (999 : Int32).toInt64 by decide)] at hZ
  have hk : (-1 ≤ i3 ∧ i3 ≤ 5) ↔ (i3 = -1 ∨ (0 ≤ i3 ∧ i3 ≤ 5)) := by
    rw [← Int32.toInt_inj, le_i, le_i, le_i, t_m1, t_5, t_0]
    omega
  unfold wp_X0_lot wp_X0_lot_L19
  simp only [s_isLot, b01, s_isOne]
  have hl21 : (0 ≤ i1 ∧ i1 ≤ 7) → (-1 ≤ i3 ∧ i3 ≤ 5) → wp_X0_lot_L21 Z i1 i2 i3 x y v0 v1 v2 v3 := by
    intro c c2
    have v8 : vp_in i1 8 := in_of (n := 7) (by decide) c
    unfold wp_X0_lot_L21 wp_X0_lot_L74
    simp only [s_isIn, b01]
    have fin : ∀ w : Int32, (w = -6 ∨ 0 ≤ w) → Q (v0 8 i1.toNatClampNeg) x y (up2 (up2 v0 8 i1.toNatClampNeg i2) 9 i1.toNatClampNeg w) v1 v2 v3 (v0 8 i1.toNatClampNeg) (up2 (up2 z 3 i1.toNatClampNeg i2) 4 i1.toNatClampNeg w) g ∨ True := fun _ _ => Or.inr trivial
    refine ⟨fun c3 => hZ _ _ _ _ _ _ _ ⟨fun q => absurd c q, fun _ => ⟨fun q => absurd c2 q, fun _ => ⟨fun _ => hQ _ _ _ _ _ _ _ _ _ hR, fun q => absurd q c3⟩⟩⟩, fun c3 => ⟨v8, v8, fun c4 => ⟨v8, hZ _ _ _ _ _ _ _ ⟨fun q => absurd c q, fun _ => ⟨fun q => absurd c2 q, fun _ => ⟨fun q => absurd c3 q, fun _ => ⟨v8, v8, fun _ => ⟨v8, ?_⟩, fun q => absurd c4 q⟩⟩⟩⟩⟩, fun c4 => ⟨v8, hZ _ _ _ _ _ _ _ ⟨fun q => absurd c q, fun _ => ⟨fun q => absurd c2 q, fun _ => ⟨fun q => absurd c3 q, fun _ => ⟨v8, v8, fun q => absurd q c4, fun _ => ⟨v8, ?_⟩⟩⟩⟩⟩⟩⟩⟩
    all_goals
      rw [hR.1.2.2.2.1 _ (ix_lt v8)]
      refine hQ _ _ _ _ _ _ _ _ _ (hR.land rfl rfl hR.1.price.whose ((hR.2.1.price ⟨Int32.le_trans (by decide) c3.1, c3.2⟩).whose (by first | exact Or.inr c4 | exact Or.inl rfl)) ?_ (fun k _ => ?_) (fun k _ => ?_) (fun k _ => ?_) (fun r q => ?_) ?_ ?_)
      · rw [up2_n _ _ _ _ (by decide), up2_n _ _ _ _ (by decide)]
      · rw [up2_n _ _ _ _ (by decide), up2_n _ _ _ _ (by decide)]
      · rw [up2_n _ _ _ _ (by decide), up2_n _ _ _ _ (by decide)]
      · rw [up2_n _ _ _ _ (by decide), up2_n _ _ _ _ (by decide)]
      · rw [up2_f _ _ _ (by omega), up2_f _ _ _ (by omega)]
      · rw [up2_n _ _ _ _ (by decide), up2_n _ _ _ _ (by decide)]
      · rw [up2_n _ _ _ _ (by decide), up2_n _ _ _ _ (by decide)]
  refine ⟨fun c => hZ _ _ _ _ _ _ _ ⟨fun _ => hQ _ _ _ _ _ _ _ _ _ hR, fun q => absurd q c⟩, fun c => ⟨fun c2 => hl21 c (hk.mpr (Or.inl c2)), fun c2 => ⟨fun c3 => hZ _ _ _ _ _ _ _ ⟨fun q => absurd c q, fun _ => ⟨fun _ => hQ _ _ _ _ _ _ _ _ _ hR, fun q => absurd (hk.mp q) (fun w => w.elim c2 c3)⟩⟩, fun c3 => hl21 c (hk.mpr (Or.inr c3))⟩⟩⟩
theorem rel_set {i1 i2 : Int32} {x v0 v1 v2 v3 z : V} {y g : VL} {Q : QT} {Z : Int32 → V → VL → V → V → V → V → Prop} (hR : RR x v0 v2 v3 z) (hQ : Agree Q) (hZ : ∀ r x' y' v0' v1' v2' v3', wp_X2_set i1 i2 z g (Q r x' y' v0' v1' v2' v3') → Z r x' y' v0' v1' v2' v3') : wp_X0_set i1 i2 x y v0 v1 v2 v3 Z := by
  unfold wp_X2_set wp_X2_set_L22 wp_X2_set_L40 wp_X2_set_L54 wp_X2_set_L71 at hZ
  simp only [b01, s2_in i1 0 1 (show (0 : Int64) = (0 : Int32).toInt64 by decide) (show (1 : Int64) = (1 : Int32).toInt64 by decide), s2_in i2 0 99999 (show (0 : Int64) = (0 : Int32).toInt64 by decide) (show (99999 : Int64) = (99999 : Int32).toInt64 by decide)] at hZ
  unfold wp_X0_set wp_X0_set_L19
  simp only [s_isIn, b01]
  refine ⟨fun c => hZ _ _ _ _ _ _ _ ⟨fun _ => hQ _ _ _ _ _ _ _ _ _ hR, fun q => absurd q c⟩, fun c => ⟨fun c2 => hZ _ _ _ _ _ _ _ ⟨fun q => absurd c q, fun _ => ⟨fun _ => hQ _ _ _ _ _ _ _ _ _ hR, fun q => absurd q c2⟩⟩, fun c2 => ?_⟩⟩
  have v2' : vp_in i1 2 := in_of (n := 1) (by decide) c
  refine ⟨v2', v2', ?_⟩
  obtain ⟨j, hj, rfl⟩ := vp_in_of v2' (by decide)
  rcases (show j = 0 ∨ j = 1 by omega) with rfl | rfl
  · rw [nI_clamp (by decide)]
    refine hZ _ _ _ _ _ _ _ ⟨fun q => absurd c q, fun _ => ⟨fun q => absurd c2 q, fun _ => ⟨fun _ => ⟨fun _ => ⟨fun q => absurd q (by decide), fun _ => ?_⟩, fun q => absurd rfl q⟩, fun q => absurd rfl q⟩⟩⟩
    rw [hR.1.2.2.2.2.2.1, up2_id (z := up2 z 19 0 i2) (by rw [up2_s, if_neg (by decide)])]
    refine hQ _ _ _ _ _ _ _ _ _ (hR.land rfl rfl hR.1.told0 (hR.2.1.told0 c2) ?_ (fun k _ => ?_) (fun k _ => ?_) (fun k _ => ?_) (fun r q => ?_) ?_ ?_)
    · rw [up2_n _ _ _ _ (by decide)]
    · rw [up2_n _ _ _ _ (by decide)]
    · rw [up2_n _ _ _ _ (by decide)]
    · rw [up2_n _ _ _ _ (by decide)]
    · rw [up2_f _ _ _ (by omega)]
    · rw [up2_s, if_neg (by decide)]
    · rw [up2_s, if_neg (by decide)]
  · rw [nI_clamp (by decide)]
    refine hZ _ _ _ _ _ _ _ ⟨fun q => absurd c q, fun _ => ⟨fun q => absurd c2 q, fun _ => ⟨fun q => absurd q (by decide), fun _ => ⟨fun q => absurd q (by decide), fun _ => ⟨fun _ => ?_, fun q => absurd rfl q⟩⟩⟩⟩⟩
    rw [hR.1.2.2.2.2.2.2.1, up2_id (z := z) (j := 19) (i := 0) rfl]
    refine hQ _ _ _ _ _ _ _ _ _ (hR.land rfl rfl hR.1.told1 (hR.2.1.free (by omega)) ?_ (fun k _ => ?_) (fun k _ => ?_) (fun k _ => ?_) (fun r q => ?_) ?_ ?_)
    · rw [up2_n _ _ _ _ (by decide)]
    · rw [up2_n _ _ _ _ (by decide)]
    · rw [up2_n _ _ _ _ (by decide)]
    · rw [up2_n _ _ _ _ (by decide)]
    · rw [up2_f _ _ _ (by omega)]
    · rw [up2_s, if_neg (by decide)]
    · rw [up2_s, if_neg (by decide)]
theorem ch_nar {i : Int32} {lo hi : Nat} (hlo : lo < 2 ^ 31) (hh : hi < 65536) (h : nI lo ≤ i ∧ i ≤ nI hi) : vp_nar .char ((i.toUInt32 % 65536).toInt32) = i := by
  obtain ⟨j, h1, h2, rfl⟩ := ch_of hlo (by omega) h.1 h.2
  rw [pk_vc, pk_char, pk_tn (by omega), Nat.mod_eq_of_lt (by omega)]
theorem rel_say {i1 : Int32} {x v0 v1 v2 v3 z : V} {y g : VL} {Q : QT} {Z : Int32 → V → VL → V → V → V → V → Prop} (hR : RR x v0 v2 v3 z) (hQ : Agree Q) (hZ : ∀ r x' y' v0' v1' v2' v3', wp_X2_say i1 z g (Q r x' y' v0' v1' v2' v3') → Z r x' y' v0' v1' v2' v3') : wp_X0_say i1 x y v0 v1 v2 v3 Z := by
  unfold wp_X2_say at hZ
  simp only [b01, s2_in i1 33 126 (show (33 : Int64) = (33 : Int32).toInt64 by decide) (show (126 : Int64) = (126 : Int32).toInt64 by decide)] at hZ
  unfold wp_X0_say
  simp only [s_isIn, b01]
  obtain ⟨hRL, hB, hS, ⟨⟨n, hn, hx, hz⟩, hp⟩, hI2, hI3⟩ := hR
  have hR : RR x v0 v2 v3 z := ⟨hRL, hB, hS, ⟨⟨n, hn, hx, hz⟩, hp⟩, hI2, hI3⟩
  rw [hz] at hZ
  rw [hx]
  refine ⟨fun c => hZ _ _ _ _ _ _ _ ⟨fun _ => hQ _ _ _ _ _ _ _ _ _ hR, fun q => absurd q c⟩, fun c => ⟨fun c2 => hZ _ _ _ _ _ _ _ ⟨fun q => absurd c q, fun _ => ⟨fun _ => hQ _ _ _ _ _ _ _ _ _ hR, fun q => absurd c2 q⟩⟩, fun c2 => ?_⟩⟩
  have hn60 : n < 60 := by
    rcases Nat.lt_or_ge n 60 with q | q
    · exact q
    · exact absurd (by rw [show n = 60 by omega]; rfl) c2
  rw [ch_nar (lo := 33) (hi := 126) (by decide) (by decide) c, nI_clamp (by omega), nI_1]
  rw [nI_clamp (by omega), nI_1] at hZ
  refine ⟨vp_in_nI hn60 (by decide), hZ _ _ _ _ _ _ _ ⟨fun q => absurd c q, fun _ => ⟨fun q => absurd q c2, fun _ => ⟨vp_in_nI hn60 (by decide), hQ _ _ _ _ _ _ _ _ _ ⟨(hRL.other (by omega)).other (by omega), hB, hS.fr ?_ ?_ ?_ ?_ rfl (fun _ _ => rfl) (fun _ _ => rfl) (fun _ _ => rfl), ⟨⟨n + 1, by omega, ?_, ?_⟩, fun k q => ?_⟩, hI2.fr ?_ ?_, hI3.fr ?_ ?_⟩⟩⟩⟩⟩
  · rw [up2_s, if_neg (by decide), up2_n _ _ _ _ (by decide)]
  · rw [up2_f _ _ _ (by decide), up2_f _ _ _ (by decide)]
  · rw [up2_f _ _ _ (by decide), up2_f _ _ _ (by decide)]
  · rw [up2_f _ _ _ (by decide), up2_f _ _ _ (by decide)]
  · rw [up2_s, if_pos rfl]
  · rw [up2_s, if_pos rfl]
  · rw [up2_n (up2 z 8 n i1) _ _ _ (by decide), up2_s, up2_n (up2 x 0 n i1) _ _ _ (by decide), up2_s]
    by_cases e : k = n
    · rw [if_pos e, if_pos e]
    · rw [if_neg e, if_neg e]; exact hp k q
  · rw [up2_f _ _ _ (by decide), up2_f _ _ _ (by decide)]
  · rw [up2_f _ _ _ (by decide), up2_f _ _ _ (by decide)]
  · rw [up2_f _ _ _ (by decide), up2_f _ _ _ (by decide)]
  · rw [up2_f _ _ _ (by decide), up2_f _ _ _ (by decide)]
theorem rel_wipe {x v0 v1 v2 v3 z : V} {y g : VL} {Q : QT} {Z : Int32 → V → VL → V → V → V → V → Prop} (hR : RR x v0 v2 v3 z) (hQ : Agree Q) (hZ : ∀ r x' y' v0' v1' v2' v3', wp_X2_wipe z g (Q r x' y' v0' v1' v2' v3') → Z r x' y' v0' v1' v2' v3') : wp_X0_wipe x y v0 v1 v2 v3 Z := by
  unfold wp_X2_wipe at hZ
  unfold wp_X0_wipe
  obtain ⟨hRL, hB, hS, ⟨⟨n, hn, hx, hz⟩, hp⟩, hI2, hI3⟩ := hR
  rw [hz] at hZ
  rw [hx]
  refine hZ _ _ _ _ _ _ _ (hQ _ _ _ _ _ _ _ _ _ ⟨hRL.other (by omega), hB, hS.fr ?_ ?_ ?_ ?_ rfl (fun _ _ => rfl) (fun _ _ => rfl) (fun _ _ => rfl), ⟨⟨0, by omega, ?_, ?_⟩, fun k q => ?_⟩, hI2.fr ?_ ?_, hI3.fr ?_ ?_⟩)
  · rw [up2_s, if_neg (by decide)]
  · rw [up2_f _ _ _ (by decide)]
  · rw [up2_f _ _ _ (by decide)]
  · rw [up2_f _ _ _ (by decide)]
  · rw [up2_s, if_pos rfl]; rfl
  · rw [up2_s, if_pos rfl]; rfl
  · rw [up2_n _ _ _ _ (by decide), up2_n _ _ _ _ (by decide)]; exact hp k q
  · rw [up2_f _ _ _ (by decide)]
  · rw [up2_f _ _ _ (by decide)]
  · rw [up2_f _ _ _ (by decide)]
  · rw [up2_f _ _ _ (by decide)]
