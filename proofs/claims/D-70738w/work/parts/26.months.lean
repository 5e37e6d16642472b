/-! PURE 7: months, act by act, on both sides -/
set_option maxRecDepth 100000
/-- the land as it was -/
def LZ (z0 z : V) : Prop := (∀ k, k < 6 → z 0 k = z0 0 k) ∧ (∀ k, k < 6 → z 1 k = z0 1 k) ∧ (∀ e, e < 36 → z 2 e = z0 2 e) ∧ (∀ l, l < 8 → z 4 l = z0 4 l) ∧ ∀ i, i < 4 → z 19 i = z0 19 i
theorem LZ.RL {v z0 z : V} (h : LZ z0 z) (h3 : z 3 = z0 3) (hR : RL v z0) : RL v z := by
  obtain ⟨h0, h1, h2, h4, h5⟩ := h
  obtain ⟨r1, r2, r3, r4, r5, r6, r7, r8, r9⟩ := hR
  exact ⟨fun k q => (h0 k q).trans (r1 k q), fun k q => (h1 k q).trans (r2 k q), fun a b p q => (h2 _ (by omega)).trans (r3 a b p q), fun l q => (congrFun h3 l).trans (r4 l q), fun l q => (h4 l q).trans (r5 l q), (h5 0 (by decide)).trans r6, (h5 1 (by decide)).trans r7, (h5 2 (by decide)).trans r8, (h5 3 (by decide)).trans r9⟩
theorem s2_back {r : Int32} {z0 z : V} {g : VL} {Post : Int32 → V → VL → Prop} (hH : Had z0 z) (h : ∀ z', LZ z0 z' → FrZ z z' → Post r z' g) : wp_X2_back r z g Post := by
  obtain ⟨k1, k2, k3, k4, k5, k6, k7, k8⟩ := hH
  unfold wp_X2_back
  refine loopI (fun n i s => wp_X2_back_L2 Post n r i s g) (fun i s => (∀ k, k < i → s 0 k = z0 0 k) ∧ (∀ k, k < i → s 1 k = z0 1 k) ∧ FrZ z s) 6 (fun n s hI => ?_) (fun n i s hi hI hk => ?_) ⟨fun k q => absurd q (by omega), fun k q => absurd q (by omega), FrZ.rf⟩
  · refine ⟨fun _ => ?_, fun q => absurd (nI_le (Nat.le_refl 6) (by decide)) q⟩
    refine loopI (fun n i s => wp_X2_back_L43 Post n r i s g) (fun i s => (∀ k, k < 6 → s 0 k = z0 0 k) ∧ (∀ k, k < 6 → s 1 k = z0 1 k) ∧ (∀ e, e < i → s 2 e = z0 2 e) ∧ FrZ z s) 36 (fun n s hI => ?_) (fun n i s hi hI hk => ?_) ⟨hI.1, hI.2.1, fun k q => absurd q (by omega), hI.2.2⟩
    · refine ⟨fun _ => ?_, fun q => absurd (nI_le (Nat.le_refl 36) (by decide)) q⟩
      refine loopI (fun n i s => wp_X2_back_L72 Post n r i s g) (fun i s => (∀ k, k < 6 → s 0 k = z0 0 k) ∧ (∀ k, k < 6 → s 1 k = z0 1 k) ∧ (∀ e, e < 36 → s 2 e = z0 2 e) ∧ (∀ l, l < i → s 4 l = z0 4 l) ∧ FrZ z s) 8 (fun n s hI => ?_) (fun n i s hi hI hk => ?_) ⟨hI.1, hI.2.1, hI.2.2.1, fun k q => absurd q (by omega), hI.2.2.2⟩
      · refine ⟨fun _ => ?_, fun q => absurd (nI_le (Nat.le_refl 8) (by decide)) q⟩
        obtain ⟨i1, i2, i3, i4, i5⟩ := hI
        have i12 := i5.1 12 (by decide) (by decide) (by decide) (by decide) (by decide)
        rw [cl_56, cl_57, cl_58, cl_59, i12, k5, k6, k7, k8]
        refine h _ ⟨fun k q => ?_, fun k q => ?_, fun k q => ?_, fun k q => ?_, fun i q => ?_⟩ (((((i5.tr (FrZ.up (by omega))).tr (FrZ.up (by omega))).tr (FrZ.up (by omega))).tr (FrZ.up (by omega))))
        · rw [up2_f _ _ _ (by decide), up2_f _ _ _ (by decide), up2_f _ _ _ (by decide), up2_f _ _ _ (by decide)]; exact i1 k q
        · rw [up2_f _ _ _ (by decide), up2_f _ _ _ (by decide), up2_f _ _ _ (by decide), up2_f _ _ _ (by decide)]; exact i2 k q
        · rw [up2_f _ _ _ (by decide), up2_f _ _ _ (by decide), up2_f _ _ _ (by decide), up2_f _ _ _ (by decide)]; exact i3 k q
        · rw [up2_f _ _ _ (by decide), up2_f _ _ _ (by decide), up2_f _ _ _ (by decide), up2_f _ _ _ (by decide)]; exact i4 k q
        · rw [up2_s, up2_s, up2_s, up2_s]
          rcases (show i = 0 ∨ i = 1 ∨ i = 2 ∨ i = 3 by omega) with rfl | rfl | rfl | rfl <;> rfl
      · refine ⟨fun q => absurd q (nI_ge hi (by decide)), fun _ => ?_⟩
        have i12 := hI.2.2.2.2.1 12 (by decide) (by decide) (by decide) (by decide) (by decide)
        rw [show (48 : Int32) = nI 48 from rfl, nI_add, nI_clamp (by omega), nI_clamp (by omega), nI_1, i12, k4 i hi]
        refine ⟨vp_in_nI (by omega) (by decide), vp_in_nI hi (by decide), hk _ ⟨fun k q => ?_, fun k q => ?_, fun k q => ?_, fun k q => ?_, hI.2.2.2.2.tr (FrZ.up (by omega))⟩⟩
        · rw [up2_f _ _ _ (by decide)]; exact hI.1 k q
        · rw [up2_f _ _ _ (by decide)]; exact hI.2.1 k q
        · rw [up2_f _ _ _ (by decide)]; exact hI.2.2.1 k q
        · by_cases e : k = i
          · subst e; rw [up2_s, if_pos rfl]
          · rw [up2_s, if_neg e]; exact hI.2.2.2.1 k (by omega)
    · refine ⟨fun q => absurd q (nI_ge hi (by decide)), fun _ => ?_⟩
      have i12 := hI.2.2.2.1 12 (by decide) (by decide) (by decide) (by decide) (by decide)
      rw [show (12 : Int32) = nI 12 from rfl, nI_add, nI_clamp (by omega), nI_clamp (by omega), nI_1, i12, k3 i hi]
      refine ⟨vp_in_nI (by omega) (by decide), vp_in_nI hi (by decide), hk _ ⟨fun k q => ?_, fun k q => ?_, fun k q => ?_, hI.2.2.2.tr (FrZ.up (by omega))⟩⟩
      · rw [up2_f _ _ _ (by decide)]; exact hI.1 k q
      · rw [up2_f _ _ _ (by decide)]; exact hI.2.1 k q
      · by_cases e : k = i
        · subst e; rw [up2_s, if_pos rfl]
        · rw [up2_s, if_neg e]; exact hI.2.2.1 k (by omega)
  · refine ⟨fun q => absurd q (nI_ge hi (by decide)), fun _ => ?_⟩
    have i12 := hI.2.2.1 12 (by decide) (by decide) (by decide) (by decide) (by decide)
    rw [show (6 : Int32) = nI 6 from rfl, nI_add, nI_clamp (by omega), nI_clamp (by omega), nI_1, i12, k1 i hi, k2 i hi]
    refine ⟨vp_in_nI (by omega) (by decide), vp_in_nI hi (by decide), vp_in_nI (by omega) (by decide), vp_in_nI hi (by decide), hk _ ⟨fun k q => ?_, fun k q => ?_, (hI.2.2.tr (FrZ.up (by omega))).tr (FrZ.up (by omega))⟩⟩
    · by_cases e : k = i
      · subst e; rw [up2_f _ _ _ (by decide), up2_s, if_pos rfl]
      · rw [up2_f _ _ _ (by decide), up2_s, if_neg e]; exact hI.1 k (by omega)
    · by_cases e : k = i
      · subst e; rw [up2_s, if_pos rfl]
      · rw [up2_s, if_neg e, up2_f _ _ _ (by decide)]; exact hI.2.1 k (by omega)
theorem ch_of {c : Int32} {lo hi : Nat} (hlo : lo < 2 ^ 31) (hhi : hi < 2 ^ 31) (h1 : nI lo ≤ c) (h2 : c ≤ nI hi) : ∃ j, lo ≤ j ∧ j ≤ hi ∧ c = nI j := by
  rw [le_i, nI_toInt hlo] at h1
  rw [le_i, nI_toInt hhi] at h2
  have hj : (c.toInt.toNat : Int) = c.toInt := Int.toNat_of_nonneg (by omega)
  refine ⟨c.toInt.toNat, by omega, by omega, ?_⟩
  rw [← Int32.toInt_inj, nI_toInt (by omega), hj]
theorem LT_in {c : Int32} (h : LT c) : vp_in (c - 65) 6 := by
  obtain ⟨j, h1, h2, rfl⟩ := ch_of (lo := 65) (hi := 70) (by decide) (by decide) h.1 h.2
  rw [show (65 : Int32) = nI 65 from rfl, pk_sub h1]
  exact vp_in_nI (by omega) (by decide)
theorem D7_in {c : Int32} (h : D7 c) : vp_in (c - 48) 8 := by
  obtain ⟨j, h1, h2, rfl⟩ := ch_of (lo := 48) (hi := 55) (by decide) (by decide) h.1 h.2
  rw [show (48 : Int32) = nI 48 from rfl, pk_sub h1]
  exact vp_in_nI (by omega) (by decide)
theorem DG_100 {c : Int32} (h : DG c) : 0 ≤ (100 : Int32) * (c - 48) ∧ (100 : Int32) * (c - 48) ≤ 900 := by
  obtain ⟨j, h1, h2, rfl⟩ := ch_of (lo := 49) (hi := 57) (by decide) (by decide) h.1 h.2
  rw [show (48 : Int32) = nI 48 from rfl, pk_sub (by omega), show (100 : Int32) = nI 100 from rfl, pk_mul, show (900 : Int32) = nI 900 from rfl]
  exact ⟨nI_pos' (by omega), nI_le (by omega) (by decide)⟩
theorem DG_10 {c : Int32} (h : DG c) : 0 ≤ (10 : Int32) * (c - 48) ∧ (10 : Int32) * (c - 48) ≤ 900 := by
  obtain ⟨j, h1, h2, rfl⟩ := ch_of (lo := 49) (hi := 57) (by decide) (by decide) h.1 h.2
  rw [show (48 : Int32) = nI 48 from rfl, pk_sub (by omega), show (10 : Int32) = nI 10 from rfl, pk_mul, show (900 : Int32) = nI 900 from rfl]
  exact ⟨nI_pos' (by omega), nI_le (by omega) (by decide)⟩
/-- the class's act, told at p -/
theorem s_act {c : Nat → Int32} {p n e : Nat} {w k m : Int32} {x : V} {y : VL} {v0 v1 v2 v3 z : V} {g : VL} {Q : Int32 → V → VL → V → V → V → V → Prop} (hc : x 0 = c) (hD : Dec c p w k m) (hp : p + lenA (c p) ≤ n) (hn : n ≤ 60) (hR : RL v1 z) (hB : BL v1) (he : x 5 3 = nI e) (he60 : e < 60)
    (h : ∀ r v1', ActOk w k m v1 z g r v1' → (¬ w = 6 → Q (nI (p + lenA (c p))) (up2 x 5 1 r) y v0 v1' v2 v3) ∧ (w = 6 → Q (nI (p + lenA (c p))) (up2 (up2 (up2 x 5 1 r) 1 e (rateV v1')) 5 3 (nI (e + 1))) y v0 v1' v2 v3)) : wp_X0_act (nI p) x y v0 v1 v2 v3 Q := by
  have hl : 1 ≤ lenA (c p) := by unfold lenA; split; exact Nat.le_refl 1; split <;> decide
  unfold wp_X0_act
  rw [show (1 : Int32) = nI 1 from rfl, show (2 : Int32) = nI 2 from rfl, show (3 : Int32) = nI 3 from rfl, nI_add, nI_add, nI_add, nI_clamp (by omega), nI_clamp (by omega), nI_clamp (by omega), hc]
  refine ⟨vp_in_nI (by omega) (by decide), ?_⟩
  rcases hD with ⟨h1, rfl⟩ | ⟨h1, rfl, h2, rfl⟩ | ⟨h1, rfl, h2, rfl, h3, rfl⟩ | ⟨h1, rfl, hq⟩
  · have l1 : lenA (c p) = 1 := len_46 h1
    rw [l1] at h hp
    refine ⟨fun q => absurd (q.symm.trans h1) (by decide), fun _ => ⟨fun q => absurd (q.symm.trans h1) (by decide), fun _ => ⟨fun _ => ?_, fun q => absurd h1 q⟩⟩⟩
    refine a_month (k := k) (m := m) (g := g) hR hB (fun r v1' ho => s1_rate ?_)
    rw [he, nI_clamp (by omega), nI_add]
    exact ⟨vp_in_nI he60 (by decide), (h r v1' ho).2 rfl⟩
  · have l1 : lenA (c p) = 2 := len_43 h1
    rw [l1] at h hp
    refine ⟨fun q => absurd (q.symm.trans h1) (by decide), fun _ => ⟨fun _ => ⟨vp_in_nI (by omega) (by decide), ?_⟩, fun q => absurd h1 q⟩⟩
    exact a_print hR hB (DG_100 h2) (fun r v1' ho => (h r v1' ho).1 (by decide))
  · have l1 : lenA (c p) = 3 := len_33 h1
    rw [l1] at h hp
    refine ⟨fun _ => ⟨vp_in_nI (by omega) (by decide), vp_in_nI (by omega) (by decide), ?_⟩, fun q => absurd h1 q⟩
    exact a_forge hR hB (LT_in h2) (DG_100 h3) (fun r v1' ho => (h r v1' ho).1 (by decide))
  · have l1 : lenA (c p) = 3 := len_L h1
    rw [l1] at h hp
    refine ⟨fun q => absurd q (LT_ne h1 (by unfold LT; decide)), fun _ => ⟨fun q => absurd q (LT_ne h1 (by unfold LT; decide)), fun _ => ⟨fun q => absurd q (LT_ne h1 (by unfold LT; decide)), fun _ => ⟨vp_in_nI (by omega) (by decide), vp_in_nI (by omega) (by decide), vp_in_nI (by omega) (by decide), ?_⟩⟩⟩⟩
    unfold wp_X0_verb
    rcases hq with ⟨h2, rfl, h3, rfl⟩ | ⟨h2, rfl, h3, rfl⟩ | ⟨h2, rfl, h3, rfl⟩ | ⟨h2, rfl, h3, rfl⟩
    · refine ⟨fun _ => ?_, fun q => absurd h2 q⟩
      exact a_buy hR hB (LT_in h1) (D7_in h3) (fun r v1' ho => (h r v1' ho).1 (by decide))
    · refine ⟨fun q => absurd (q.symm.trans h2) (by decide), fun _ => ⟨fun _ => ?_, fun q => absurd h2 q⟩⟩
      exact a_change hR hB (LT_in h1) (DG_10 h3) (fun r v1' ho => (h r v1' ho).1 (by decide))
    · refine ⟨fun q => absurd (q.symm.trans h2) (by decide), fun _ => ⟨fun q => absurd (q.symm.trans h2) (by decide), fun _ => ⟨fun _ => ?_, fun q => absurd h2 q⟩⟩⟩
      exact a_pay hR hB (LT_in h1) (LT_in h3) (fun r v1' ho => (h r v1' ho).1 (by decide))
    · refine ⟨fun q => absurd (q.symm.trans h2) (by decide), fun _ => ⟨fun q => absurd (q.symm.trans h2) (by decide), fun _ => ⟨fun q => absurd (q.symm.trans h2) (by decide), fun _ => ?_⟩⟩⟩
      exact a_spend hR hB (LT_in h1) (DG_100 h3) (fun r v1' ho => (h r v1' ho).1 (by decide))
theorem up2_id {z : V} {j i : Nat} {x : Int32} (h : z j i = x) : up2 z j i x = z := by
  funext a b
  rw [up2_e]
  by_cases q : a = j ∧ b = i
  · rw [if_pos q, q.1, q.2, h]
  · rw [if_neg q]
/-- what the months' run leaves of the model -/
def FrM (z z' : V) : Prop := (∀ a, a ≠ 0 → a ≠ 1 → a ≠ 2 → a ≠ 4 → a ≠ 13 → a ≠ 19 → z' a = z a) ∧ ∀ i, 4 ≤ i → i ≠ 7 → i ≠ 8 → i ≠ 9 → z' 19 i = z 19 i
theorem FrM.rf {z : V} : FrM z z := ⟨fun _ _ _ _ _ _ _ => rfl, fun _ _ _ _ _ => rfl⟩
theorem FrM.tr {a b c : V} (h : FrM a b) (k : FrM b c) : FrM a c := ⟨fun i h0 h1 h2 h4 h5 h9 => (k.1 i h0 h1 h2 h4 h5 h9).trans (h.1 i h0 h1 h2 h4 h5 h9), fun i h1 h2 h3 h4 => (k.2 i h1 h2 h3 h4).trans (h.2 i h1 h2 h3 h4)⟩
theorem FrM.of {z z' : V} (h : FrZ z z') : FrM z z' := ⟨fun a h0 h1 h2 h4 _ h9 => h.1 a h0 h1 h2 h4 h9, fun i hi _ _ _ => h.2 i hi⟩
theorem FrM.up {z : V} {j i : Nat} {x : Int32} (h : j = 13 ∨ (j = 19 ∧ (i = 7 ∨ i = 8 ∨ i = 9))) : FrM z (up2 z j i x) :=
  ⟨fun a h0 h1 h2 h4 h5 h9 => up2_f _ _ _ (by omega), fun k h1 h2 h3 h4 => by rw [up2_e, if_neg (by omega)]⟩
/-- both sides behind the months: they were, or the same act could not be -/
def MR (a : Nat) (x z : V) (v1 : V) (r : Int32) (x' v1' z' : V) : Prop :=
  FrM z z' ∧ x' 0 = x 0 ∧ x' 5 0 = x 5 0 ∧ ((r = -6 ∧ z' 19 7 = -6 ∧ z' 19 8 = -6 ∧ RL v1' z' ∧ BL v1' ∧ FrV v1 v1' ∧ (∃ e, e ≤ 60 ∧ x' 5 3 = nI e ∧ z' 19 9 = nI e ∧ ∀ t, t < e → z' 13 t = x' 1 t) ∧ x' 5 2 = nI a) ∨ (∃ j, j < a ∧ r = nI j ∧ z' 19 7 = nI j ∧ z' 19 8 = x' 5 1 ∧ ¬ x' 5 1 = 0))
theorem months_loop {c : Nat → Int32} {n a : Nat} {y : VL} {v0 v2 v3 zt : V} {g : VL} {Q : Int32 → V → VL → V → V → V → V → Prop} (hn : n ≤ 60) (hT : Text c n a zt) (hmono : ∀ j, j < a → posA c j + lenA (c (posA c j)) ≤ n) : ∀ (k j e : Nat) (x v1 z : V), j + k = a → e ≤ j → x 0 = c → x 5 0 = nI n → x 5 2 = nI j → x 5 3 = nI e → RL v1 z → BL v1 → FrM zt z → z 19 7 = -6 → z 19 8 = -6 → z 19 9 = nI e → (∀ t, t < e → z 13 t = x 1 t) →
    (∀ r x' v1' z', (∀ P : V → VL → Prop, P z' g → wp_X2_goMonths_L19 P (k + 1) (nI j) z g) → MR a x z v1 r x' v1' z' → Q r x' y v0 v1' v2 v3) → wp_X0_goMonths_L23 Q (k + 1) (nI (posA c j)) x y v0 v1 v2 v3 := by
  obtain ⟨t1, t2, t3, t4⟩ := hT
  intro k
  induction k with
  | zero =>
    intro j e x v1 z hj hej hx hx0 hx2 hx3 hR hB hF z7 z8 z9 hr h
    obtain rfl : j = a := hj
    have z6 : z 19 6 = nI j := (hF.2 6 (by decide) (by decide) (by decide) (by decide)).trans t1
    refine ⟨fun _ => h (-6) x v1 z (fun P hP => ?_) ⟨FrM.rf, rfl, rfl, Or.inl ⟨rfl, z7, z8, hR, hB, FrV.rf, ⟨e, by omega, hx3, z9, hr⟩, hx2⟩⟩, fun q => absurd (by rw [hx0, t3]; exact nI_le (Nat.le_refl _) (by omega)) q⟩
    refine ⟨fun _ => hP, fun q => absurd (by rw [z6]; exact nI_le (Nat.le_refl _) (by omega)) q⟩
  | succ k ih =>
    intro j e x v1 z hj hej hx hx0 hx2 hx3 hR hB hF z7 z8 z9 hr h
    have hja : j < a := by omega
    have hm := hmono j hja
    have hlen : 1 ≤ lenA (c (posA c j)) := by unfold lenA; split; exact Nat.le_refl 1; split <;> decide
    have z6 : z 19 6 = nI a := (hF.2 6 (by decide) (by decide) (by decide) (by decide)).trans t1
    have zr : ∀ r, r = 9 ∨ r = 10 ∨ r = 11 → z r = zt r := fun r q => hF.1 r (by omega) (by omega) (by omega) (by omega) (by omega) (by omega)
    have hD := t4 j hja
    rw [← zr 9 (by omega), ← zr 10 (by omega), ← zr 11 (by omega)] at hD
    have vj : vp_in (nI j) 60 := vp_in_nI (by omega) (by decide)
    have cj : (nI j).toNatClampNeg = j := nI_clamp (by omega)
    refine ⟨fun q => absurd (by rw [hx0] at q; exact q) (nI_ge (by omega) (by omega)), fun _ => ?_⟩
    -- the model's step, up to the reason
    have mstep : ∀ (P : V → VL → Prop) (r : Int32), (∀ P2 : Int32 → V → VL → Prop, P2 r z g → wp_X2_whyNot (z 9 j) (z 10 j) (z 11 j) z g P2) → ((r ≤ 0 → wp_X2_goMonths_L68 P (wp_X2_goMonths_L19 P (k + 1)) (nI j) r (-6) z g) ∧ (¬ r ≤ 0 → wp_X2_goMonths_L68 P (wp_X2_goMonths_L19 P (k + 1)) (nI j) r (nI j) z g)) → wp_X2_goMonths_L19 P (k + 1 + 1) (nI j) z g := by
      intro P r hw hP
      refine ⟨fun q => absurd (by rw [z6] at q; exact q) (nI_ge hja (by omega)), fun _ => ⟨fun q => absurd q (by rw [z7]; decide), fun _ => ⟨vj, vj, vj, ?_⟩⟩⟩
      rw [cj]
      exact hw _ hP
    refine s_act (g := g) hx hD hm hn hR hB hx3 (by omega) (fun r v1' ho => ?_)
    obtain ⟨hw, hr0, hok, hno⟩ := ho
    by_cases hr1 : r = 0
    · -- the act is done
      subst hr1
      obtain ⟨z', hh, hR', hB', hFz, hFv⟩ := hok rfl
      have z7' : z' 19 7 = -6 := (hFz.2 7 (by decide)).trans z7
      have z8' : z' 19 8 = -6 := (hFz.2 8 (by decide)).trans z8
      have z9' : z' 19 9 = nI e := (hFz.2 9 (by decide)).trans z9
      have z13 : z' 13 = z 13 := hFz.1 13 (by decide) (by decide) (by decide) (by decide) (by decide)
      have z99 : z' 9 = z 9 := hFz.1 9 (by decide) (by decide) (by decide) (by decide) (by decide)
      -- the model's whole step
      have mdone : ∀ (P : V → VL → Prop) (d : Nat), ((z 9 j = 6 → d = 1) ∧ (¬ z 9 j = 6 → d = 0)) → wp_X2_goMonths_L19 P (k + 1) (nI (j + 1)) (up2 (up2 z' 13 e (rateV v1')) 19 9 (nI (e + d))) g → wp_X2_goMonths_L19 P (k + 1 + 1) (nI j) z g := by
        intro P d hd hP
        refine mstep P 0 hw ⟨fun _ => ?_, fun q => absurd (by decide) q⟩
        unfold wp_X2_goMonths_L68
        refine ⟨fun _ => ?_, fun q => absurd (by decide) q⟩
        unfold wp_X2_goMonths_L82
        refine ⟨fun _ => ⟨vj, vj, vj, ?_⟩, fun q => absurd rfl q⟩
        rw [up2_id z7, up2_id z8, cj]
        refine hh _ (s2_rate hR' ?_)
        rw [z9', nI_clamp (by omega), z99]
        have e9 : up2 z' 13 e (rateV v1') 19 9 = nI e := by rw [up2_n _ _ _ _ (by decide)]; exact z9'
        unfold wp_X2_goMonths_L145 wp_X2_goMonths_L149
        rw [nI_1]
        refine ⟨vp_in_nI (by omega) (by decide), vj, fun q => ?_, fun q => ?_⟩
        · rw [hd.1 q] at hP
          rw [show nI e + 1 = nI (e + 1) from nI_1 e]
          exact hP
        · rw [hd.2 q] at hP
          rw [Int32.add_zero]
          exact hP
      have xgo : ∀ (x1 : V) (d : Nat), ((z 9 j = 6 → d = 1) ∧ (¬ z 9 j = 6 → d = 0)) → x1 0 = c → x1 5 0 = nI n → x1 5 1 = 0 → x1 5 2 = nI j → x1 5 3 = nI (e + d) → (∀ t, t < e → x1 1 t = x 1 t) → (d = 1 → x1 1 e = rateV v1') → ((x1 5 1 ≤ 0 → wp_X0_goMonths_L23 Q (k + 1) (nI (posA c j + lenA (c (posA c j)))) (up2 x1 5 2 (x1 5 2 + 1)) y v0 v1' v2 v3) ∧ (¬ x1 5 1 ≤ 0 → Q (x1 5 2) x1 y v0 v1' v2 v3)) := by
        intro x1 d hd g0 g1 g2 g3 g4 g5 g6
        refine ⟨fun _ => ?_, fun q => absurd (by rw [g2]; decide) q⟩
        rw [g3, nI_1]
        have hd1 : d ≤ 1 := by by_cases q : z 9 j = 6; rw [hd.1 q]; exact Nat.le_refl 1; rw [hd.2 q]; decide
        refine ih (j + 1) (e + d) (up2 x1 5 2 (nI (j + 1))) v1' (up2 (up2 z' 13 e (rateV v1')) 19 9 (nI (e + d))) (by omega) (by omega) ?_ ?_ ?_ ?_ ?_ hB' ?_ ?_ ?_ ?_ ?_ ?_
        · rw [up2_f _ _ _ (by decide)]; exact g0
        · rw [up2_s, if_neg (by decide)]; exact g1
        · rw [up2_s, if_pos rfl]
        · rw [up2_s, if_neg (by decide)]; exact g4
        · exact (hR'.other (by omega)).other (by omega)
        · exact ((hF.tr (FrM.of hFz)).tr (FrM.up (by omega))).tr (FrM.up (by omega))
        · rw [up2_s, if_neg (by decide), up2_n _ _ _ _ (by decide)]; exact z7'
        · rw [up2_s, if_neg (by decide), up2_n _ _ _ _ (by decide)]; exact z8'
        · rw [up2_s, if_pos rfl]
        · intro t ht
          rw [up2_n _ _ _ _ (by decide), up2_s, up2_n _ _ _ _ (by decide)]
          by_cases te : t = e
          · subst te
            rw [if_pos rfl]
            exact (g6 (by omega)).symm
          · rw [if_neg te, z13, g5 t (by omega)]
            exact hr t (by omega)
        · intro r x' v2' z2 hz hM
          refine h r x' v2' z2 (fun P hP => mdone P d hd (hz P hP)) ?_
          obtain ⟨m1, m2, m3, m4⟩ := hM
          refine ⟨(((FrM.of hFz).tr (FrM.up (by omega))).tr (FrM.up (by omega))).tr m1, m2.trans ((up2_f _ _ _ (by decide)).trans (g0.trans hx.symm)), m3.trans (by rw [up2_s, if_neg (by decide), g1, hx0]), ?_⟩
          rcases m4 with ⟨n1, n2, n3, n4, n5, n6, n7, n8⟩ | hj'
          · exact Or.inl ⟨n1, n2, n3, n4, n5, hFv.tr n6, n7, n8⟩
          · exact Or.inr hj'
      have hrr : ∀ t, t < e → up2 x 5 1 0 1 t = x 1 t := fun t _ => up2_n _ _ _ _ (by decide)
      refine ⟨fun q => ?_, fun q => ?_⟩
      · exact xgo (up2 x 5 1 0) 0 ⟨fun w => absurd w q, fun _ => rfl⟩ (by rw [up2_f _ _ _ (by decide)]; exact hx) (by rw [up2_s, if_neg (by decide)]; exact hx0) (by rw [up2_s, if_pos rfl]) (by rw [up2_s, if_neg (by decide)]; exact hx2) (by rw [up2_s, if_neg (by decide)]; exact hx3) hrr (fun w => absurd w (by decide))
      · exact xgo _ 1 ⟨fun _ => rfl, fun w => absurd q w⟩ (by rw [up2_f _ _ _ (by decide), up2_f _ _ _ (by decide), up2_f _ _ _ (by decide)]; exact hx) (by rw [up2_s, if_neg (by decide), up2_n _ _ _ _ (by decide), up2_s, if_neg (by decide)]; exact hx0) (by rw [up2_s, if_neg (by decide), up2_n _ _ _ _ (by decide), up2_s, if_pos rfl]) (by rw [up2_s, if_neg (by decide), up2_n _ _ _ _ (by decide), up2_s, if_neg (by decide)]; exact hx2) (by rw [up2_s, if_pos rfl]) (fun t ht => by rw [up2_n _ _ _ _ (by decide), up2_s, if_neg (by omega)]; exact hrr t ht) (fun _ => by rw [up2_n _ _ _ _ (by decide), up2_s, if_pos rfl])
    · -- the act can not be
      have hv := hno hr1
      subst hv
      have hpos : ¬ r ≤ 0 := fun q => hr1 (Int32.le_antisymm q hr0)
      have mbad : ∀ P : V → VL → Prop, P (up2 (up2 z 19 7 (nI j)) 19 8 r) g → wp_X2_goMonths_L19 P (k + 1 + 1) (nI j) z g := by
        intro P hP
        refine mstep P r hw ⟨fun q => absurd q hpos, fun _ => ?_⟩
        unfold wp_X2_goMonths_L68
        refine ⟨fun q => absurd q hpos, fun _ => ?_⟩
        unfold wp_X2_goMonths_L82
        refine ⟨fun q => absurd q hr1, fun _ => ?_⟩
        unfold wp_X2_goMonths_L149
        refine ⟨fun _ => hP, fun _ => ⟨fun _ => hP, fun q => absurd ?_ q⟩⟩
        rw [up2_s, if_neg (by decide), up2_s, if_pos rfl]
        exact nI_pos' (by omega)
      have xbad : ∀ x1 : V, x1 0 = c → x1 5 0 = nI n → x1 5 1 = r → x1 5 2 = nI j → ((x1 5 1 ≤ 0 → wp_X0_goMonths_L23 Q (k + 1) (nI (posA c j + lenA (c (posA c j)))) (up2 x1 5 2 (x1 5 2 + 1)) y v0 v1' v2 v3) ∧ (¬ x1 5 1 ≤ 0 → Q (x1 5 2) x1 y v0 v1' v2 v3)) := by
        intro x1 g0 g1 g2 g3
        refine ⟨fun q => absurd (by rw [g2] at q; exact q) hpos, fun _ => ?_⟩
        rw [g3]
        refine h (nI j) x1 v1' _ mbad ⟨(FrM.up (by omega)).tr (FrM.up (by omega)), g0.trans hx.symm, g1.trans hx0.symm, Or.inr ⟨j, hja, rfl, ?_, ?_, ?_⟩⟩
        · rw [up2_s, if_neg (by decide), up2_s, if_pos rfl]
        · rw [up2_s, if_pos rfl, g2]
        · rw [g2]; exact hr1
      refine ⟨fun q => ?_, fun q => ?_⟩
      · exact xbad _ (by rw [up2_f _ _ _ (by decide)]; exact hx) (by rw [up2_s, if_neg (by decide)]; exact hx0) (by rw [up2_s, if_pos rfl]) (by rw [up2_s, if_neg (by decide)]; exact hx2)
      · exact xbad _ (by rw [up2_f _ _ _ (by decide), up2_f _ _ _ (by decide), up2_f _ _ _ (by decide)]; exact hx) (by rw [up2_s, if_neg (by decide), up2_n _ _ _ _ (by decide), up2_s, if_neg (by decide)]; exact hx0) (by rw [up2_s, if_neg (by decide), up2_n _ _ _ _ (by decide), up2_s, if_pos rfl]) (by rw [up2_s, if_neg (by decide), up2_n _ _ _ _ (by decide), up2_s, if_neg (by decide)]; exact hx2)
