/-! PURE 3: loops with a counter; notes, land, rate; changing and paying -/
set_option maxRecDepth 100000
def foldN {σ : Type} (f : Nat → σ → σ) : Nat → Nat → σ → σ
  | 0, _, s => s
  | n + 1, i, s => foldN f n (i + 1) (f i s)
theorem foldN_eq {σ : Type} {f g : Nat → σ → σ} {I : Nat → σ → Prop} : ∀ (n i : Nat) (s : σ), I i s → (∀ j s, i ≤ j → j < i + n → I j s → f j s = g j s ∧ I (j + 1) (g j s)) → foldN f n i s = foldN g n i s := by
  intro n
  induction n with
  | zero => intro i s _ _; rfl
  | succ n ih =>
    intro i s hI h
    have h1 := h i s (Nat.le_refl _) (by omega) hI
    show foldN f n (i + 1) (f i s) = foldN g n (i + 1) (g i s)
    rw [h1.1]
    exact ih (i + 1) _ h1.2 (fun j s h2 h3 => h j s (by omega) (by omega))
theorem foldN_cg {σ : Type} {f g : Nat → σ → σ} (n i : Nat) (s : σ) (h : ∀ j s, i ≤ j → j < i + n → f j s = g j s) : foldN f n i s = foldN g n i s :=
  foldN_eq (I := fun _ _ => True) n i s trivial (fun j s h1 h2 _ => ⟨h j s h1 h2, trivial⟩)
theorem foldN_inv {σ : Type} {f : Nat → σ → σ} {I : Nat → σ → Prop} : ∀ (n i : Nat) (s : σ), I i s → (∀ j s, i ≤ j → j < i + n → I j s → I (j + 1) (f j s)) → I (i + n) (foldN f n i s) := by
  intro n
  induction n with
  | zero => intro i s h _; exact h
  | succ n ih =>
    intro i s hI h
    have h1 := ih (i + 1) (f i s) (h i s (Nat.le_refl _) (by omega) hI) (fun j s h2 h3 => h j s (by omega) (by omega))
    rw [show i + 1 + n = i + (n + 1) by omega] at h1
    exact h1
/-- a loop whose counter rises to e -/
theorem loopN {σ : Type} (L : Nat → Int32 → σ → Prop) (f : Nat → σ → σ) (I : Nat → σ → Prop) (e : Nat) (Post : σ → Prop) (hx : ∀ n s, I e s → Post s → L (n + 1) (nI e) s) (hs : ∀ n i s, i < e → I i s → I (i + 1) (f i s) → L n (nI (i + 1)) (f i s) → L (n + 1) (nI i) s) (hI : ∀ i s, i < e → I i s → I (i + 1) (f i s)) : ∀ n i s, i + n = e → I i s → Post (foldN f n i s) → L (n + 1) (nI i) s := by
  intro n
  induction n with
  | zero =>
    intro i s he h1 h2
    obtain rfl : i = e := he
    exact hx 0 s h1 h2
  | succ n ih =>
    intro i s he h1 h2
    exact hs _ i s (by omega) h1 (hI i s (by omega) h1) (ih (i + 1) (f i s) (by omega) (hI i s (by omega) h1) h2)
/-- the same without an invariant, from 0 -/
theorem loop0 {σ : Type} (L : Nat → Int32 → σ → Prop) (f : Nat → σ → σ) (e : Nat) (s : σ) (Post : σ → Prop) (hx : ∀ n s, Post s → L (n + 1) (nI e) s) (hs : ∀ n i s, i < e → L n (nI (i + 1)) (f i s) → L (n + 1) (nI i) s) (h : Post (foldN f e 0 s)) : ∃ n, L n 0 s :=
  ⟨e + 1, loopN L f (fun _ _ => True) e Post (fun n s _ h => hx n s h) (fun n i s hi _ _ h => hs n i s hi h) (fun _ _ _ _ => trivial) e 0 s (by omega) trivial h⟩
theorem lit_6 : (6 : Int32) = nI 6 := rfl
theorem lit_8 : (8 : Int32) = nI 8 := rfl
def notesF (v : V) : Int32 := foldN (fun i a => a + v 0 i) 6 0 (v 10 0)
def landF (v : V) : Int32 := foldN (fun i a => a + (if 0 ≤ v 9 i then 0 else v 8 i)) 8 0 0
def rateV (v : V) : Int32 := rateF (landF v) (notesF v).toInt64
theorem s1_notes {v : V} {Post : Int32 → V → Prop} (h : Post (notesF v) v) : wp_X1_notes v Post := by
  unfold wp_X1_notes
  rw [cl_0]
  refine loop0 (fun n i s => wp_X1_notes_L18 Post n s i v) (fun i a => a + v 0 i) 6 (v 10 0) (fun s => Post s v) (fun n s h => ?_) (fun n i s hi h => ?_) h
  · exact ⟨fun _ => h, fun q => absurd (nI_le (Nat.le_refl 6) (by decide)) q⟩
  · refine ⟨fun q => absurd q (nI_ge hi (by decide)), fun _ => ⟨vp_in_nI hi (by decide), ?_⟩⟩
    rw [nI_clamp (by omega), nI_1]
    exact h
theorem s1_land {v : V} {Post : Int32 → V → Prop} (h : Post (landF v) v) : wp_X1_land v Post := by
  unfold wp_X1_land
  refine loop0 (fun n i s => wp_X1_land_L4 Post n s i v) (fun i a => a + (if 0 ≤ v 9 i then 0 else v 8 i)) 8 0 (fun s => Post s v) (fun n s h => ?_) (fun n i s hi h => ?_) h
  · exact ⟨fun _ => h, fun q => absurd (nI_le (Nat.le_refl 8) (by decide)) q⟩
  · refine ⟨fun q => absurd q (nI_ge hi (by decide)), fun _ => ⟨vp_in_nI hi (by decide), ?_⟩⟩
    unfold wp_X1_land_L30
    rw [nI_clamp (by omega), nI_1]
    refine ⟨fun q => ?_, fun q => ⟨vp_in_nI hi (by decide), ?_⟩⟩
    · rw [if_pos q] at h; exact h
    · rw [if_neg q] at h; exact h
theorem s1_rate {v : V} {Post : Int32 → V → Prop} (h : Post (rateV v) v) : wp_X1_rate v Post := by
  unfold wp_X1_rate
  refine s1_land (s1_notes ?_)
  rw [s_rateOf]
  exact h
theorem notes_z {v z : V} (h : RL v z) : foldN (fun i a => a + z 0 i) 6 0 (z 19 0) = notesF v := by
  rw [h.2.2.2.2.2.1]
  exact foldN_cg _ _ _ (fun j s _ hj => by rw [h.1 j (by omega)])
theorem land_z {v z : V} (h : RL v z) : foldN (fun i (a : Int32) => a + (if 0 ≤ z 4 i then 0 else z 3 i)) 8 0 0 = landF v :=
  foldN_cg _ _ _ (fun j s _ hj => by rw [h.2.2.2.1 j (by omega), h.2.2.2.2.1 j (by omega)])
theorem s2_notes {v z : V} {g : VL} {Post : Int32 → V → VL → Prop} (hR : RL v z) (h : Post (notesF v) z g) : wp_X2_notes z g Post := by
  unfold wp_X2_notes
  refine loop0 (fun n i s => wp_X2_notes_L7 Post n s i z g) (fun i a => a + z 0 i) 6 (z 19 0) (fun s => Post s z g) (fun n s h => ?_) (fun n i s hi h => ?_) (by rw [notes_z hR]; exact h)
  · exact ⟨fun _ => h, fun q => absurd (nI_le (Nat.le_refl 6) (by decide)) q⟩
  · refine ⟨fun q => absurd q (nI_ge hi (by decide)), fun _ => ⟨vp_in_nI hi (by decide), ?_⟩⟩
    rw [nI_clamp (by omega), nI_1]
    exact h
theorem s2_land {v z : V} {g : VL} {Post : Int32 → V → VL → Prop} (hR : RL v z) (h : Post (landF v) z g) : wp_X2_land z g Post := by
  unfold wp_X2_land
  refine loop0 (fun n i s => wp_X2_land_L4 Post n s i z g) (fun i a => a + (if 0 ≤ z 4 i then 0 else z 3 i)) 8 0 (fun s => Post s z g) (fun n s h => ?_) (fun n i s hi h => ?_) (by rw [land_z hR]; exact h)
  · exact ⟨fun _ => h, fun q => absurd (nI_le (Nat.le_refl 8) (by decide)) q⟩
  · refine ⟨fun q => absurd q (nI_ge hi (by decide)), fun _ => ⟨vp_in_nI hi (by decide), ?_⟩⟩
    unfold wp_X2_land_L30
    rw [nI_clamp (by omega), nI_1]
    refine ⟨fun q => ?_, fun q => ⟨vp_in_nI hi (by decide), ?_⟩⟩
    · rw [if_pos q] at h; exact h
    · rw [if_neg q] at h; exact h
theorem s2_rate {v z : V} {g : VL} {Post : Int32 → V → VL → Prop} (hR : RL v z) (h : Post (rateV v) z g) : wp_X2_rate z g Post := by
  unfold wp_X2_rate
  refine s2_land hR (s2_notes hR ?_)
  rw [s2_rateOf]
  exact h
theorem s2_worth {v z : V} {g : VL} {m : Int32} {Post : Int32 → V → VL → Prop} (hR : RL v z) (h : Post (m * rateV v / 100) z g) : wp_X2_worth m z g Post := by
  unfold wp_X2_worth
  exact s2_rate hR h
theorem a_change {k m : Int32} {v z : V} {g : VL} {Q : Int32 → V → Prop} (h : RL v z) (b : BL v) (hk : vp_in k 6) (hm : 0 ≤ m ∧ m ≤ 900) (hQ : ∀ r v', ActOk 3 k m v z g r v' → Q r v') : wp_X1_change k m v Q := by
  have h6 := h.2.2.2.2.2.1
  have hp := h.1 _ (ix_lt hk)
  have hc := h.2.1 _ (ix_lt hk)
  have b1 := b.1 _ (ix_lt hk)
  have b5 := b.2.2.2.2.1
  have b6 := b.2.2.2.2.2.1
  have em : rateV v * m / 100 = m * rateV v / 100 := by rw [Int32.mul_comm]
  unfold wp_X1_change wp_X1_change_L49
  refine ⟨hk, fun c => s1_rate ?_, fun c => hQ 3 v (a_no (by decide) (by decide) (fun P hP => ?_))⟩
  · rw [cl_0, em]
    refine ⟨hk, fun c2 => hQ 5 v (a_no (by decide) (by decide) (fun P hP => ?_)), fun c2 => ⟨fun c3 => ⟨hk, hk, hk, hk, hQ 0 _ ⟨fun P hP => ?_, by decide, fun _ => ⟨up2 (up2 (up2 z 1 k.toNatClampNeg (v 1 k.toNatClampNeg + m * rateV v / 100)) 0 k.toNatClampNeg (v 0 k.toNatClampNeg - m)) 19 0 (v 10 0 + m), fun P hP => ?_, h.coin.paper.told0, ?_, ((FrZ.up (by omega)).tr (FrZ.up (by omega))).tr (FrZ.up (by omega)), ((FrV.up (by omega)).tr (FrV.up (by omega))).tr (FrV.up (by omega))⟩, fun q => absurd rfl q⟩⟩, fun c3 => hQ 5 v (a_no (by decide) (by decide) (fun P hP => ?_))⟩⟩
    · unfold wp_X2_whyNot wp_X2_whyNotChange wp_X2_whyNotChange_L41 wp_X2_whyNotChange_L46
      refine ⟨fun q => absurd q (by decide), fun _ => ⟨fun q => absurd q (by decide), fun _ => ⟨fun q => absurd q (by decide), fun _ => ⟨fun _ => ⟨hk, fun q => ⟨hk, s2_worth h ?_⟩, fun q => absurd (by rw [hp]; exact c) q⟩, fun q => absurd rfl q⟩⟩⟩⟩
      rw [hc]
      exact ⟨fun _ => hP, fun q => absurd c2 q⟩
    · unfold wp_X2_whyNot wp_X2_whyNotChange wp_X2_whyNotChange_L41 wp_X2_whyNotChange_L46
      refine ⟨fun q => absurd q (by decide), fun _ => ⟨fun q => absurd q (by decide), fun _ => ⟨fun q => absurd q (by decide), fun _ => ⟨fun _ => ⟨hk, fun q => ⟨hk, s2_worth h ?_⟩, fun q => absurd (by rw [hp]; exact c) q⟩, fun q => absurd rfl q⟩⟩⟩⟩
      rw [hc, h6]
      exact ⟨fun q => absurd q c2, fun _ => ⟨fun _ => hP, fun q => absurd c3 q⟩⟩
    · unfold wp_X2_happen wp_X2_happen_L136 wp_X2_swap
      refine ⟨fun q => absurd q (by decide), fun _ => ⟨fun q => absurd q (by decide), fun _ => ⟨fun q => absurd q (by decide), fun _ => ⟨fun _ => ⟨hk, s2_worth h ⟨hk, hk, hk, ?_⟩⟩, fun q => absurd rfl q⟩⟩⟩⟩
      rw [hc, hp, h6]
      exact hP
    · exact ((b.free (j := 1) (by omega)).paper ⟨(sub_i (Int32.le_trans b1.2 (by decide)) hm.1 c).1, Int32.le_trans (sub_i (Int32.le_trans b1.2 (by decide)) hm.1 c).2 b1.2⟩).told0 ⟨le_add_i b5 b6 hm.1 (Int32.le_trans hm.2 (by decide)), c3⟩
    · unfold wp_X2_whyNot wp_X2_whyNotChange wp_X2_whyNotChange_L41 wp_X2_whyNotChange_L46
      refine ⟨fun q => absurd q (by decide), fun _ => ⟨fun q => absurd q (by decide), fun _ => ⟨fun q => absurd q (by decide), fun _ => ⟨fun _ => ⟨hk, fun q => ⟨hk, s2_worth h ?_⟩, fun q => absurd (by rw [hp]; exact c) q⟩, fun q => absurd rfl q⟩⟩⟩⟩
      rw [hc, h6]
      exact ⟨fun q => absurd q c2, fun _ => ⟨fun q => absurd q c3, fun _ => hP⟩⟩
  · unfold wp_X2_whyNot wp_X2_whyNotChange
    exact ⟨fun q => absurd q (by decide), fun _ => ⟨fun q => absurd q (by decide), fun _ => ⟨fun q => absurd q (by decide), fun _ => ⟨fun _ => ⟨hk, fun q => absurd (by rw [← hp]; exact q) c, fun _ => hP⟩, fun q => absurd rfl q⟩⟩⟩⟩
theorem s2_payment {a b : Int32} {v z : V} {g : VL} {Post : Int32 → V → VL → Prop} (h : RL v z) (ha : vp_in a 6) (hb : vp_in b 6) (hP : Post (if v 0 a.toNatClampNeg < v (2 + a.toNatClampNeg) b.toNatClampNeg then v 0 a.toNatClampNeg else v (2 + a.toNatClampNeg) b.toNatClampNeg) z g) : wp_X2_payment a b z g Post := by
  obtain ⟨e6, i36⟩ := ix_6 ha hb
  have hp := h.1 _ (ix_lt ha)
  have ho := h.2.2.1 _ _ (ix_lt ha) (ix_lt hb)
  unfold wp_X2_payment wp_X2_payment_L32
  rw [e6, ho, hp]
  refine ⟨i36, ha, fun c => ⟨ha, ?_⟩, fun c => ?_⟩
  · by_cases c2 : v 0 a.toNatClampNeg < v (2 + a.toNatClampNeg) b.toNatClampNeg
    · rw [if_pos c2] at hP; exact hP
    · rw [if_neg c2] at hP
      rw [Int32.le_antisymm c (Int32.not_lt.mp c2)]
      exact hP
  · rw [if_neg (fun q => c (Int32.le_of_lt q))] at hP; exact hP
theorem a_pay {k m : Int32} {v z : V} {g : VL} {Q : Int32 → V → Prop} (h : RL v z) (b : BL v) (hk : vp_in k 6) (hm : vp_in m 6) (hQ : ∀ r v', ActOk 4 k m v z g r v' → Q r v') : wp_X1_pay k m v Q := by
  obtain ⟨e6, i36⟩ := ix_6 hk hm
  have hp := h.1 _ (ix_lt hk)
  have hp2 := h.1 _ (ix_lt hm)
  have ho := h.2.2.1 _ _ (ix_lt hk) (ix_lt hm)
  have b1 := b.1 _ (ix_lt hk)
  have b2 := b.1 _ (ix_lt hm)
  have bo := b.2.1 _ _ (ix_lt hk) (ix_lt hm)
  have hkl := ix_lt hk
  unfold wp_X1_pay
  refine ⟨fun c => hQ 1 v (a_no (by decide) (by decide) (fun P hP => ?_)), fun c => ⟨hk, hm, hk, fun n hn => ?_⟩⟩
  · unfold wp_X2_whyNot wp_X2_whyNotPay
    exact ⟨fun q => absurd q (by decide), fun _ => ⟨fun q => absurd q (by decide), fun _ => ⟨fun q => absurd q (by decide), fun _ => ⟨fun q => absurd q (by decide), fun _ => ⟨fun _ => ⟨fun _ => hP, fun q => absurd c q⟩, fun q => absurd rfl q⟩⟩⟩⟩⟩
  · have hne : k.toNatClampNeg ≠ m.toNatClampNeg := fun q => by
      obtain ⟨i, hi, rfl⟩ := vp_in_of hk (by decide)
      obtain ⟨j, hj, rfl⟩ := vp_in_of hm (by decide)
      rw [nI_clamp (by omega), nI_clamp (by omega)] at q
      exact c (by rw [q])
    have hn0 : 0 ≤ n := by rw [hn]; split; exact b1.1; exact bo
    have hnk : n ≤ v 0 k.toNatClampNeg := by
      rw [hn]; split
      · exact Int32.le_refl _
      · rename_i q; exact Int32.not_lt.mp q
    have hno : n ≤ v (2 + k.toNatClampNeg) m.toNatClampNeg := by
      rw [hn]; split
      · rename_i q; exact Int32.le_of_lt q
      · exact Int32.le_refl _
    have wn : ∀ (P : Int32 → V → VL → Prop) (r : Int32), ((n = 0 → r = 4) ∧ (¬ n = 0 → (v 0 m.toNatClampNeg + n ≤ 9999 → r = 0) ∧ (¬ v 0 m.toNatClampNeg + n ≤ 9999 → r = 5))) → P r z g → wp_X2_whyNot 4 k m z g P := by
      intro P r hr hP
      unfold wp_X2_whyNot wp_X2_whyNotPay wp_X2_whyNotPay_L41
      refine ⟨fun q => absurd q (by decide), fun _ => ⟨fun q => absurd q (by decide), fun _ => ⟨fun q => absurd q (by decide), fun _ => ⟨fun q => absurd q (by decide), fun _ => ⟨fun _ => ⟨fun q => absurd q c, fun _ => s2_payment h hk hm ?_⟩, fun q => absurd rfl q⟩⟩⟩⟩⟩
      rw [← hn, hp2]
      refine ⟨fun q => ?_, fun q => ⟨hm, fun q2 => ?_, fun q2 => ?_⟩⟩
      · rw [hr.1 q] at hP; exact hP
      · rw [(hr.2 q).1 q2] at hP; exact hP
      · rw [(hr.2 q).2 q2] at hP; exact hP
    refine ⟨fun c2 => hQ 4 v (a_no (by decide) (by decide) (fun P hP => wn P 4 ⟨fun _ => rfl, fun q => absurd c2 q⟩ hP)), fun c2 => ⟨hm, fun c3 => ⟨hk, hk, hm, hm, hk, hm, hm, hQ 0 _ ⟨fun P hP => wn P 0 ⟨fun q => absurd q c2, fun _ => ⟨fun _ => rfl, fun q => absurd c3 q⟩⟩ hP, by decide, fun _ => ?_, fun q => absurd rfl q⟩⟩, fun c3 => hQ 5 v (a_no (by decide) (by decide) (fun P hP => wn P 5 ⟨fun q => absurd q c2, fun _ => ⟨fun q => absurd q c3, fun _ => rfl⟩⟩ hP))⟩⟩
    have e1 : up2 v 0 k.toNatClampNeg (v 0 k.toNatClampNeg - n) 0 m.toNatClampNeg = v 0 m.toNatClampNeg := by rw [up2_s, if_neg (fun q => hne q.symm)]
    rw [e1]
    have e2 : up2 (up2 v 0 k.toNatClampNeg (v 0 k.toNatClampNeg - n)) 0 m.toNatClampNeg (v 0 m.toNatClampNeg + n) (2 + k.toNatClampNeg) m.toNatClampNeg = v (2 + k.toNatClampNeg) m.toNatClampNeg := by rw [up2_n _ _ _ _ (by omega), up2_n _ _ _ _ (by omega)]
    rw [e2]
    refine ⟨up2 (up2 (up2 z 2 (6 * k.toNatClampNeg + m.toNatClampNeg) (v (2 + k.toNatClampNeg) m.toNatClampNeg - n)) 0 k.toNatClampNeg (v 0 k.toNatClampNeg - n)) 0 m.toNatClampNeg (v 0 m.toNatClampNeg + n), fun P hP => ?_, ?_, ?_, ((FrZ.up (by omega)).tr (FrZ.up (by omega))).tr (FrZ.up (by omega)), ((FrV.up (by omega)).tr (FrV.up (by omega))).tr (FrV.up (by omega))⟩
    · unfold wp_X2_happen wp_X2_happen_L136 wp_X2_pay
      refine ⟨fun q => absurd q (by decide), fun _ => ⟨fun q => absurd q (by decide), fun _ => ⟨fun q => absurd q (by decide), fun _ => ⟨fun q => absurd q (by decide), fun _ => ⟨fun _ => s2_payment h hk hm ⟨i36, i36, hk, hk, hm, hm, ?_⟩, fun q => absurd rfl q⟩⟩⟩⟩⟩
      rw [← hn, e6, ho, hp]
      have e3 : up2 (up2 z 2 (6 * k.toNatClampNeg + m.toNatClampNeg) (v (2 + k.toNatClampNeg) m.toNatClampNeg - n)) 0 k.toNatClampNeg (v 0 k.toNatClampNeg - n) 0 m.toNatClampNeg = v 0 m.toNatClampNeg := by rw [up2_s, if_neg (fun q => hne q.symm), up2_n _ _ _ _ (by omega), hp2]
      rw [e3]
      exact hP
    · rw [up2_c _ (j := 0) (j2 := 2 + k.toNatClampNeg) (by omega), up2_c _ (j := 0) (j2 := 2 + k.toNatClampNeg) (by omega)]
      exact (h.owe hkl (ix_lt hm)).paper.paper
    · have s1 := sub_i (Int32.le_trans b1.2 (by decide)) hn0 hnk
      exact ((b.paper ⟨s1.1, Int32.le_trans s1.2 b1.2⟩).paper ⟨le_add_i b2.1 (Int32.le_trans b2.2 (by decide)) hn0 (Int32.le_trans (Int32.le_trans hnk b1.2) (by decide)), c3⟩).owe hkl (by rw [le_i, t_0]; rw [le_i] at hno; rw [le_i, t_0] at hn0 bo; rw [ti_sub (by omega) (by have := Int32.toInt_lt (v (2 + k.toNatClampNeg) m.toNatClampNeg); omega)]; omega)
