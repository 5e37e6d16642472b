/-! PURE 6: copies of a land; what the model keeps and puts back -/
set_option maxRecDepth 100000
theorem loopI {σ : Type} (L : Nat → Int32 → σ → Prop) (I : Nat → σ → Prop) (e : Nat) (hx : ∀ n s, I e s → L (n + 1) (nI e) s) (hs : ∀ n i s, i < e → I i s → (∀ s', I (i + 1) s' → L n (nI (i + 1)) s') → L (n + 1) (nI i) s) {s : σ} (h : I 0 s) : ∃ n, L n 0 s := by
  have key : ∀ n i s, i + n = e → I i s → L (n + 1) (nI i) s := by
    intro n
    induction n with
    | zero => intro i s he h1; obtain rfl : i = e := he; exact hx 0 s h1
    | succ n ih => intro i s he h1; exact hs _ i s (by omega) h1 (fun s' h2 => ih (i + 1) s' (by omega) h2)
  exact ⟨e + 1, key e 0 s (by omega) h⟩
theorem upRg_s (v : V) (j : Nat) (f : Nat → Int32) : upRg v j f j = f := if_pos rfl
theorem upRg_n (v : V) {j : Nat} (f : Nat → Int32) {a : Nat} (h : a ≠ j) : upRg v j f a = v a := if_neg h
/-- two pictures of one land -/
def LEq (v w : V) : Prop := (∀ k, k < 6 → v 0 k = w 0 k) ∧ (∀ k, k < 6 → v 1 k = w 1 k) ∧ (∀ a b, a < 6 → b < 6 → v (2 + a) b = w (2 + a) b) ∧ (∀ l, l < 8 → v 8 l = w 8 l) ∧ (∀ l, l < 8 → v 9 l = w 9 l) ∧ (∀ k, k < 2 → v 10 k = w 10 k) ∧ (∀ k, k < 8 → v 11 k = w 11 k) ∧ (∀ k, k < 8 → v 12 k = w 12 k) ∧ (∀ k, k < 8 → v 13 k = w 13 k) ∧ ∀ k, k < 3 → v 14 k = w 14 k
theorem LEq.rf {v : V} : LEq v v := ⟨fun _ _ => rfl, fun _ _ => rfl, fun _ _ _ _ => rfl, fun _ _ => rfl, fun _ _ => rfl, fun _ _ => rfl, fun _ _ => rfl, fun _ _ => rfl, fun _ _ => rfl, fun _ _ => rfl⟩
theorem LEq.sy {v w : V} (h : LEq v w) : LEq w v := by
  obtain ⟨h0, h1, h2, h3, h4, h5, h6, h7, h8, h9⟩ := h
  exact ⟨fun k q => (h0 k q).symm, fun k q => (h1 k q).symm, fun a b p q => (h2 a b p q).symm, fun k q => (h3 k q).symm, fun k q => (h4 k q).symm, fun k q => (h5 k q).symm, fun k q => (h6 k q).symm, fun k q => (h7 k q).symm, fun k q => (h8 k q).symm, fun k q => (h9 k q).symm⟩
theorem LEq.RL {v w z : V} (h : LEq v w) (hR : RL w z) : RL v z := by
  obtain ⟨h0, h1, h2, h3, h4, h5, h6, h7, h8, h9⟩ := h
  obtain ⟨r1, r2, r3, r4, r5, r6, r7, r8, r9⟩ := hR
  exact ⟨fun k q => (r1 k q).trans (h0 k q).symm, fun k q => (r2 k q).trans (h1 k q).symm, fun a b p q => (r3 a b p q).trans (h2 a b p q).symm, fun k q => (r4 k q).trans (h3 k q).symm, fun k q => (r5 k q).trans (h4 k q).symm, r6.trans (h5 0 (by decide)).symm, r7.trans (h5 1 (by decide)).symm, r8.trans (h9 0 (by decide)).symm, r9.trans (h9 1 (by decide)).symm⟩
theorem LEq.BL {v w : V} (h : LEq v w) (b : BL w) : BL v := by
  obtain ⟨h0, h1, h2, h3, h4, h5, h6, h7, h8, h9⟩ := h
  obtain ⟨b1, b2, b3, b4, b5, b6, b7⟩ := b
  refine ⟨fun k q => ?_, fun a c p q => ?_, fun k q => ?_, fun k q => ?_, ?_, ?_, fun k q => ?_⟩
  · rw [h0 k q]; exact b1 k q
  · rw [h2 a c p q]; exact b2 a c p q
  · rw [h3 k q]; exact b3 k q
  · rw [h4 k q]; exact b4 k q
  · rw [h5 0 (by decide)]; exact b5
  · rw [h5 0 (by decide)]; exact b6
  · rw [h6 k q]; exact b7 k q
theorem s1_copy {v w : V} {Post : V → Prop} (h : ∀ v', LEq v' w → v' 14 3 = v 14 3 → Post v') : wp_X1_copy v w Post := by
  unfold wp_X1_copy
  refine loopI (fun n i s => wp_X1_copy_L32 Post n i s w) (fun i s => (∀ k, k < 6 → s 0 k = w 0 k) ∧ (∀ k, k < 6 → s 1 k = w 1 k) ∧ (∀ a b, a < i → a < 6 → b < 6 → s (2 + a) b = w (2 + a) b) ∧ s 14 3 = v 14 3) 6 (fun n s hI => ?_) (fun n i s hi hI hk => ?_) ⟨fun k q => ?_, fun k q => ?_, fun a b q => absurd q (by omega), ?_⟩
  · refine ⟨fun _ => h _ ⟨fun k q => ?_, fun k q => ?_, fun a b p q => ?_, fun k q => ?_, fun k q => ?_, fun k q => ?_, fun k q => ?_, fun k q => ?_, fun k q => ?_, fun k q => ?_⟩ ?_, fun q => absurd (nI_le (Nat.le_refl 6) (by decide)) q⟩
    · simp only [upRg_n _ _ (show (0 : Nat) ≠ 13 by decide), upRg_n _ _ (show (0 : Nat) ≠ 12 by decide), upRg_n _ _ (show (0 : Nat) ≠ 11 by decide), upRg_n _ _ (show (0 : Nat) ≠ 10 by decide), upRg_n _ _ (show (0 : Nat) ≠ 9 by decide), upRg_n _ _ (show (0 : Nat) ≠ 8 by decide), up2_f _ _ _ (show (0 : Nat) ≠ 14 by decide)]
      exact hI.1 k q
    · simp only [upRg_n _ _ (show (1 : Nat) ≠ 13 by decide), upRg_n _ _ (show (1 : Nat) ≠ 12 by decide), upRg_n _ _ (show (1 : Nat) ≠ 11 by decide), upRg_n _ _ (show (1 : Nat) ≠ 10 by decide), upRg_n _ _ (show (1 : Nat) ≠ 9 by decide), upRg_n _ _ (show (1 : Nat) ≠ 8 by decide), up2_f _ _ _ (show (1 : Nat) ≠ 14 by decide)]
      exact hI.2.1 k q
    · simp only [upRg_n _ _ (show 2 + a ≠ 13 by omega), upRg_n _ _ (show 2 + a ≠ 12 by omega), upRg_n _ _ (show 2 + a ≠ 11 by omega), upRg_n _ _ (show 2 + a ≠ 10 by omega), upRg_n _ _ (show 2 + a ≠ 9 by omega), upRg_n _ _ (show 2 + a ≠ 8 by omega), up2_f _ _ _ (show 2 + a ≠ 14 by omega)]
      exact hI.2.2.1 a b p p q
    · simp only [upRg_n _ _ (show (8 : Nat) ≠ 13 by decide), upRg_n _ _ (show (8 : Nat) ≠ 12 by decide), upRg_n _ _ (show (8 : Nat) ≠ 11 by decide), upRg_n _ _ (show (8 : Nat) ≠ 10 by decide), upRg_n _ _ (show (8 : Nat) ≠ 9 by decide), upRg_s, up2_f _ _ _ (show (8 : Nat) ≠ 14 by decide)]
      exact sb_cpy0 q
    · simp only [upRg_n _ _ (show (9 : Nat) ≠ 13 by decide), upRg_n _ _ (show (9 : Nat) ≠ 12 by decide), upRg_n _ _ (show (9 : Nat) ≠ 11 by decide), upRg_n _ _ (show (9 : Nat) ≠ 10 by decide), upRg_s, up2_f _ _ _ (show (9 : Nat) ≠ 14 by decide)]
      exact sb_cpy0 q
    · simp only [upRg_n _ _ (show (10 : Nat) ≠ 13 by decide), upRg_n _ _ (show (10 : Nat) ≠ 12 by decide), upRg_n _ _ (show (10 : Nat) ≠ 11 by decide), upRg_s, up2_f _ _ _ (show (10 : Nat) ≠ 14 by decide)]
      exact sb_cpy0 q
    · simp only [upRg_n _ _ (show (11 : Nat) ≠ 13 by decide), upRg_n _ _ (show (11 : Nat) ≠ 12 by decide), upRg_s]
      exact sb_cpy0 q
    · simp only [upRg_n _ _ (show (12 : Nat) ≠ 13 by decide), upRg_s]
      exact sb_cpy0 q
    · simp only [upRg_s]
      exact sb_cpy0 q
    · simp only [upRg_n _ _ (show (14 : Nat) ≠ 13 by decide), upRg_n _ _ (show (14 : Nat) ≠ 12 by decide), upRg_n _ _ (show (14 : Nat) ≠ 11 by decide), up2_s]
      rcases (show k = 0 ∨ k = 1 ∨ k = 2 by omega) with rfl | rfl | rfl <;> rfl
    · simp only [upRg_n _ _ (show (14 : Nat) ≠ 13 by decide), upRg_n _ _ (show (14 : Nat) ≠ 12 by decide), upRg_n _ _ (show (14 : Nat) ≠ 11 by decide), upRg_n _ _ (show (14 : Nat) ≠ 10 by decide), upRg_n _ _ (show (14 : Nat) ≠ 9 by decide), upRg_n _ _ (show (14 : Nat) ≠ 8 by decide), up2_s]
      exact hI.2.2.2
  · refine ⟨fun q => absurd q (nI_ge hi (by decide)), fun _ => ⟨vp_in_nI hi (by decide), vp_in_nI hi (by decide), ?_⟩⟩
    rw [nI_clamp (by omega), nI_1]
    refine hk _ ⟨fun k q => ?_, fun k q => ?_, fun a b p p2 q => ?_, ?_⟩
    · rw [upRg_n _ _ (by omega)]; exact hI.1 k q
    · rw [upRg_n _ _ (by omega)]; exact hI.2.1 k q
    · by_cases e : a = i
      · subst e; rw [upRg_s]; exact sb_cpy0 q
      · rw [upRg_n _ _ (by omega)]; exact hI.2.2.1 a b (by omega) p2 q
    · rw [upRg_n _ _ (by omega)]; exact hI.2.2.2
  · rw [upRg_n _ _ (by decide), upRg_s]; exact sb_cpy0 q
  · rw [upRg_s]; exact sb_cpy0 q
  · rw [upRg_n _ _ (by decide), upRg_n _ _ (by decide)]
/-- the model's land, kept in row 12 -/
def Had (z0 z : V) : Prop := (∀ k, k < 6 → z 12 k = z0 0 k) ∧ (∀ k, k < 6 → z 12 (6 + k) = z0 1 k) ∧ (∀ e, e < 36 → z 12 (12 + e) = z0 2 e) ∧ (∀ l, l < 8 → z 12 (48 + l) = z0 4 l) ∧ z 12 56 = z0 19 0 ∧ z 12 57 = z0 19 1 ∧ z 12 58 = z0 19 2 ∧ z 12 59 = z0 19 3
theorem cl_56 : (56 : Int32).toNatClampNeg = 56 := by decide
theorem cl_57 : (57 : Int32).toNatClampNeg = 57 := by decide
theorem cl_58 : (58 : Int32).toNatClampNeg = 58 := by decide
theorem cl_59 : (59 : Int32).toNatClampNeg = 59 := by decide
theorem s2_keepNow {z : V} {g : VL} {Post : V → VL → Prop} (h : ∀ z', Had z z' → (∀ r, r ≠ 12 → z' r = z r) → Post z' g) : wp_X2_keepNow z g Post := by
  unfold wp_X2_keepNow
  refine loopI (fun n i s => wp_X2_keepNow_L2 Post n i s g) (fun i s => (∀ k, k < i → s 12 k = z 0 k) ∧ (∀ k, k < i → s 12 (6 + k) = z 1 k) ∧ ∀ r, r ≠ 12 → s r = z r) 6 (fun n s hI => ?_) (fun n i s hi hI hk => ?_) ⟨fun k q => absurd q (by omega), fun k q => absurd q (by omega), fun _ _ => rfl⟩
  · refine ⟨fun _ => ?_, fun q => absurd (nI_le (Nat.le_refl 6) (by decide)) q⟩
    refine loopI (fun n i s => wp_X2_keepNow_L43 Post n i s g) (fun i s => (∀ k, k < 6 → s 12 k = z 0 k) ∧ (∀ k, k < 6 → s 12 (6 + k) = z 1 k) ∧ (∀ e, e < i → s 12 (12 + e) = z 2 e) ∧ ∀ r, r ≠ 12 → s r = z r) 36 (fun n s hI => ?_) (fun n i s hi hI hk => ?_) ⟨hI.1, hI.2.1, fun k q => absurd q (by omega), hI.2.2⟩
    · refine ⟨fun _ => ?_, fun q => absurd (nI_le (Nat.le_refl 36) (by decide)) q⟩
      refine loopI (fun n i s => wp_X2_keepNow_L72 Post n i s g) (fun i s => (∀ k, k < 6 → s 12 k = z 0 k) ∧ (∀ k, k < 6 → s 12 (6 + k) = z 1 k) ∧ (∀ e, e < 36 → s 12 (12 + e) = z 2 e) ∧ (∀ l, l < i → s 12 (48 + l) = z 4 l) ∧ ∀ r, r ≠ 12 → s r = z r) 8 (fun n s hI => ?_) (fun n i s hi hI hk => ?_) ⟨hI.1, hI.2.1, hI.2.2.1, fun k q => absurd q (by omega), hI.2.2.2⟩
      · refine ⟨fun _ => ?_, fun q => absurd (nI_le (Nat.le_refl 8) (by decide)) q⟩
        rw [cl_56, cl_57, cl_58, cl_59]
        obtain ⟨i1, i2, i3, i4, i5⟩ := hI
        have i19 := i5 19 (by decide)
        refine h _ ⟨fun k q => ?_, fun k q => ?_, fun k q => ?_, fun k q => ?_, ?_, ?_, ?_, ?_⟩ (fun r q => ?_)
        · rw [up2_e, up2_e, up2_e, up2_e, if_neg (by omega), if_neg (by omega), if_neg (by omega), if_neg (by omega)]; exact i1 k q
        · rw [up2_e, up2_e, up2_e, up2_e, if_neg (by omega), if_neg (by omega), if_neg (by omega), if_neg (by omega)]; exact i2 k q
        · rw [up2_e, up2_e, up2_e, up2_e, if_neg (by omega), if_neg (by omega), if_neg (by omega), if_neg (by omega)]; exact i3 k q
        · rw [up2_e, up2_e, up2_e, up2_e, if_neg (by omega), if_neg (by omega), if_neg (by omega), if_neg (by omega)]; exact i4 k q
        · rw [up2_e, up2_e, up2_e, up2_e, if_neg (by omega), if_neg (by omega), if_neg (by omega), if_pos (by omega), i19]
        · rw [up2_e, up2_e, up2_e, if_neg (by omega), if_neg (by omega), if_pos (by omega), i19]
        · rw [up2_e, up2_e, if_neg (by omega), if_pos (by omega), i19]
        · rw [up2_e, if_pos (by omega), i19]
        · rw [up2_f _ _ _ q, up2_f _ _ _ q, up2_f _ _ _ q, up2_f _ _ _ q]; exact i5 r q
      · refine ⟨fun q => absurd q (nI_ge hi (by decide)), fun _ => ?_⟩
        rw [show (48 : Int32) = nI 48 from rfl, nI_add, nI_clamp (by omega), nI_clamp (by omega), nI_1]
        refine ⟨vp_in_nI hi (by decide), vp_in_nI (by omega) (by decide), hk _ ⟨fun k q => ?_, fun k q => ?_, fun k q => ?_, fun k q => ?_, fun r q => ?_⟩⟩
        · rw [up2_e, if_neg (by omega)]; exact hI.1 k q
        · rw [up2_e, if_neg (by omega)]; exact hI.2.1 k q
        · rw [up2_e, if_neg (by omega)]; exact hI.2.2.1 k q
        · by_cases e : k = i
          · subst e; rw [up2_e, if_pos (by omega), hI.2.2.2.2 4 (by decide)]
          · rw [up2_e, if_neg (by omega)]; exact hI.2.2.2.1 k (by omega)
        · rw [up2_f _ _ _ q]; exact hI.2.2.2.2 r q
    · refine ⟨fun q => absurd q (nI_ge hi (by decide)), fun _ => ?_⟩
      rw [show (12 : Int32) = nI 12 from rfl, nI_add, nI_clamp (by omega), nI_clamp (by omega), nI_1]
      refine ⟨vp_in_nI hi (by decide), vp_in_nI (by omega) (by decide), hk _ ⟨fun k q => ?_, fun k q => ?_, fun k q => ?_, fun r q => ?_⟩⟩
      · rw [up2_e, if_neg (by omega)]; exact hI.1 k q
      · rw [up2_e, if_neg (by omega)]; exact hI.2.1 k q
      · by_cases e : k = i
        · subst e; rw [up2_e, if_pos (by omega), hI.2.2.2 2 (by decide)]
        · rw [up2_e, if_neg (by omega)]; exact hI.2.2.1 k (by omega)
      · rw [up2_f _ _ _ q]; exact hI.2.2.2 r q
  · refine ⟨fun q => absurd q (nI_ge hi (by decide)), fun _ => ?_⟩
    rw [show (6 : Int32) = nI 6 from rfl, nI_add, nI_clamp (by omega), nI_clamp (by omega), nI_1]
    refine ⟨vp_in_nI hi (by decide), vp_in_nI (by omega) (by decide), vp_in_nI hi (by decide), vp_in_nI (by omega) (by decide), hk _ ⟨fun k q => ?_, fun k q => ?_, fun r q => ?_⟩⟩
    · by_cases e : k = i
      · subst e; rw [up2_e, if_neg (by omega), up2_e, if_pos (by omega), hI.2.2 0 (by decide)]
      · rw [up2_e, if_neg (by omega), up2_e, if_neg (by omega)]; exact hI.1 k (by omega)
    · by_cases e : k = i
      · subst e; rw [up2_e, if_pos (by omega), hI.2.2 1 (by decide)]
      · rw [up2_e, if_neg (by omega), up2_e, if_neg (by omega)]; exact hI.2.1 k (by omega)
    · rw [up2_f _ _ _ q, up2_f _ _ _ q]; exact hI.2.2 r q
