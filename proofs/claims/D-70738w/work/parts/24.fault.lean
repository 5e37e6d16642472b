/-! PURE 5: the model's reading, with the acts that it notes -/
set_option maxRecDepth 100000
def lenA (c : Int32) : Nat := if c = 46 then 1 else if c = 43 then 2 else 3
def posA (c : Nat → Int32) : Nat → Nat
  | 0 => 0
  | j + 1 => posA c j + lenA (c (posA c j))
/-- the act w (of k, by m) is told at the place p -/
def Dec (c : Nat → Int32) (p : Nat) (w k m : Int32) : Prop :=
  (c p = 46 ∧ w = 6) ∨ (c p = 43 ∧ w = 0 ∧ DG (c (p + 1)) ∧ m = 100 * (c (p + 1) - 48)) ∨ (c p = 33 ∧ w = 1 ∧ LT (c (p + 1)) ∧ k = c (p + 1) - 65 ∧ DG (c (p + 2)) ∧ m = 100 * (c (p + 2) - 48)) ∨
  (LT (c p) ∧ k = c p - 65 ∧ ((c (p + 1) = 36 ∧ w = 2 ∧ D7 (c (p + 2)) ∧ m = c (p + 2) - 48) ∨ (c (p + 1) = 47 ∧ w = 3 ∧ DG (c (p + 2)) ∧ m = 10 * (c (p + 2) - 48)) ∨ (c (p + 1) = 62 ∧ w = 4 ∧ LT (c (p + 2)) ∧ m = c (p + 2) - 65) ∨ (c (p + 1) = 64 ∧ w = 5 ∧ DG (c (p + 2)) ∧ m = 100 * (c (p + 2) - 48))))
/-- within an act that begins at p: what is due at i -/
def Cur (c : Nat → Int32) (due : Int32) (p i : Nat) (k : Int32) : Prop :=
  (due = 0 ∧ i = p) ∨ (due = 1 ∧ i = p + 1 ∧ LT (c p) ∧ k = c p - 65) ∨ (due = 2 ∧ i = p + 1 ∧ c p = 43) ∨ (due = 3 ∧ i = p + 1 ∧ c p = 33) ∨ (due = 4 ∧ i = p + 2 ∧ c p = 33 ∧ LT (c (p + 1)) ∧ k = c (p + 1) - 65) ∨
  (due = 5 ∧ i = p + 2 ∧ (LT (c p) ∧ k = c p - 65) ∧ c (p + 1) = 36) ∨ (due = 6 ∧ i = p + 2 ∧ (LT (c p) ∧ k = c p - 65) ∧ c (p + 1) = 47) ∨ (due = 7 ∧ i = p + 2 ∧ (LT (c p) ∧ k = c p - 65) ∧ c (p + 1) = 62) ∨ (due = 8 ∧ i = p + 2 ∧ (LT (c p) ∧ k = c p - 65) ∧ c (p + 1) = 64)
def stD (due : Int32) : Int32 := if due = 0 then 0 else if due = 1 then 1 else if due = 3 then 5 else if due = 5 then 3 else if due = 7 then 4 else 2
/-- what reading leaves of the model -/
def FrP (z0 z : V) : Prop := (∀ r, r ≠ 9 → r ≠ 10 → r ≠ 11 → r ≠ 19 → z r = z0 r) ∧ ∀ i, i ≠ 6 → z 19 i = z0 19 i
theorem FrP.rf {z : V} : FrP z z := ⟨fun _ _ _ _ _ => rfl, fun _ _ => rfl⟩
theorem FrP.up {z0 z : V} (h : FrP z0 z) {j i : Nat} {x : Int32} (hj : j = 9 ∨ j = 10 ∨ j = 11 ∨ (j = 19 ∧ i = 6)) : FrP z0 (up2 z j i x) := by
  refine ⟨fun r h1 h2 h3 h4 => by rw [up2_f z i x (by omega)]; exact h.1 r h1 h2 h3 h4, fun k hk => ?_⟩
  rw [up2_e, if_neg (by omega)]
  exact h.2 k hk
def PI (c : Nat → Int32) (a i : Nat) (due : Int32) (z0 z : V) : Prop :=
  z 19 6 = nI a ∧ a ≤ i ∧ (∀ j, j < a → Dec c (posA c j) (z 9 j) (z 10 j) (z 11 j)) ∧ Cur c due (posA c a) i (z 10 a) ∧ FrP z0 z
theorem s_close {w m : Int32} {z : V} {g : VL} {a : Nat} {Post : Int32 → V → VL → Prop} (ha : z 19 6 = nI a) (h60 : a < 60) (h : Post 0 (up2 (up2 (up2 z 9 a w) 11 a m) 19 6 (nI (a + 1))) g) : wp_X2_close w m z g Post := by
  unfold wp_X2_close
  rw [ha, nI_clamp (by omega), nI_1]
  exact ⟨vp_in_nI h60 (by decide), vp_in_nI h60 (by decide), h⟩
theorem PI.close {c : Nat → Int32} {a i : Nat} {z0 z : V} {w m : Int32} (ha : a ≤ i) (hd : ∀ j, j < a → Dec c (posA c j) (z 9 j) (z 10 j) (z 11 j)) (hF : FrP z0 z) (h : Dec c (posA c a) w (z 10 a) m) (hi : i + 1 = posA c a + lenA (c (posA c a))) : PI c (a + 1) (i + 1) 0 z0 (up2 (up2 (up2 z 9 a w) 11 a m) 19 6 (nI (a + 1))) := by
  refine ⟨by rw [up2_s, if_pos rfl], by omega, fun j hj => ?_, Or.inl ⟨rfl, hi⟩, ((hF.up (by omega)).up (by omega)).up (by omega)⟩
  rw [up2_n _ _ _ _ (by omega), up2_n _ _ _ _ (by omega), up2_s, up2_n _ _ _ _ (by omega), up2_n _ _ _ _ (by omega), up2_n _ _ _ _ (by omega), up2_n _ _ _ _ (by omega), up2_s, up2_n _ _ _ _ (by omega)]
  by_cases e : j = a
  · subst e
    rw [if_pos rfl, if_pos rfl]
    exact h
  · rw [if_neg e, if_neg e]
    exact hd j (by omega)
theorem len_46 {c : Int32} (h : c = 46) : lenA c = 1 := if_pos h
theorem len_43 {c : Int32} (h : c = 43) : lenA c = 2 := by subst h; rfl
theorem len_33 {c : Int32} (h : c = 33) : lenA c = 3 := by subst h; rfl
theorem LT_ne {c : Int32} (h : LT c) {d : Int32} (hd : ¬ LT d) : c ≠ d := fun q => hd (q ▸ h)
theorem len_L {c : Int32} (h : LT c) : lenA c = 3 := by
  unfold lenA
  rw [if_neg (LT_ne h (by unfold LT; decide)), if_neg (LT_ne h (by unfold LT; decide))]
theorem s_number {w ch t : Int32} {z : V} {g : VL} {a : Nat} {Post : Int32 → V → VL → Prop} (ha : z 19 6 = nI a) (h60 : a < 60) (hT : DG ch → Post 0 (up2 (up2 (up2 z 9 a w) 11 a (t * (ch - 48))) 19 6 (nI (a + 1))) g) (hF : ¬ DG ch → Post (-6) z g) : wp_X2_number w ch t z g Post := by
  unfold wp_X2_number wp_X2_number_L30
  rw [s2_in ch 49 57 (by decide) (by decide), b01]
  exact ⟨fun q => hF q, fun q => s_close ha h60 (hT q)⟩
theorem step_neg {P : Prop} [Decidable P] {a : Int32} (ha : 0 ≤ a) (h : ¬ P) : ¬ 0 ≤ (if P then a else (-6 : Int32)) := by rw [if_neg h]; decide
set_option maxHeartbeats 1000000 in
theorem s_readOn {c : Nat → Int32} {a i : Nat} {due : Int32} {z0 z : V} {g : VL} {Post : Int32 → V → VL → Prop} (hp : PI c a i due z0 z) (h60 : i < 60) (hF : ¬ 0 ≤ stepF (stD due) (c i) → ∀ z', FrP z0 z' → Post (-6) z' g) (hT : 0 ≤ stepF (stD due) (c i) → ∀ due' a' z', stepF (stD due) (c i) = stD due' → 0 ≤ due' → PI c a' (i + 1) due' z0 z' → Post due' z' g) : wp_X2_readOn due (c i) z g Post := by
  obtain ⟨ha, hai, hd, hc, hfr⟩ := hp
  have ha60 : a < 60 := by omega
  unfold wp_X2_readOn
  rcases hc with ⟨rfl, hi⟩ | ⟨rfl, hi, hL, hk⟩ | ⟨rfl, hi, hL⟩ | ⟨rfl, hi, hL⟩ | ⟨rfl, hi, hL, hL2, hk⟩ | ⟨rfl, hi, hL, h36⟩ | ⟨rfl, hi, hL, h36⟩ | ⟨rfl, hi, hL, h36⟩ | ⟨rfl, hi, hL, h36⟩
  · refine ⟨fun _ => ?_, fun q => absurd rfl q⟩
    rw [show stD 0 = 0 from rfl] at hF hT
    have es : stepF 0 (c i) = (if 65 ≤ c i ∧ c i ≤ 70 then 1 else if c i = 43 then 2 else if c i = 33 then 5 else if c i = 46 then 0 else -6) := by unfold stepF; rw [if_pos rfl]
    rw [es] at hF hT
    unfold wp_X2_begin wp_X2_begin_L23 wp_X2_begin_L85
    rw [s2_isLetter, b01]
    have key : ∀ k : Int32, (LT (c i) → k = c i - 65) → (vp_in (z 19 6) 60 ∧ (c i = 33 → Post 3 (up2 z 10 (z 19 6).toNatClampNeg k) g) ∧ (¬c i = 33 → (c i = 43 → Post 2 (up2 z 10 (z 19 6).toNatClampNeg k) g) ∧ (¬c i = 43 → (c i = 46 → wp_X2_close 6 0 (up2 z 10 (z 19 6).toNatClampNeg k) g fun r2 z_2 g_2 => Post r2 z_2 g_2) ∧ (¬c i = 46 → wp_X2_isLetter (c i) fun r3 => (r3 = 0 → Post (-6) (up2 z 10 (z 19 6).toNatClampNeg k) g) ∧ (¬r3 = 0 → Post 1 (up2 z 10 (z 19 6).toNatClampNeg k) g))))) := by
      intro k hk
      rw [ha, nI_clamp (by omega)]
      have hd2 : ∀ j, j < a → Dec c (posA c j) (up2 z 10 a k 9 j) (up2 z 10 a k 10 j) (up2 z 10 a k 11 j) := fun j hj => by
        rw [up2_n _ _ _ _ (by decide), up2_s, if_neg (by omega), up2_n _ _ _ _ (by decide)]; exact hd j hj
      have hf2 : FrP z0 (up2 z 10 a k) := hfr.up (by omega)
      have ha2 : up2 z 10 a k 19 6 = nI a := by rw [up2_n _ _ _ _ (by decide)]; exact ha
      have hk2 : up2 z 10 a k 10 a = k := by rw [up2_s, if_pos rfl]
      refine ⟨vp_in_nI ha60 (by decide), fun q => ?_, fun q => ⟨fun q2 => ?_, fun q2 => ⟨fun q3 => ?_, fun q3 => ?_⟩⟩⟩
      · have nL : ¬ (65 ≤ c i ∧ c i ≤ 70) := by rw [q]; decide
        rw [if_neg nL, if_neg (by rw [q]; decide), if_pos q] at hT
        exact hT (by decide) 3 a _ rfl (by decide) ⟨ha2, by omega, hd2, Or.inr (Or.inr (Or.inr (Or.inl ⟨rfl, by omega, by rw [← hi]; exact q⟩))), hf2⟩
      · have nL : ¬ (65 ≤ c i ∧ c i ≤ 70) := by rw [q2]; decide
        rw [if_neg nL, if_pos q2] at hT
        exact hT (by decide) 2 a _ rfl (by decide) ⟨ha2, by omega, hd2, Or.inr (Or.inr (Or.inl ⟨rfl, by omega, by rw [← hi]; exact q2⟩)), hf2⟩
      · have nL : ¬ (65 ≤ c i ∧ c i ≤ 70) := by rw [q3]; decide
        rw [if_neg nL, if_neg q2, if_neg q, if_pos q3] at hT
        refine s_close ha2 ha60 (hT (by decide) 0 (a + 1) _ rfl (by decide) (PI.close hai hd2 hf2 (Or.inl ⟨by rw [← hi]; exact q3, rfl⟩) ?_))
        rw [len_46 (by rw [← hi]; exact q3)]; omega
      · rw [s2_isLetter, b01]
        refine ⟨fun nL => ?_, fun hL => ?_⟩
        · rw [if_neg nL, if_neg q2, if_neg q, if_neg q3] at hF
          exact hF (by decide) _ hf2
        · rw [if_pos hL] at hT
          exact hT (by decide) 1 a _ rfl (by decide) ⟨ha2, by omega, hd2, Or.inr (Or.inl ⟨rfl, by omega, by rw [← hi]; exact hL, by rw [hk2, ← hi]; exact hk hL⟩), hf2⟩
    exact ⟨fun q => key 0 (fun q2 => absurd q2 q), fun q => key _ (fun _ => rfl)⟩
  · refine ⟨fun q => absurd q (by decide), fun _ => ⟨fun _ => ?_, fun q => absurd rfl q⟩⟩
    have es : stepF (stD 1) (c i) = (if c i = 36 then 3 else if c i = 47 then 2 else if c i = 64 then 2 else if c i = 62 then 4 else -6) := by rw [show stD 1 = 1 from rfl]; unfold stepF; rw [if_neg (by decide), if_pos rfl]
    rw [es] at hF hT
    have ec : c (posA c a + 1) = c i := by rw [hi]
    have mk : ∀ d : Int32, Cur c d (posA c a) (i + 1) (z 10 a) → PI c a (i + 1) d z0 z := fun d h => ⟨ha, by omega, hd, h, hfr⟩
    unfold wp_X2_deed
    refine ⟨fun q => ?_, fun q => ⟨fun q2 => ?_, fun q2 => ⟨fun q3 => ?_, fun q3 => ⟨fun q4 => ?_, fun q4 => ?_⟩⟩⟩⟩
    · rw [if_pos q] at hT
      exact hT (by decide) 5 a z rfl (by decide) (mk 5 (Or.inr (Or.inr (Or.inr (Or.inr (Or.inr (Or.inl ⟨rfl, by omega, ⟨hL, hk⟩, by rw [ec]; exact q⟩)))))))
    · rw [if_neg q, if_pos q2] at hT
      exact hT (by decide) 6 a z rfl (by decide) (mk 6 (Or.inr (Or.inr (Or.inr (Or.inr (Or.inr (Or.inr (Or.inl ⟨rfl, by omega, ⟨hL, hk⟩, by rw [ec]; exact q2⟩))))))))
    · rw [if_neg q, if_neg q2, if_neg (by rw [q3]; decide), if_pos q3] at hT
      exact hT (by decide) 7 a z rfl (by decide) (mk 7 (Or.inr (Or.inr (Or.inr (Or.inr (Or.inr (Or.inr (Or.inr (Or.inl ⟨rfl, by omega, ⟨hL, hk⟩, by rw [ec]; exact q3⟩)))))))))
    · rw [if_neg q, if_neg q2, if_pos q4] at hT
      exact hT (by decide) 8 a z rfl (by decide) (mk 8 (Or.inr (Or.inr (Or.inr (Or.inr (Or.inr (Or.inr (Or.inr (Or.inr ⟨rfl, by omega, ⟨hL, hk⟩, by rw [ec]; exact q4⟩)))))))))
    · rw [if_neg q, if_neg q2, if_neg q4, if_neg q3] at hF
      exact hF (by decide) z hfr
  · refine ⟨fun q => absurd q (by decide), fun _ => ⟨fun q => absurd q (by decide), fun _ => ⟨fun _ => ?_, fun q => absurd rfl q⟩⟩⟩
    have es : stepF (stD 2) (c i) = (if 49 ≤ c i ∧ c i ≤ 57 then 0 else -6) := by rw [show stD 2 = 2 from rfl]; unfold stepF; rw [if_neg (by decide), if_neg (by decide), if_pos rfl]
    rw [es] at hF hT
    refine s_number ha ha60 (fun q => ?_) (fun q => hF (step_neg (by decide) q) z hfr)
    rw [if_pos (show 49 ≤ c i ∧ c i ≤ 57 from q)] at hT
    exact hT (by decide) 0 (a + 1) _ rfl (by decide) (PI.close hai hd hfr (Or.inr (Or.inl ⟨hL, rfl, by rw [← hi]; exact q, by rw [← hi]⟩)) (by rw [len_43 hL]; omega))
  · refine ⟨fun q => absurd q (by decide), fun _ => ⟨fun q => absurd q (by decide), fun _ => ⟨fun q => absurd q (by decide), fun _ => ⟨fun _ => ?_, fun q => absurd rfl q⟩⟩⟩⟩
    have es : stepF (stD 3) (c i) = (if 65 ≤ c i ∧ c i ≤ 70 then 2 else -6) := by rw [show stD 3 = 5 from rfl]; unfold stepF; rw [if_neg (by decide), if_neg (by decide), if_neg (by decide), if_neg (by decide), if_neg (by decide), if_pos rfl]
    rw [es] at hF hT
    unfold wp_X2_forWhom wp_X2_forWhom_L26
    rw [s2_isLetter, b01, ha, nI_clamp (by omega)]
    refine ⟨vp_in_nI ha60 (by decide), fun q => hF (step_neg (by decide) q) _ (hfr.up (by omega)), fun q => ?_⟩
    rw [if_pos q] at hT
    refine hT (by decide) 4 a _ rfl (by decide) ⟨by rw [up2_n _ _ _ _ (by decide)]; exact ha, by omega, fun j hj => by rw [up2_n _ _ _ _ (by decide), up2_s, if_neg (by omega), up2_n _ _ _ _ (by decide)]; exact hd j hj, Or.inr (Or.inr (Or.inr (Or.inr (Or.inl ⟨rfl, by omega, hL, by rw [← hi]; exact q, by rw [up2_s, if_pos rfl, ← hi]⟩)))), hfr.up (by omega)⟩
  · refine ⟨fun q => absurd q (by decide), fun _ => ⟨fun q => absurd q (by decide), fun _ => ⟨fun q => absurd q (by decide), fun _ => ⟨fun q => absurd q (by decide), fun _ => ⟨fun _ => ?_, fun q => absurd rfl q⟩⟩⟩⟩⟩
    have es : stepF (stD 4) (c i) = (if 49 ≤ c i ∧ c i ≤ 57 then 0 else -6) := by rw [show stD 4 = 2 from rfl]; unfold stepF; rw [if_neg (by decide), if_neg (by decide), if_pos rfl]
    rw [es] at hF hT
    refine s_number ha ha60 (fun q => ?_) (fun q => hF (step_neg (by decide) q) z hfr)
    rw [if_pos (show 49 ≤ c i ∧ c i ≤ 57 from q)] at hT
    exact hT (by decide) 0 (a + 1) _ rfl (by decide) (PI.close hai hd hfr (Or.inr (Or.inr (Or.inl ⟨hL, rfl, hL2, hk, by rw [← hi]; exact q, by rw [← hi]⟩))) (by rw [len_33 hL]; omega))
  · refine ⟨fun q => absurd q (by decide), fun _ => ⟨fun q => absurd q (by decide), fun _ => ⟨fun q => absurd q (by decide), fun _ => ⟨fun q => absurd q (by decide), fun _ => ⟨fun q => absurd q (by decide), fun _ => ⟨fun _ => ?_, fun q => absurd rfl q⟩⟩⟩⟩⟩⟩
    have es : stepF (stD 5) (c i) = (if 48 ≤ c i ∧ c i ≤ 55 then 0 else -6) := by rw [show stD 5 = 3 from rfl]; unfold stepF; rw [if_neg (by decide), if_neg (by decide), if_neg (by decide), if_pos rfl]
    rw [es] at hF hT
    unfold wp_X2_readOn_L111
    rw [s2_in (c i) 48 55 (by decide) (by decide), b01]
    refine ⟨fun q => hF (step_neg (by decide) q) z hfr, fun q => s_close ha ha60 ?_⟩
    rw [if_pos q] at hT
    exact hT (by decide) 0 (a + 1) _ rfl (by decide) (PI.close hai hd hfr (Or.inr (Or.inr (Or.inr ⟨hL.1, hL.2, Or.inl ⟨h36, rfl, by rw [← hi]; exact q, by rw [← hi]⟩⟩))) (by rw [len_L hL.1]; omega))
  · refine ⟨fun q => absurd q (by decide), fun _ => ⟨fun q => absurd q (by decide), fun _ => ⟨fun q => absurd q (by decide), fun _ => ⟨fun q => absurd q (by decide), fun _ => ⟨fun q => absurd q (by decide), fun _ => ⟨fun q => absurd q (by decide), fun _ => ⟨fun _ => ?_, fun q => absurd rfl q⟩⟩⟩⟩⟩⟩⟩
    have es : stepF (stD 6) (c i) = (if 49 ≤ c i ∧ c i ≤ 57 then 0 else -6) := by rw [show stD 6 = 2 from rfl]; unfold stepF; rw [if_neg (by decide), if_neg (by decide), if_pos rfl]
    rw [es] at hF hT
    refine s_number ha ha60 (fun q => ?_) (fun q => hF (step_neg (by decide) q) z hfr)
    rw [if_pos (show 49 ≤ c i ∧ c i ≤ 57 from q)] at hT
    exact hT (by decide) 0 (a + 1) _ rfl (by decide) (PI.close hai hd hfr (Or.inr (Or.inr (Or.inr ⟨hL.1, hL.2, Or.inr (Or.inl ⟨h36, rfl, by rw [← hi]; exact q, by rw [← hi]⟩)⟩))) (by rw [len_L hL.1]; omega))
  · refine ⟨fun q => absurd q (by decide), fun _ => ⟨fun q => absurd q (by decide), fun _ => ⟨fun q => absurd q (by decide), fun _ => ⟨fun q => absurd q (by decide), fun _ => ⟨fun q => absurd q (by decide), fun _ => ⟨fun q => absurd q (by decide), fun _ => ⟨fun q => absurd q (by decide), fun _ => ⟨fun _ => ?_, fun q => absurd rfl q⟩⟩⟩⟩⟩⟩⟩⟩
    have es : stepF (stD 7) (c i) = (if 65 ≤ c i ∧ c i ≤ 70 then 0 else -6) := by rw [show stD 7 = 4 from rfl]; unfold stepF; rw [if_neg (by decide), if_neg (by decide), if_neg (by decide), if_neg (by decide), if_pos rfl]
    rw [es] at hF hT
    unfold wp_X2_readOn_L142
    rw [s2_isLetter, b01]
    refine ⟨fun q => hF (step_neg (by decide) q) z hfr, fun q => s_close ha ha60 ?_⟩
    rw [if_pos q] at hT
    exact hT (by decide) 0 (a + 1) _ rfl (by decide) (PI.close hai hd hfr (Or.inr (Or.inr (Or.inr ⟨hL.1, hL.2, Or.inr (Or.inr (Or.inl ⟨h36, rfl, by rw [← hi]; exact q, by rw [← hi]⟩))⟩))) (by rw [len_L hL.1]; omega))
  · refine ⟨fun q => absurd q (by decide), fun _ => ⟨fun q => absurd q (by decide), fun _ => ⟨fun q => absurd q (by decide), fun _ => ⟨fun q => absurd q (by decide), fun _ => ⟨fun q => absurd q (by decide), fun _ => ⟨fun q => absurd q (by decide), fun _ => ⟨fun q => absurd q (by decide), fun _ => ⟨fun q => absurd q (by decide), fun _ => ?_⟩⟩⟩⟩⟩⟩⟩⟩
    have es : stepF (stD 8) (c i) = (if 49 ≤ c i ∧ c i ≤ 57 then 0 else -6) := by rw [show stD 8 = 2 from rfl]; unfold stepF; rw [if_neg (by decide), if_neg (by decide), if_pos rfl]
    rw [es] at hF hT
    refine s_number ha ha60 (fun q => ?_) (fun q => hF (step_neg (by decide) q) z hfr)
    rw [if_pos (show 49 ≤ c i ∧ c i ≤ 57 from q)] at hT
    exact hT (by decide) 0 (a + 1) _ rfl (by decide) (PI.close hai hd hfr (Or.inr (Or.inr (Or.inr ⟨hL.1, hL.2, Or.inr (Or.inr (Or.inr ⟨h36, rfl, by rw [← hi]; exact q, by rw [← hi]⟩))⟩))) (by rw [len_L hL.1]; omega))
/-- the text ends behind its acts, told one by one -/
def Text (c : Nat → Int32) (n a : Nat) (z : V) : Prop := z 19 6 = nI a ∧ a ≤ n ∧ posA c a = n ∧ ∀ j, j < a → Dec c (posA c j) (z 9 j) (z 10 j) (z 11 j)
theorem stD_0 {d : Int32} (h0 : 0 ≤ d) (h : stD d = 0) : d = 0 := by
  unfold stD at h
  by_cases q : d = 0
  · exact q
  · rw [if_neg q] at h
    by_cases q1 : d = 1
    · rw [if_pos q1] at h; exact absurd h (by decide)
    · rw [if_neg q1] at h
      by_cases q3 : d = 3
      · rw [if_pos q3] at h; exact absurd h (by decide)
      · rw [if_neg q3] at h
        by_cases q5 : d = 5
        · rw [if_pos q5] at h; exact absurd h (by decide)
        · rw [if_neg q5] at h
          by_cases q7 : d = 7
          · rw [if_pos q7] at h; exact absurd h (by decide)
          · rw [if_neg q7] at h; exact absurd h (by decide)
theorem s2_faultL {c : Nat → Int32} {z0 : V} {g : VL} {n : Nat} {Post : Int32 → V → VL → Prop} (hn : n ≤ 60) (hz : z0 19 5 = nI n) (hc : ∀ k, k < 60 → z0 8 k = c k) : ∀ (k i a : Nat) (due : Int32) (z : V), i + k = n → 0 ≤ due → PI c a i due z0 z → (∀ z', FrP z0 z' → (faultG c n k (stD due) i = -6 → ∃ a, Text c n a z') → Post (faultG c n k (stD due) i) z' g) → wp_X2_fault_L9 Post (k + 1) due (nI i) z g := by
  intro k
  induction k with
  | zero =>
    intro i a due z he h0 hp h
    obtain rfl : i = n := he
    have h5 : z 19 5 = nI i := by rw [hp.2.2.2.2.2 5 (by decide)]; exact hz
    refine ⟨fun _ => ?_, fun q => absurd (by rw [h5]; exact nI_le (Nat.le_refl _) (by omega)) q⟩
    unfold wp_X2_fault_L54
    rw [h5]
    unfold faultG at h
    refine ⟨fun q => ?_, fun q => ?_⟩
    · have := h z hp.2.2.2.2 (fun _ => ⟨a, hp.1, hp.2.1, ?_, hp.2.2.1⟩)
      · subst q
        rw [if_pos (show stD 0 = 0 from rfl)] at this
        exact this
      · subst q
        rcases hp.2.2.2.1 with h | h | h | h | h | h | h | h | h
        · exact h.2.symm
        all_goals exact absurd h.1 (by decide)
    · have hs : ¬ stD due = 0 := fun w => q (stD_0 h0 w)
      rw [if_neg hs] at h
      exact h z hp.2.2.2.2 (fun w => absurd w (fun e => by
        have h1 : (nI i).toInt = (i : Int) := nI_toInt (by omega)
        rw [e] at h1
        have h2 : (-6 : Int32).toInt = -6 := by decide
        omega))
  | succ k ih =>
    intro i a due z he h0 hp h
    have h5 : z 19 5 = nI n := by rw [hp.2.2.2.2.2 5 (by decide)]; exact hz
    have hc8 : z 8 i = c i := by rw [hp.2.2.2.2.1 8 (by decide) (by decide) (by decide) (by decide)]; exact hc i (by omega)
    refine ⟨fun q => absurd (by rw [h5] at q; exact q) (nI_ge (a := i) (b := n) (by omega) (by omega)), fun _ => ⟨vp_in_nI (by omega) (by decide), ?_⟩⟩
    rw [nI_clamp (by omega), nI_1, hc8]
    unfold faultG at h
    refine s_readOn hp (by omega) (fun q z' hf => ⟨fun w => absurd w (by decide), fun _ => ?_⟩) (fun q due' a' z' e h0' hp' => ⟨fun _ => ?_, fun w => absurd h0' w⟩)
    · rw [if_neg q] at h
      exact h z' hf (fun w => absurd w (fun e => by
        have h1 : (nI i).toInt = (i : Int) := nI_toInt (by omega)
        rw [e] at h1
        have h2 : (-6 : Int32).toInt = -6 := by decide
        omega))
    · rw [if_pos q, e] at h
      exact ih (i + 1) a' due' z' (by omega) h0' hp' h
theorem s2_fault {c : Nat → Int32} {z : V} {g : VL} {n : Nat} {Post : Int32 → V → VL → Prop} (hn : n ≤ 60) (hz : z 19 5 = nI n) (hc : ∀ k, k < 60 → z 8 k = c k) (h : ∀ z', FrP z z' → (faultG c n n 0 0 = -6 → ∃ a, Text c n a z') → Post (faultG c n n 0 0) z' g) : wp_X2_fault z g Post := by
  have hf : FrP z (up2 z 19 6 0) := FrP.rf.up (by omega)
  have hfr : ∀ z', FrP (up2 z 19 6 0) z' → FrP z z' := fun z' q => ⟨fun r h1 h2 h3 h4 => (q.1 r h1 h2 h3 h4).trans (hf.1 r h1 h2 h3 h4), fun i hi => (q.2 i hi).trans (hf.2 i hi)⟩
  refine ⟨n + 1, s2_faultL (c := c) (z0 := up2 z 19 6 0) hn (by rw [up2_e, if_neg (by omega)]; exact hz) (fun k hk => by rw [up2_n _ _ _ _ (by decide)]; exact hc k hk) n 0 0 0 (up2 z 19 6 0) (by omega) (by decide) ⟨by rw [up2_s, if_pos rfl]; rfl, Nat.le_refl _, fun j hj => absurd hj (by omega), Or.inl ⟨rfl, rfl⟩, FrP.rf⟩ (fun z' q1 q2 => h z' (hfr z' q1) q2)⟩
