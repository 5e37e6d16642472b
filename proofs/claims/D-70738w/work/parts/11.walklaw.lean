abbrev mcW : Nat := 96
abbrev msW : Nat := 1698
set_option maxHeartbeats 4000000 in
set_option maxRecDepth 100000 in
theorem wk_L_law_L999 {p : Program} {l : Launch} {e : Env} {s : State} {m : MethodId} {below : List Frame} {meth : Method} {c : Code} {dC : Nat → ClassId} {dI : Nat → Nat → Nat} {ct : Nat → ClassId} {A : Nat → Prop} {b : Nat} {n0 : Nat} {sc : Nat → Int32} {aX : Nat → Nat} {a0 : Nat → Nat} {a1 : Nat → Nat} {a2 : Nat → Nat} {a3 : Nat → Nat} {aM : Nat → Nat} {Post : Int32 → Prop} {K18 : Int32 → V → VL → V → V → V → V → V → VL → Prop}  (X : CxW p s m #[Value.ref b] meth c cL_law 4 ret R_law dC dI ct A) (hD : ∀ (x : V) (y : VL) (v0 : V) (v1 : V) (v2 : V) (v3 : V) (z : V) (g : VL), va_D A (LWd aX a0 a1 a2 a3 aM ct x y v0 v1 v2 v3 z g)) (hX : va_X b n0 sc s s.heap) (hbl : b < s.heap.size) (hbA : ¬ A b) (hAs : ∀ q, A q → s.heap.size ≤ q) (hK18 : ∀ (i3 : Int32) (x : V) (y : VL) (v0 : V) (v1 : V) (v2 : V) (v3 : V) (z : V) (g : VL), K18 i3 x y v0 v1 v2 v3 z g → ∀ (H : Heap) (locs : List Loc) (ls : Array Slot), va_P (dC, dI) vwCl (LWd aX a0 a1 a2 a3 aM ct x y v0 v1 v2 v3 z g) H → va_S A s.heap H locs → lv_has ls 4 [(0, .ref b), (1, .ref (aX 0)), (2, .ref (aM 0)), (3, .int i3)] → W p l e room_1 s m #[Value.ref b] below meth c H locs mcW msW (lw_Z below #[Value.ref b] s) (F0 m 18 ls [])) (i3 : Int32) (x : V) (y : VL) (v0 : V) (v1 : V) (v2 : V) (v3 : V) (z : V) (g : VL) (w : wp_L_law_L999 n0 sc Post K18 i3 x y v0 v1 v2 v3 z g) : ∀ (H : Heap) (locs : List Loc) (ls : Array Slot), va_P (dC, dI) vwCl (LWd aX a0 a1 a2 a3 aM ct x y v0 v1 v2 v3 z g) H → va_S A s.heap H locs → lv_has ls 4 [(0, .ref b), (1, .ref (aX 0)), (2, .ref (aM 0)), (3, .int i3)] → W p l e room_1 s m #[Value.ref b] below meth c H locs mcW msW (lw_Z below #[Value.ref b] s) (F0 m 999 ls []) := by
  intro H locs ls hP hS hl
  have X0 := X
  obtain ⟨⟨hx, hb, hml, hr, hlk, hown, hts⟩, hA, hK, hN⟩ := X0
  unfold wp_L_law_L999 at w
  refine lv_iinc (v := (i3 + 6)) (lv' := [(3, .int (i3 + 6)), (0, .ref b), (1, .ref (aX 0)), (2, .ref (aM 0))]) hx hb dL_law_999 hl (k := 3) rfl rfl (by decide) rfl (fun ls hl => ?_)
  refine lv_goto (tgt := 18) hx hb dL_law_1002 (by decide) ?_
  exact hK18 _ _ _ _ _ _ _ _ _ w _ _ _ hP hS (lv_sub hl [1, 2, 3, 0] rfl)
set_option maxHeartbeats 4000000 in
set_option maxRecDepth 100000 in
theorem wk_L_law_S18 {p : Program} {l : Launch} {e : Env} {s : State} {m : MethodId} {below : List Frame} {meth : Method} {c : Code} {dC : Nat → ClassId} {dI : Nat → Nat → Nat} {ct : Nat → ClassId} {A : Nat → Prop} {b : Nat} {n0 : Nat} {sc : Nat → Int32} {aX : Nat → Nat} {a0 : Nat → Nat} {a1 : Nat → Nat} {a2 : Nat → Nat} {a3 : Nat → Nat} {aM : Nat → Nat} {Post : Int32 → Prop} {K18 : Int32 → V → VL → V → V → V → V → V → VL → Prop}  (X : CxW p s m #[Value.ref b] meth c cL_law 4 ret R_law dC dI ct A) (hD : ∀ (x : V) (y : VL) (v0 : V) (v1 : V) (v2 : V) (v3 : V) (z : V) (g : VL), va_D A (LWd aX a0 a1 a2 a3 aM ct x y v0 v1 v2 v3 z g)) (hX : va_X b n0 sc s s.heap) (hbl : b < s.heap.size) (hbA : ¬ A b) (hAs : ∀ q, A q → s.heap.size ≤ q) (hK18 : ∀ (i3 : Int32) (x : V) (y : VL) (v0 : V) (v1 : V) (v2 : V) (v3 : V) (z : V) (g : VL), K18 i3 x y v0 v1 v2 v3 z g → ∀ (H : Heap) (locs : List Loc) (ls : Array Slot), va_P (dC, dI) vwCl (LWd aX a0 a1 a2 a3 aM ct x y v0 v1 v2 v3 z g) H → va_S A s.heap H locs → lv_has ls 4 [(0, .ref b), (1, .ref (aX 0)), (2, .ref (aM 0)), (3, .int i3)] → W p l e room_1 s m #[Value.ref b] below meth c H locs mcW msW (lw_Z below #[Value.ref b] s) (F0 m 18 ls [])) (i3 : Int32) (x : V) (y : VL) (v0 : V) (v1 : V) (v2 : V) (v3 : V) (z : V) (g : VL) (w : wp_L_law_S18 n0 sc Post K18 i3 x y v0 v1 v2 v3 z g) : ∀ (H : Heap) (locs : List Loc) (ls : Array Slot), va_P (dC, dI) vwCl (LWd aX a0 a1 a2 a3 aM ct x y v0 v1 v2 v3 z g) H → va_S A s.heap H locs → lv_has ls 4 [(0, .ref b), (1, .ref (aX 0)), (2, .ref (aM 0)), (3, .int i3)] → W p l e room_1 s m #[Value.ref b] below meth c H locs mcW msW (lw_Z below #[Value.ref b] s) (F0 m 18 ls []) := by
  intro H locs ls hP hS hl
  have X0 := X
  obtain ⟨⟨hx, hb, hml, hr, hlk, hown, hts⟩, hA, hK, hN⟩ := X0
  unfold wp_L_law_S18 at w
  refine lv_iload_n hx hb dL_law_18 rfl (lv_at hl 3 rfl) ?_
  refine lv_aload_n hx hb dL_law_19 rfl (lv_at hl 0 rfl) ?_
  refine va_slen hx hb hX hbl hbA hS dL_law_20 ?_
  refine lv_bipush (v := 6) hx hb dL_law_21 (by decide) ?_
  refine lv_isub hx hb dL_law_23 ?_
  refine lv_icmp_gt (tgt := 1005) hx hb dL_law_24 (by decide) (fun c => ?_) (fun c => ?_)
  · have w := And.left w c
    refine lv_iconst (v := 1) hx hb dL_law_1005 (by decide) ?_
    exact va_forget (fun q h => hAs _ (hS.2.2 q h)) (W.widen (Nat.le_of_ble_eq_true rfl) (Nat.le_of_ble_eq_true rfl) (lw_ret hx hb hr hlk dL_law_1006))
  · have w := And.right w c
    refine lv_aload_n hx hb dL_law_27 rfl (lv_at hl 0 rfl) ?_
    refine lv_iload_n hx hb dL_law_28 rfl (lv_at hl 3 rfl) ?_
    obtain ⟨gi, w⟩ := w
    refine va_sld hx hb hX hbl hbA hS gi dL_law_29 ?_
    refine lv_bipush (v := 31) hx hb dL_law_30 (by decide) ?_
    refine lv_iand hx hb dL_law_32 ?_
    by_cases c1_0 : ((sc i3.toNatClampNeg) &&& (31 : Int32)) = 0
    · have w := And.left w c1_0
      refine lv_tableIn (tgt := 156) hx hb dL_law_33 (by rw [c1_0]; decide) (by rw [c1_0]; decide) (by rw [c1_0]; rfl) (by decide) ?_
      refine lv_aload_n hx hb dL_law_156 rfl (lv_at hl 1 rfl) ?_
      refine lv_aload_n hx hb dL_law_157 rfl (lv_at hl 0 rfl) ?_
      refine lv_iload_n hx hb dL_law_158 rfl (lv_at hl 3 rfl) ?_
      refine lv_iconst (v := 1) hx hb dL_law_159 (by decide) ?_
      refine lv_iadd hx hb dL_law_160 ?_
      obtain ⟨gi, w⟩ := w
      refine va_sld hx hb hX hbl hbA hS gi dL_law_161 ?_
      refine lv_aload_n hx hb dL_law_162 rfl (lv_at hl 0 rfl) ?_
      refine lv_iload_n hx hb dL_law_163 rfl (lv_at hl 3 rfl) ?_
      refine lv_iconst (v := 2) hx hb dL_law_164 (by decide) ?_
      refine lv_iadd hx hb dL_law_165 ?_
      obtain ⟨gi, w⟩ := w
      refine va_sld hx hb hX hbl hbA hS gi dL_law_166 ?_
      refine lv_aload_n hx hb dL_law_167 rfl (lv_at hl 0 rfl) ?_
      refine lv_iload_n hx hb dL_law_168 rfl (lv_at hl 3 rfl) ?_
      refine lv_iconst (v := 3) hx hb dL_law_169 (by decide) ?_
      refine lv_iadd hx hb dL_law_170 ?_
      obtain ⟨gi, w⟩ := w
      refine va_sld hx hb hX hbl hbA hS gi dL_law_171 ?_
      have hPc := W_X_g hP
      have hDc := W_X_d (hD x y v0 v1 v2 v3 z g)
      refine va_calli (va_runV (As := [.int (sc (i3 + (1 : Int32)).toNatClampNeg), .int (sc (i3 + (2 : Int32)).toNatClampNeg), .int (sc (i3 + (3 : Int32)).toNatClampNeg)]) (rest := []) ⟨hx, hb, hml, hown, hts⟩ (met_X0_one l dC dI ct aX a0 a1 a2 a3 _ w) (cwV 3 hts (lw_V q173 q174 q175 q48 q176) rfl rfl rfl hd_X0_one ⟨Nat.le_of_ble_eq_true rfl, Nat.le_of_ble_eq_true rfl⟩) (pre_V hK hPc hDc hN (va_recv hK hPc (ci := 0) (q0 := 0) rfl rfl)) rfl rfl hl.1 rfl (lv_room (Nat.le_of_ble_eq_true rfl)) dL_law_172 ⟨Nat.le_of_ble_eq_true rfl, Nat.le_of_ble_eq_true rfl⟩) hS (fun q _ h => x_free hDc hS hA q h) (x_free hDc hS hA) (fun r2 u t H locs ht hvm w hB hz hk hS => ?_)
      obtain ⟨x_2, y_2, v0_2, v1_2, v2_2, v3_2⟩ := u
      dsimp only at w
      have hP := W_X_j hP (hD _ _ _ _ _ _ _ _) hk (post_P hB ht)
      have hP : va_P (dC, dI) vwCl (LWd aX a0 a1 a2 a3 aM ct x_2 y_2 v0_2 v1_2 v2_2 v3_2 z g) H := hP
      refine lv_aload_n hx hb dL_law_175 rfl (lv_at hl 2 rfl) ?_
      refine lv_aload_n hx hb dL_law_176 rfl (lv_at hl 0 rfl) ?_
      refine lv_iload_n hx hb dL_law_177 rfl (lv_at hl 3 rfl) ?_
      refine lv_iconst (v := 1) hx hb dL_law_178 (by decide) ?_
      refine lv_iadd hx hb dL_law_179 ?_
      obtain ⟨gi, w⟩ := w
      refine va_sld hx hb hX hbl hbA hS gi dL_law_180 ?_
      refine lv_aload_n hx hb dL_law_181 rfl (lv_at hl 0 rfl) ?_
      refine lv_iload_n hx hb dL_law_182 rfl (lv_at hl 3 rfl) ?_
      refine lv_iconst (v := 2) hx hb dL_law_183 (by decide) ?_
      refine lv_iadd hx hb dL_law_184 ?_
      obtain ⟨gi, w⟩ := w
      refine va_sld hx hb hX hbl hbA hS gi dL_law_185 ?_
      refine lv_aload_n hx hb dL_law_186 rfl (lv_at hl 0 rfl) ?_
      refine lv_iload_n hx hb dL_law_187 rfl (lv_at hl 3 rfl) ?_
      refine lv_iconst (v := 3) hx hb dL_law_188 (by decide) ?_
      refine lv_iadd hx hb dL_law_189 ?_
      obtain ⟨gi, w⟩ := w
      refine va_sld hx hb hX hbl hbA hS gi dL_law_190 ?_
      have hPc := W_M_g hP
      have hDc := W_M_d (hD x_2 y_2 v0_2 v1_2 v2_2 v3_2 z g)
      refine va_calli (va_runV (As := [.int (sc (i3 + (1 : Int32)).toNatClampNeg), .int (sc (i3 + (2 : Int32)).toNatClampNeg), .int (sc (i3 + (3 : Int32)).toNatClampNeg)]) (rest := [.int r2]) ⟨hx, hb, hml, hown, hts⟩ (met_X2_one l dC dI ct aM _ w) (cwV 3 hts (lw_V q562 q563 q564 q51 q565) rfl rfl rfl hd_X2_one ⟨Nat.le_of_ble_eq_true rfl, Nat.le_of_ble_eq_true rfl⟩) (pre_V hK hPc hDc hN (va_recv hK hPc (ci := 2) (q0 := 0) rfl rfl)) rfl rfl hl.1 rfl (lv_room (Nat.le_of_ble_eq_true rfl)) dL_law_191 ⟨Nat.le_of_ble_eq_true rfl, Nat.le_of_ble_eq_true rfl⟩) hS (fun q _ h => x_free hDc hS hA q h) (x_free hDc hS hA) (fun r3 u t H locs ht hvm w hB hz hk hS => ?_)
      obtain ⟨z_3, g_3⟩ := u
      dsimp only at w
      have hP := W_M_j hP (hD _ _ _ _ _ _ _ _) hk (post_P hB ht)
      have hP : va_P (dC, dI) vwCl (LWd aX a0 a1 a2 a3 aM ct x_2 y_2 v0_2 v1_2 v2_2 v3_2 z_3 g_3) H := hP
      refine lv_icmp_eq (tgt := 999) hx hb dL_law_194 (by decide) (fun c => ?_) (fun c => ?_)
      · have w := And.left w c
        exact wk_L_law_L999 X hD hX hbl hbA hAs hK18 _ _ _ _ _ _ _ _ _ w _ _ _ hP hS (lv_sub hl [0, 1, 2, 3] rfl)
      · have w := And.right w c
        refine lv_iconst (v := 0) hx hb dL_law_197 (by decide) ?_
        exact False.elim w
    have w := And.right w c1_0
    by_cases c1_1 : ((sc i3.toNatClampNeg) &&& (31 : Int32)) = 1
    · have w := And.left w c1_1
      refine lv_tableIn (tgt := 199) hx hb dL_law_33 (by rw [c1_1]; decide) (by rw [c1_1]; decide) (by rw [c1_1]; rfl) (by decide) ?_
      refine lv_aload_n hx hb dL_law_199 rfl (lv_at hl 1 rfl) ?_
      refine lv_aload_n hx hb dL_law_200 rfl (lv_at hl 0 rfl) ?_
      refine lv_iload_n hx hb dL_law_201 rfl (lv_at hl 3 rfl) ?_
      refine lv_iconst (v := 1) hx hb dL_law_202 (by decide) ?_
      refine lv_iadd hx hb dL_law_203 ?_
      obtain ⟨gi, w⟩ := w
      refine va_sld hx hb hX hbl hbA hS gi dL_law_204 ?_
      refine lv_aload_n hx hb dL_law_205 rfl (lv_at hl 0 rfl) ?_
      refine lv_iload_n hx hb dL_law_206 rfl (lv_at hl 3 rfl) ?_
      refine lv_iconst (v := 2) hx hb dL_law_207 (by decide) ?_
      refine lv_iadd hx hb dL_law_208 ?_
      obtain ⟨gi, w⟩ := w
      refine va_sld hx hb hX hbl hbA hS gi dL_law_209 ?_
      refine lv_aload_n hx hb dL_law_210 rfl (lv_at hl 0 rfl) ?_
      refine lv_iload_n hx hb dL_law_211 rfl (lv_at hl 3 rfl) ?_
      refine lv_iconst (v := 3) hx hb dL_law_212 (by decide) ?_
      refine lv_iadd hx hb dL_law_213 ?_
      obtain ⟨gi, w⟩ := w
      refine va_sld hx hb hX hbl hbA hS gi dL_law_214 ?_
      have hPc := W_X_g hP
      have hDc := W_X_d (hD x y v0 v1 v2 v3 z g)
      refine va_calli (va_runV (As := [.int (sc (i3 + (1 : Int32)).toNatClampNeg), .int (sc (i3 + (2 : Int32)).toNatClampNeg), .int (sc (i3 + (3 : Int32)).toNatClampNeg)]) (rest := []) ⟨hx, hb, hml, hown, hts⟩ (met_X0_owe l dC dI ct aX a0 a1 a2 a3 _ w) (cwV 3 hts (lw_V q183 q184 q185 q48 q186) rfl rfl rfl hd_X0_owe ⟨Nat.le_of_ble_eq_true rfl, Nat.le_of_ble_eq_true rfl⟩) (pre_V hK hPc hDc hN (va_recv hK hPc (ci := 0) (q0 := 0) rfl rfl)) rfl rfl hl.1 rfl (lv_room (Nat.le_of_ble_eq_true rfl)) dL_law_215 ⟨Nat.le_of_ble_eq_true rfl, Nat.le_of_ble_eq_true rfl⟩) hS (fun q _ h => x_free hDc hS hA q h) (x_free hDc hS hA) (fun r4 u t H locs ht hvm w hB hz hk hS => ?_)
      obtain ⟨x_4, y_4, v0_4, v1_4, v2_4, v3_4⟩ := u
      dsimp only at w
      have hP := W_X_j hP (hD _ _ _ _ _ _ _ _) hk (post_P hB ht)
      have hP : va_P (dC, dI) vwCl (LWd aX a0 a1 a2 a3 aM ct x_4 y_4 v0_4 v1_4 v2_4 v3_4 z g) H := hP
      refine lv_aload_n hx hb dL_law_218 rfl (lv_at hl 2 rfl) ?_
      refine lv_aload_n hx hb dL_law_219 rfl (lv_at hl 0 rfl) ?_
      refine lv_iload_n hx hb dL_law_220 rfl (lv_at hl 3 rfl) ?_
      refine lv_iconst (v := 1) hx hb dL_law_221 (by decide) ?_
      refine lv_iadd hx hb dL_law_222 ?_
      obtain ⟨gi, w⟩ := w
      refine va_sld hx hb hX hbl hbA hS gi dL_law_223 ?_
      refine lv_aload_n hx hb dL_law_224 rfl (lv_at hl 0 rfl) ?_
      refine lv_iload_n hx hb dL_law_225 rfl (lv_at hl 3 rfl) ?_
      refine lv_iconst (v := 2) hx hb dL_law_226 (by decide) ?_
      refine lv_iadd hx hb dL_law_227 ?_
      obtain ⟨gi, w⟩ := w
      refine va_sld hx hb hX hbl hbA hS gi dL_law_228 ?_
      refine lv_aload_n hx hb dL_law_229 rfl (lv_at hl 0 rfl) ?_
      refine lv_iload_n hx hb dL_law_230 rfl (lv_at hl 3 rfl) ?_
      refine lv_iconst (v := 3) hx hb dL_law_231 (by decide) ?_
      refine lv_iadd hx hb dL_law_232 ?_
      obtain ⟨gi, w⟩ := w
      refine va_sld hx hb hX hbl hbA hS gi dL_law_233 ?_
      have hPc := W_M_g hP
      have hDc := W_M_d (hD x_4 y_4 v0_4 v1_4 v2_4 v3_4 z g)
      refine va_calli (va_runV (As := [.int (sc (i3 + (1 : Int32)).toNatClampNeg), .int (sc (i3 + (2 : Int32)).toNatClampNeg), .int (sc (i3 + (3 : Int32)).toNatClampNeg)]) (rest := [.int r4]) ⟨hx, hb, hml, hown, hts⟩ (met_X2_owe l dC dI ct aM _ w) (cwV 3 hts (lw_V q574 q575 q576 q51 q577) rfl rfl rfl hd_X2_owe ⟨Nat.le_of_ble_eq_true rfl, Nat.le_of_ble_eq_true rfl⟩) (pre_V hK hPc hDc hN (va_recv hK hPc (ci := 2) (q0 := 0) rfl rfl)) rfl rfl hl.1 rfl (lv_room (Nat.le_of_ble_eq_true rfl)) dL_law_234 ⟨Nat.le_of_ble_eq_true rfl, Nat.le_of_ble_eq_true rfl⟩) hS (fun q _ h => x_free hDc hS hA q h) (x_free hDc hS hA) (fun r5 u t H locs ht hvm w hB hz hk hS => ?_)
      obtain ⟨z_5, g_5⟩ := u
      dsimp only at w
      have hP := W_M_j hP (hD _ _ _ _ _ _ _ _) hk (post_P hB ht)
      have hP : va_P (dC, dI) vwCl (LWd aX a0 a1 a2 a3 aM ct x_4 y_4 v0_4 v1_4 v2_4 v3_4 z_5 g_5) H := hP
      refine lv_icmp_eq (tgt := 999) hx hb dL_law_237 (by decide) (fun c => ?_) (fun c => ?_)
      · have w := And.left w c
        exact wk_L_law_L999 X hD hX hbl hbA hAs hK18 _ _ _ _ _ _ _ _ _ w _ _ _ hP hS (lv_sub hl [0, 1, 2, 3] rfl)
      · have w := And.right w c
        refine lv_iconst (v := 0) hx hb dL_law_240 (by decide) ?_
        exact False.elim w
    have w := And.right w c1_1
    by_cases c1_2 : ((sc i3.toNatClampNeg) &&& (31 : Int32)) = 2
    · have w := And.left w c1_2
      refine lv_tableIn (tgt := 242) hx hb dL_law_33 (by rw [c1_2]; decide) (by rw [c1_2]; decide) (by rw [c1_2]; rfl) (by decide) ?_
      refine lv_aload_n hx hb dL_law_242 rfl (lv_at hl 1 rfl) ?_
      refine lv_aload_n hx hb dL_law_243 rfl (lv_at hl 0 rfl) ?_
      refine lv_iload_n hx hb dL_law_244 rfl (lv_at hl 3 rfl) ?_
      refine lv_iconst (v := 1) hx hb dL_law_245 (by decide) ?_
      refine lv_iadd hx hb dL_law_246 ?_
      obtain ⟨gi, w⟩ := w
      refine va_sld hx hb hX hbl hbA hS gi dL_law_247 ?_
      refine lv_aload_n hx hb dL_law_248 rfl (lv_at hl 0 rfl) ?_
      refine lv_iload_n hx hb dL_law_249 rfl (lv_at hl 3 rfl) ?_
      refine lv_iconst (v := 2) hx hb dL_law_250 (by decide) ?_
      refine lv_iadd hx hb dL_law_251 ?_
      obtain ⟨gi, w⟩ := w
      refine va_sld hx hb hX hbl hbA hS gi dL_law_252 ?_
      refine lv_aload_n hx hb dL_law_253 rfl (lv_at hl 0 rfl) ?_
      refine lv_iload_n hx hb dL_law_254 rfl (lv_at hl 3 rfl) ?_
      refine lv_iconst (v := 3) hx hb dL_law_255 (by decide) ?_
      refine lv_iadd hx hb dL_law_256 ?_
      obtain ⟨gi, w⟩ := w
      refine va_sld hx hb hX hbl hbA hS gi dL_law_257 ?_
      have hPc := W_X_g hP
      have hDc := W_X_d (hD x y v0 v1 v2 v3 z g)
      refine va_calli (va_runV (As := [.int (sc (i3 + (1 : Int32)).toNatClampNeg), .int (sc (i3 + (2 : Int32)).toNatClampNeg), .int (sc (i3 + (3 : Int32)).toNatClampNeg)]) (rest := []) ⟨hx, hb, hml, hown, hts⟩ (met_X0_lot l dC dI ct aX a0 a1 a2 a3 _ w) (cwV 3 hts (lw_V q190 q191 q192 q48 q193) rfl rfl rfl hd_X0_lot ⟨Nat.le_of_ble_eq_true rfl, Nat.le_of_ble_eq_true rfl⟩) (pre_V hK hPc hDc hN (va_recv hK hPc (ci := 0) (q0 := 0) rfl rfl)) rfl rfl hl.1 rfl (lv_room (Nat.le_of_ble_eq_true rfl)) dL_law_258 ⟨Nat.le_of_ble_eq_true rfl, Nat.le_of_ble_eq_true rfl⟩) hS (fun q _ h => x_free hDc hS hA q h) (x_free hDc hS hA) (fun r6 u t H locs ht hvm w hB hz hk hS => ?_)
      obtain ⟨x_6, y_6, v0_6, v1_6, v2_6, v3_6⟩ := u
      dsimp only at w
      have hP := W_X_j hP (hD _ _ _ _ _ _ _ _) hk (post_P hB ht)
      have hP : va_P (dC, dI) vwCl (LWd aX a0 a1 a2 a3 aM ct x_6 y_6 v0_6 v1_6 v2_6 v3_6 z g) H := hP
      refine lv_aload_n hx hb dL_law_261 rfl (lv_at hl 2 rfl) ?_
      refine lv_aload_n hx hb dL_law_262 rfl (lv_at hl 0 rfl) ?_
      refine lv_iload_n hx hb dL_law_263 rfl (lv_at hl 3 rfl) ?_
      refine lv_iconst (v := 1) hx hb dL_law_264 (by decide) ?_
      refine lv_iadd hx hb dL_law_265 ?_
      obtain ⟨gi, w⟩ := w
      refine va_sld hx hb hX hbl hbA hS gi dL_law_266 ?_
      refine lv_aload_n hx hb dL_law_267 rfl (lv_at hl 0 rfl) ?_
      refine lv_iload_n hx hb dL_law_268 rfl (lv_at hl 3 rfl) ?_
      refine lv_iconst (v := 2) hx hb dL_law_269 (by decide) ?_
      refine lv_iadd hx hb dL_law_270 ?_
      obtain ⟨gi, w⟩ := w
      refine va_sld hx hb hX hbl hbA hS gi dL_law_271 ?_
      refine lv_aload_n hx hb dL_law_272 rfl (lv_at hl 0 rfl) ?_
      refine lv_iload_n hx hb dL_law_273 rfl (lv_at hl 3 rfl) ?_
      refine lv_iconst (v := 3) hx hb dL_law_274 (by decide) ?_
      refine lv_iadd hx hb dL_law_275 ?_
      obtain ⟨gi, w⟩ := w
      refine va_sld hx hb hX hbl hbA hS gi dL_law_276 ?_
      have hPc := W_M_g hP
      have hDc := W_M_d (hD x_6 y_6 v0_6 v1_6 v2_6 v3_6 z g)
      refine va_calli (va_runV (As := [.int (sc (i3 + (1 : Int32)).toNatClampNeg), .int (sc (i3 + (2 : Int32)).toNatClampNeg), .int (sc (i3 + (3 : Int32)).toNatClampNeg)]) (rest := [.int r6]) ⟨hx, hb, hml, hown, hts⟩ (met_X2_lot l dC dI ct aM _ w) (cwV 3 hts (lw_V q579 q580 q581 q51 q582) rfl rfl rfl hd_X2_lot ⟨Nat.le_of_ble_eq_true rfl, Nat.le_of_ble_eq_true rfl⟩) (pre_V hK hPc hDc hN (va_recv hK hPc (ci := 2) (q0 := 0) rfl rfl)) rfl rfl hl.1 rfl (lv_room (Nat.le_of_ble_eq_true rfl)) dL_law_277 ⟨Nat.le_of_ble_eq_true rfl, Nat.le_of_ble_eq_true rfl⟩) hS (fun q _ h => x_free hDc hS hA q h) (x_free hDc hS hA) (fun r7 u t H locs ht hvm w hB hz hk hS => ?_)
      obtain ⟨z_7, g_7⟩ := u
      dsimp only at w
      have hP := W_M_j hP (hD _ _ _ _ _ _ _ _) hk (post_P hB ht)
      have hP : va_P (dC, dI) vwCl (LWd aX a0 a1 a2 a3 aM ct x_6 y_6 v0_6 v1_6 v2_6 v3_6 z_7 g_7) H := hP
      refine lv_icmp_eq (tgt := 999) hx hb dL_law_280 (by decide) (fun c => ?_) (fun c => ?_)
      · have w := And.left w c
        exact wk_L_law_L999 X hD hX hbl hbA hAs hK18 _ _ _ _ _ _ _ _ _ w _ _ _ hP hS (lv_sub hl [0, 1, 2, 3] rfl)
      · have w := And.right w c
        refine lv_iconst (v := 0) hx hb dL_law_283 (by decide) ?_
        exact False.elim w
    have w := And.right w c1_2
    by_cases c1_3 : ((sc i3.toNatClampNeg) &&& (31 : Int32)) = 3
    · have w := And.left w c1_3
      refine lv_tableIn (tgt := 285) hx hb dL_law_33 (by rw [c1_3]; decide) (by rw [c1_3]; decide) (by rw [c1_3]; rfl) (by decide) ?_
      refine lv_aload_n hx hb dL_law_285 rfl (lv_at hl 1 rfl) ?_
      refine lv_aload_n hx hb dL_law_286 rfl (lv_at hl 0 rfl) ?_
      refine lv_iload_n hx hb dL_law_287 rfl (lv_at hl 3 rfl) ?_
      refine lv_iconst (v := 1) hx hb dL_law_288 (by decide) ?_
      refine lv_iadd hx hb dL_law_289 ?_
      obtain ⟨gi, w⟩ := w
      refine va_sld hx hb hX hbl hbA hS gi dL_law_290 ?_
      refine lv_aload_n hx hb dL_law_291 rfl (lv_at hl 0 rfl) ?_
      refine lv_iload_n hx hb dL_law_292 rfl (lv_at hl 3 rfl) ?_
      refine lv_iconst (v := 2) hx hb dL_law_293 (by decide) ?_
      refine lv_iadd hx hb dL_law_294 ?_
      obtain ⟨gi, w⟩ := w
      refine va_sld hx hb hX hbl hbA hS gi dL_law_295 ?_
      have hPc := W_X_g hP
      have hDc := W_X_d (hD x y v0 v1 v2 v3 z g)
      refine va_calli (va_runV (As := [.int (sc (i3 + (1 : Int32)).toNatClampNeg), .int (sc (i3 + (2 : Int32)).toNatClampNeg)]) (rest := []) ⟨hx, hb, hml, hown, hts⟩ (met_X0_set l dC dI ct aX a0 a1 a2 a3 _ w) (cwV 2 hts (lw_V q197 q198 q199 q48 q200) rfl rfl rfl hd_X0_set ⟨Nat.le_of_ble_eq_true rfl, Nat.le_of_ble_eq_true rfl⟩) (pre_V hK hPc hDc hN (va_recv hK hPc (ci := 0) (q0 := 0) rfl rfl)) rfl rfl hl.1 rfl (lv_room (Nat.le_of_ble_eq_true rfl)) dL_law_296 ⟨Nat.le_of_ble_eq_true rfl, Nat.le_of_ble_eq_true rfl⟩) hS (fun q _ h => x_free hDc hS hA q h) (x_free hDc hS hA) (fun r8 u t H locs ht hvm w hB hz hk hS => ?_)
      obtain ⟨x_8, y_8, v0_8, v1_8, v2_8, v3_8⟩ := u
      dsimp only at w
      have hP := W_X_j hP (hD _ _ _ _ _ _ _ _) hk (post_P hB ht)
      have hP : va_P (dC, dI) vwCl (LWd aX a0 a1 a2 a3 aM ct x_8 y_8 v0_8 v1_8 v2_8 v3_8 z g) H := hP
      refine lv_aload_n hx hb dL_law_299 rfl (lv_at hl 2 rfl) ?_
      refine lv_aload_n hx hb dL_law_300 rfl (lv_at hl 0 rfl) ?_
      refine lv_iload_n hx hb dL_law_301 rfl (lv_at hl 3 rfl) ?_
      refine lv_iconst (v := 1) hx hb dL_law_302 (by decide) ?_
      refine lv_iadd hx hb dL_law_303 ?_
      obtain ⟨gi, w⟩ := w
      refine va_sld hx hb hX hbl hbA hS gi dL_law_304 ?_
      refine lv_aload_n hx hb dL_law_305 rfl (lv_at hl 0 rfl) ?_
      refine lv_iload_n hx hb dL_law_306 rfl (lv_at hl 3 rfl) ?_
      refine lv_iconst (v := 2) hx hb dL_law_307 (by decide) ?_
      refine lv_iadd hx hb dL_law_308 ?_
      obtain ⟨gi, w⟩ := w
      refine va_sld hx hb hX hbl hbA hS gi dL_law_309 ?_
      have hPc := W_M_g hP
      have hDc := W_M_d (hD x_8 y_8 v0_8 v1_8 v2_8 v3_8 z g)
      refine va_calli (va_runV (As := [.int (sc (i3 + (1 : Int32)).toNatClampNeg), .int (sc (i3 + (2 : Int32)).toNatClampNeg)]) (rest := [.int r8]) ⟨hx, hb, hml, hown, hts⟩ (met_X2_set l dC dI ct aM _ w) (cwV 2 hts (lw_V q585 q586 q587 q51 q588) rfl rfl rfl hd_X2_set ⟨Nat.le_of_ble_eq_true rfl, Nat.le_of_ble_eq_true rfl⟩) (pre_V hK hPc hDc hN (va_recv hK hPc (ci := 2) (q0 := 0) rfl rfl)) rfl rfl hl.1 rfl (lv_room (Nat.le_of_ble_eq_true rfl)) dL_law_310 ⟨Nat.le_of_ble_eq_true rfl, Nat.le_of_ble_eq_true rfl⟩) hS (fun q _ h => x_free hDc hS hA q h) (x_free hDc hS hA) (fun r9 u t H locs ht hvm w hB hz hk hS => ?_)
      obtain ⟨z_9, g_9⟩ := u
      dsimp only at w
      have hP := W_M_j hP (hD _ _ _ _ _ _ _ _) hk (post_P hB ht)
      have hP : va_P (dC, dI) vwCl (LWd aX a0 a1 a2 a3 aM ct x_8 y_8 v0_8 v1_8 v2_8 v3_8 z_9 g_9) H := hP
      refine lv_icmp_eq (tgt := 999) hx hb dL_law_313 (by decide) (fun c => ?_) (fun c => ?_)
      · have w := And.left w c
        exact wk_L_law_L999 X hD hX hbl hbA hAs hK18 _ _ _ _ _ _ _ _ _ w _ _ _ hP hS (lv_sub hl [0, 1, 2, 3] rfl)
      · have w := And.right w c
        refine lv_iconst (v := 0) hx hb dL_law_316 (by decide) ?_
        exact False.elim w
    have w := And.right w c1_3
    by_cases c1_4 : ((sc i3.toNatClampNeg) &&& (31 : Int32)) = 4
    · have w := And.left w c1_4
      refine lv_tableIn (tgt := 318) hx hb dL_law_33 (by rw [c1_4]; decide) (by rw [c1_4]; decide) (by rw [c1_4]; rfl) (by decide) ?_
      refine lv_aload_n hx hb dL_law_318 rfl (lv_at hl 1 rfl) ?_
      refine lv_aload_n hx hb dL_law_319 rfl (lv_at hl 0 rfl) ?_
      refine lv_iload_n hx hb dL_law_320 rfl (lv_at hl 3 rfl) ?_
      refine lv_iconst (v := 1) hx hb dL_law_321 (by decide) ?_
      refine lv_iadd hx hb dL_law_322 ?_
      obtain ⟨gi, w⟩ := w
      refine va_sld hx hb hX hbl hbA hS gi dL_law_323 ?_
      have hPc := W_X_g hP
      have hDc := W_X_d (hD x y v0 v1 v2 v3 z g)
      refine va_calli (va_runV (As := [.int (sc (i3 + (1 : Int32)).toNatClampNeg)]) (rest := []) ⟨hx, hb, hml, hown, hts⟩ (met_X0_say l dC dI ct aX a0 a1 a2 a3 _ w) (cwV 1 hts (lw_V q202 q203 q204 q48 q205) rfl rfl rfl hd_X0_say ⟨Nat.le_of_ble_eq_true rfl, Nat.le_of_ble_eq_true rfl⟩) (pre_V hK hPc hDc hN (va_recv hK hPc (ci := 0) (q0 := 0) rfl rfl)) rfl rfl hl.1 rfl (lv_room (Nat.le_of_ble_eq_true rfl)) dL_law_324 ⟨Nat.le_of_ble_eq_true rfl, Nat.le_of_ble_eq_true rfl⟩) hS (fun q _ h => x_free hDc hS hA q h) (x_free hDc hS hA) (fun r10 u t H locs ht hvm w hB hz hk hS => ?_)
      obtain ⟨x_10, y_10, v0_10, v1_10, v2_10, v3_10⟩ := u
      dsimp only at w
      have hP := W_X_j hP (hD _ _ _ _ _ _ _ _) hk (post_P hB ht)
      have hP : va_P (dC, dI) vwCl (LWd aX a0 a1 a2 a3 aM ct x_10 y_10 v0_10 v1_10 v2_10 v3_10 z g) H := hP
      refine lv_aload_n hx hb dL_law_327 rfl (lv_at hl 2 rfl) ?_
      refine lv_aload_n hx hb dL_law_328 rfl (lv_at hl 0 rfl) ?_
      refine lv_iload_n hx hb dL_law_329 rfl (lv_at hl 3 rfl) ?_
      refine lv_iconst (v := 1) hx hb dL_law_330 (by decide) ?_
      refine lv_iadd hx hb dL_law_331 ?_
      obtain ⟨gi, w⟩ := w
      refine va_sld hx hb hX hbl hbA hS gi dL_law_332 ?_
      have hPc := W_M_g hP
      have hDc := W_M_d (hD x_10 y_10 v0_10 v1_10 v2_10 v3_10 z g)
      refine va_calli (va_runV (As := [.int (sc (i3 + (1 : Int32)).toNatClampNeg)]) (rest := [.int r10]) ⟨hx, hb, hml, hown, hts⟩ (met_X2_say l dC dI ct aM _ w) (cwV 1 hts (lw_V q590 q591 q592 q51 q593) rfl rfl rfl hd_X2_say ⟨Nat.le_of_ble_eq_true rfl, Nat.le_of_ble_eq_true rfl⟩) (pre_V hK hPc hDc hN (va_recv hK hPc (ci := 2) (q0 := 0) rfl rfl)) rfl rfl hl.1 rfl (lv_room (Nat.le_of_ble_eq_true rfl)) dL_law_333 ⟨Nat.le_of_ble_eq_true rfl, Nat.le_of_ble_eq_true rfl⟩) hS (fun q _ h => x_free hDc hS hA q h) (x_free hDc hS hA) (fun r11 u t H locs ht hvm w hB hz hk hS => ?_)
      obtain ⟨z_11, g_11⟩ := u
      dsimp only at w
      have hP := W_M_j hP (hD _ _ _ _ _ _ _ _) hk (post_P hB ht)
      have hP : va_P (dC, dI) vwCl (LWd aX a0 a1 a2 a3 aM ct x_10 y_10 v0_10 v1_10 v2_10 v3_10 z_11 g_11) H := hP
      refine lv_icmp_eq (tgt := 999) hx hb dL_law_336 (by decide) (fun c => ?_) (fun c => ?_)
      · have w := And.left w c
        exact wk_L_law_L999 X hD hX hbl hbA hAs hK18 _ _ _ _ _ _ _ _ _ w _ _ _ hP hS (lv_sub hl [0, 1, 2, 3] rfl)
      · have w := And.right w c
        refine lv_iconst (v := 0) hx hb dL_law_339 (by decide) ?_
        exact False.elim w
    have w := And.right w c1_4
    by_cases c1_5 : ((sc i3.toNatClampNeg) &&& (31 : Int32)) = 5
    · have w := And.left w c1_5
      refine lv_tableIn (tgt := 341) hx hb dL_law_33 (by rw [c1_5]; decide) (by rw [c1_5]; decide) (by rw [c1_5]; rfl) (by decide) ?_
      refine lv_aload_n hx hb dL_law_341 rfl (lv_at hl 1 rfl) ?_
      have hPc := W_X_g hP
      have hDc := W_X_d (hD x y v0 v1 v2 v3 z g)
      refine va_calli (va_runV (As := []) (rest := []) ⟨hx, hb, hml, hown, hts⟩ (met_X0_wipe l dC dI ct aX a0 a1 a2 a3 _ w) (cwV 0 hts (lw_V q206 q207 q208 q48 q209) rfl rfl rfl hd_X0_wipe ⟨Nat.le_of_ble_eq_true rfl, Nat.le_of_ble_eq_true rfl⟩) (pre_V hK hPc hDc hN (va_recv hK hPc (ci := 0) (q0 := 0) rfl rfl)) rfl rfl hl.1 rfl (lv_room (Nat.le_of_ble_eq_true rfl)) dL_law_342 ⟨Nat.le_of_ble_eq_true rfl, Nat.le_of_ble_eq_true rfl⟩) hS (fun q _ h => x_free hDc hS hA q h) (x_free hDc hS hA) (fun r12 u t H locs ht hvm w hB hz hk hS => ?_)
      obtain ⟨x_12, y_12, v0_12, v1_12, v2_12, v3_12⟩ := u
      dsimp only at w
      have hP := W_X_j hP (hD _ _ _ _ _ _ _ _) hk (post_P hB ht)
      have hP : va_P (dC, dI) vwCl (LWd aX a0 a1 a2 a3 aM ct x_12 y_12 v0_12 v1_12 v2_12 v3_12 z g) H := hP
      refine lv_aload_n hx hb dL_law_345 rfl (lv_at hl 2 rfl) ?_
      have hPc := W_M_g hP
      have hDc := W_M_d (hD x_12 y_12 v0_12 v1_12 v2_12 v3_12 z g)
      refine va_calli (va_runV (As := []) (rest := [.int r12]) ⟨hx, hb, hml, hown, hts⟩ (met_X2_wipe l dC dI ct aM _ w) (cwV 0 hts (lw_V q596 q597 q598 q51 q599) rfl rfl rfl hd_X2_wipe ⟨Nat.le_of_ble_eq_true rfl, Nat.le_of_ble_eq_true rfl⟩) (pre_V hK hPc hDc hN (va_recv hK hPc (ci := 2) (q0 := 0) rfl rfl)) rfl rfl hl.1 rfl (lv_room (Nat.le_of_ble_eq_true rfl)) dL_law_346 ⟨Nat.le_of_ble_eq_true rfl, Nat.le_of_ble_eq_true rfl⟩) hS (fun q _ h => x_free hDc hS hA q h) (x_free hDc hS hA) (fun r13 u t H locs ht hvm w hB hz hk hS => ?_)
      obtain ⟨z_13, g_13⟩ := u
      dsimp only at w
      have hP := W_M_j hP (hD _ _ _ _ _ _ _ _) hk (post_P hB ht)
      have hP : va_P (dC, dI) vwCl (LWd aX a0 a1 a2 a3 aM ct x_12 y_12 v0_12 v1_12 v2_12 v3_12 z_13 g_13) H := hP
      refine lv_icmp_eq (tgt := 999) hx hb dL_law_349 (by decide) (fun c => ?_) (fun c => ?_)
      · have w := And.left w c
        exact wk_L_law_L999 X hD hX hbl hbA hAs hK18 _ _ _ _ _ _ _ _ _ w _ _ _ hP hS (lv_sub hl [0, 1, 2, 3] rfl)
      · have w := And.right w c
        refine lv_iconst (v := 0) hx hb dL_law_352 (by decide) ?_
        exact False.elim w
    have w := And.right w c1_5
    by_cases c1_6 : ((sc i3.toNatClampNeg) &&& (31 : Int32)) = 6
    · have w := And.left w c1_6
      refine lv_tableIn (tgt := 354) hx hb dL_law_33 (by rw [c1_6]; decide) (by rw [c1_6]; decide) (by rw [c1_6]; rfl) (by decide) ?_
      refine lv_aload_n hx hb dL_law_354 rfl (lv_at hl 1 rfl) ?_
      have hPc := W_X_g hP
      have hDc := W_X_d (hD x y v0 v1 v2 v3 z g)
      refine va_calli (va_runV (As := []) (rest := []) ⟨hx, hb, hml, hown, hts⟩ (met_X0_fault l dC dI ct aX a0 a1 a2 a3 _ w) (cwV 0 hts (lw_V q210 q211 q212 q48 q213) rfl rfl rfl hd_X0_fault ⟨Nat.le_of_ble_eq_true rfl, Nat.le_of_ble_eq_true rfl⟩) (pre_V hK hPc hDc hN (va_recv hK hPc (ci := 0) (q0 := 0) rfl rfl)) rfl rfl hl.1 rfl (lv_room (Nat.le_of_ble_eq_true rfl)) dL_law_355 ⟨Nat.le_of_ble_eq_true rfl, Nat.le_of_ble_eq_true rfl⟩) hS (fun q _ h => x_free hDc hS hA q h) (x_free hDc hS hA) (fun r14 u t H locs ht hvm w hB hz hk hS => ?_)
      obtain ⟨x_14, y_14, v0_14, v1_14, v2_14, v3_14⟩ := u
      dsimp only at w
      have hP := W_X_j hP (hD _ _ _ _ _ _ _ _) hk (post_P hB ht)
      have hP : va_P (dC, dI) vwCl (LWd aX a0 a1 a2 a3 aM ct x_14 y_14 v0_14 v1_14 v2_14 v3_14 z g) H := hP
      refine lv_aload_n hx hb dL_law_358 rfl (lv_at hl 2 rfl) ?_
      have hPc := W_M_g hP
      have hDc := W_M_d (hD x_14 y_14 v0_14 v1_14 v2_14 v3_14 z g)
      refine va_calli (va_runV (As := []) (rest := [.int r14]) ⟨hx, hb, hml, hown, hts⟩ (met_X2_fault l dC dI ct aM _ w) (cwV 0 hts (lw_V q600 q601 q602 q51 q603) rfl rfl rfl hd_X2_fault ⟨Nat.le_of_ble_eq_true rfl, Nat.le_of_ble_eq_true rfl⟩) (pre_V hK hPc hDc hN (va_recv hK hPc (ci := 2) (q0 := 0) rfl rfl)) rfl rfl hl.1 rfl (lv_room (Nat.le_of_ble_eq_true rfl)) dL_law_359 ⟨Nat.le_of_ble_eq_true rfl, Nat.le_of_ble_eq_true rfl⟩) hS (fun q _ h => x_free hDc hS hA q h) (x_free hDc hS hA) (fun r15 u t H locs ht hvm w hB hz hk hS => ?_)
      obtain ⟨z_15, g_15⟩ := u
      dsimp only at w
      have hP := W_M_j hP (hD _ _ _ _ _ _ _ _) hk (post_P hB ht)
      have hP : va_P (dC, dI) vwCl (LWd aX a0 a1 a2 a3 aM ct x_14 y_14 v0_14 v1_14 v2_14 v3_14 z_15 g_15) H := hP
      refine lv_icmp_eq (tgt := 999) hx hb dL_law_362 (by decide) (fun c => ?_) (fun c => ?_)
      · have w := And.left w c
        exact wk_L_law_L999 X hD hX hbl hbA hAs hK18 _ _ _ _ _ _ _ _ _ w _ _ _ hP hS (lv_sub hl [0, 1, 2, 3] rfl)
      · have w := And.right w c
        refine lv_iconst (v := 0) hx hb dL_law_365 (by decide) ?_
        exact False.elim w
    have w := And.right w c1_6
    by_cases c1_7 : ((sc i3.toNatClampNeg) &&& (31 : Int32)) = 7
    · have w := And.left w c1_7
      refine lv_tableIn (tgt := 367) hx hb dL_law_33 (by rw [c1_7]; decide) (by rw [c1_7]; decide) (by rw [c1_7]; rfl) (by decide) ?_
      refine lv_aload_n hx hb dL_law_367 rfl (lv_at hl 1 rfl) ?_
      refine lv_aload_n hx hb dL_law_368 rfl (lv_at hl 0 rfl) ?_
      refine lv_iload_n hx hb dL_law_369 rfl (lv_at hl 3 rfl) ?_
      refine lv_iconst (v := 1) hx hb dL_law_370 (by decide) ?_
      refine lv_iadd hx hb dL_law_371 ?_
      obtain ⟨gi, w⟩ := w
      refine va_sld hx hb hX hbl hbA hS gi dL_law_372 ?_
      have hPc := W_X_g hP
      have hDc := W_X_d (hD x y v0 v1 v2 v3 z g)
      refine va_calli (va_runV (As := [.int (sc (i3 + (1 : Int32)).toNatClampNeg)]) (rest := []) ⟨hx, hb, hml, hown, hts⟩ (met_X0_judge l dC dI ct aX a0 a1 a2 a3 _ w) (cwV 1 hts (lw_V q221 q222 q223 q48 q224) rfl rfl rfl hd_X0_judge ⟨Nat.le_of_ble_eq_true rfl, Nat.le_of_ble_eq_true rfl⟩) (pre_V hK hPc hDc hN (va_recv hK hPc (ci := 0) (q0 := 0) rfl rfl)) rfl rfl hl.1 rfl (lv_room (Nat.le_of_ble_eq_true rfl)) dL_law_373 ⟨Nat.le_of_ble_eq_true rfl, Nat.le_of_ble_eq_true rfl⟩) hS (fun q _ h => x_free hDc hS hA q h) (x_free hDc hS hA) (fun r16 u t H locs ht hvm w hB hz hk hS => ?_)
      obtain ⟨x_16, y_16, v0_16, v1_16, v2_16, v3_16⟩ := u
      dsimp only at w
      have hP := W_X_j hP (hD _ _ _ _ _ _ _ _) hk (post_P hB ht)
      have hP : va_P (dC, dI) vwCl (LWd aX a0 a1 a2 a3 aM ct x_16 y_16 v0_16 v1_16 v2_16 v3_16 z g) H := hP
      refine lv_aload_n hx hb dL_law_376 rfl (lv_at hl 2 rfl) ?_
      refine lv_aload_n hx hb dL_law_377 rfl (lv_at hl 0 rfl) ?_
      refine lv_iload_n hx hb dL_law_378 rfl (lv_at hl 3 rfl) ?_
      refine lv_iconst (v := 1) hx hb dL_law_379 (by decide) ?_
      refine lv_iadd hx hb dL_law_380 ?_
      obtain ⟨gi, w⟩ := w
      refine va_sld hx hb hX hbl hbA hS gi dL_law_381 ?_
      have hPc := W_M_g hP
      have hDc := W_M_d (hD x_16 y_16 v0_16 v1_16 v2_16 v3_16 z g)
      refine va_calli (va_runV (As := [.int (sc (i3 + (1 : Int32)).toNatClampNeg)]) (rest := [.int r16]) ⟨hx, hb, hml, hown, hts⟩ (met_X2_judge l dC dI ct aM _ w) (cwV 1 hts (lw_V q636 q637 q638 q51 q639) rfl rfl rfl hd_X2_judge ⟨Nat.le_of_ble_eq_true rfl, Nat.le_of_ble_eq_true rfl⟩) (pre_V hK hPc hDc hN (va_recv hK hPc (ci := 2) (q0 := 0) rfl rfl)) rfl rfl hl.1 rfl (lv_room (Nat.le_of_ble_eq_true rfl)) dL_law_382 ⟨Nat.le_of_ble_eq_true rfl, Nat.le_of_ble_eq_true rfl⟩) hS (fun q _ h => x_free hDc hS hA q h) (x_free hDc hS hA) (fun r17 u t H locs ht hvm w hB hz hk hS => ?_)
      obtain ⟨z_17, g_17⟩ := u
      dsimp only at w
      have hP := W_M_j hP (hD _ _ _ _ _ _ _ _) hk (post_P hB ht)
      have hP : va_P (dC, dI) vwCl (LWd aX a0 a1 a2 a3 aM ct x_16 y_16 v0_16 v1_16 v2_16 v3_16 z_17 g_17) H := hP
      refine lv_icmp_eq (tgt := 999) hx hb dL_law_385 (by decide) (fun c => ?_) (fun c => ?_)
      · have w := And.left w c
        exact wk_L_law_L999 X hD hX hbl hbA hAs hK18 _ _ _ _ _ _ _ _ _ w _ _ _ hP hS (lv_sub hl [0, 1, 2, 3] rfl)
      · have w := And.right w c
        refine lv_iconst (v := 0) hx hb dL_law_388 (by decide) ?_
        exact False.elim w
    have w := And.right w c1_7
    by_cases c1_8 : ((sc i3.toNatClampNeg) &&& (31 : Int32)) = 8
    · have w := And.left w c1_8
      refine lv_tableIn (tgt := 390) hx hb dL_law_33 (by rw [c1_8]; decide) (by rw [c1_8]; decide) (by rw [c1_8]; rfl) (by decide) ?_
      refine lv_aload_n hx hb dL_law_390 rfl (lv_at hl 1 rfl) ?_
      refine lv_aload_n hx hb dL_law_391 rfl (lv_at hl 0 rfl) ?_
      refine lv_iload_n hx hb dL_law_392 rfl (lv_at hl 3 rfl) ?_
      refine lv_iconst (v := 1) hx hb dL_law_393 (by decide) ?_
      refine lv_iadd hx hb dL_law_394 ?_
      obtain ⟨gi, w⟩ := w
      refine va_sld hx hb hX hbl hbA hS gi dL_law_395 ?_
      refine lv_aload_n hx hb dL_law_396 rfl (lv_at hl 0 rfl) ?_
      refine lv_iload_n hx hb dL_law_397 rfl (lv_at hl 3 rfl) ?_
      refine lv_iconst (v := 2) hx hb dL_law_398 (by decide) ?_
      refine lv_iadd hx hb dL_law_399 ?_
      obtain ⟨gi, w⟩ := w
      refine va_sld hx hb hX hbl hbA hS gi dL_law_400 ?_
      have hPc := W_X_g hP
      have hDc := W_X_d (hD x y v0 v1 v2 v3 z g)
      refine va_calli (va_runV (As := [.int (sc (i3 + (1 : Int32)).toNatClampNeg), .int (sc (i3 + (2 : Int32)).toNatClampNeg)]) (rest := []) ⟨hx, hb, hml, hown, hts⟩ (met_X0_behind l dC dI ct aX a0 a1 a2 a3 _ w) (cwV 2 hts (lw_V q296 q297 q298 q48 q299) rfl rfl rfl hd_X0_behind ⟨Nat.le_of_ble_eq_true rfl, Nat.le_of_ble_eq_true rfl⟩) (pre_V hK hPc hDc hN (va_recv hK hPc (ci := 0) (q0 := 0) rfl rfl)) rfl rfl hl.1 rfl (lv_room (Nat.le_of_ble_eq_true rfl)) dL_law_401 ⟨Nat.le_of_ble_eq_true rfl, Nat.le_of_ble_eq_true rfl⟩) hS (fun q _ h => x_free hDc hS hA q h) (x_free hDc hS hA) (fun r18 u t H locs ht hvm w hB hz hk hS => ?_)
      obtain ⟨x_18, y_18, v0_18, v1_18, v2_18, v3_18⟩ := u
      dsimp only at w
      have hP := W_X_j hP (hD _ _ _ _ _ _ _ _) hk (post_P hB ht)
      have hP : va_P (dC, dI) vwCl (LWd aX a0 a1 a2 a3 aM ct x_18 y_18 v0_18 v1_18 v2_18 v3_18 z g) H := hP
      refine lv_aload_n hx hb dL_law_404 rfl (lv_at hl 2 rfl) ?_
      refine lv_aload_n hx hb dL_law_405 rfl (lv_at hl 0 rfl) ?_
      refine lv_iload_n hx hb dL_law_406 rfl (lv_at hl 3 rfl) ?_
      refine lv_iconst (v := 1) hx hb dL_law_407 (by decide) ?_
      refine lv_iadd hx hb dL_law_408 ?_
      obtain ⟨gi, w⟩ := w
      refine va_sld hx hb hX hbl hbA hS gi dL_law_409 ?_
      refine lv_aload_n hx hb dL_law_410 rfl (lv_at hl 0 rfl) ?_
      refine lv_iload_n hx hb dL_law_411 rfl (lv_at hl 3 rfl) ?_
      refine lv_iconst (v := 2) hx hb dL_law_412 (by decide) ?_
      refine lv_iadd hx hb dL_law_413 ?_
      obtain ⟨gi, w⟩ := w
      refine va_sld hx hb hX hbl hbA hS gi dL_law_414 ?_
      have hPc := W_M_g hP
      have hDc := W_M_d (hD x_18 y_18 v0_18 v1_18 v2_18 v3_18 z g)
      refine va_calli (va_runV (As := [.int (sc (i3 + (1 : Int32)).toNatClampNeg), .int (sc (i3 + (2 : Int32)).toNatClampNeg)]) (rest := [.int r18]) ⟨hx, hb, hml, hown, hts⟩ (met_X2_behind l dC dI ct aM _ w) (cwV 2 hts (lw_V q711 q712 q713 q51 q714) rfl rfl rfl hd_X2_behind ⟨Nat.le_of_ble_eq_true rfl, Nat.le_of_ble_eq_true rfl⟩) (pre_V hK hPc hDc hN (va_recv hK hPc (ci := 2) (q0 := 0) rfl rfl)) rfl rfl hl.1 rfl (lv_room (Nat.le_of_ble_eq_true rfl)) dL_law_415 ⟨Nat.le_of_ble_eq_true rfl, Nat.le_of_ble_eq_true rfl⟩) hS (fun q _ h => x_free hDc hS hA q h) (x_free hDc hS hA) (fun r19 u t H locs ht hvm w hB hz hk hS => ?_)
      obtain ⟨z_19, g_19⟩ := u
      dsimp only at w
      have hP := W_M_j hP (hD _ _ _ _ _ _ _ _) hk (post_P hB ht)
      have hP : va_P (dC, dI) vwCl (LWd aX a0 a1 a2 a3 aM ct x_18 y_18 v0_18 v1_18 v2_18 v3_18 z_19 g_19) H := hP
      refine lv_icmp_eq (tgt := 999) hx hb dL_law_418 (by decide) (fun c => ?_) (fun c => ?_)
      · have w := And.left w c
        exact wk_L_law_L999 X hD hX hbl hbA hAs hK18 _ _ _ _ _ _ _ _ _ w _ _ _ hP hS (lv_sub hl [0, 1, 2, 3] rfl)
      · have w := And.right w c
        refine lv_iconst (v := 0) hx hb dL_law_421 (by decide) ?_
        exact False.elim w
    have w := And.right w c1_8
    by_cases c1_9 : ((sc i3.toNatClampNeg) &&& (31 : Int32)) = 9
    · have w := And.left w c1_9
      refine lv_tableIn (tgt := 423) hx hb dL_law_33 (by rw [c1_9]; decide) (by rw [c1_9]; decide) (by rw [c1_9]; rfl) (by decide) ?_
      refine lv_aload_n hx hb dL_law_423 rfl (lv_at hl 1 rfl) ?_
      refine lv_aload_n hx hb dL_law_424 rfl (lv_at hl 0 rfl) ?_
      refine lv_iload_n hx hb dL_law_425 rfl (lv_at hl 3 rfl) ?_
      refine lv_iconst (v := 1) hx hb dL_law_426 (by decide) ?_
      refine lv_iadd hx hb dL_law_427 ?_
      obtain ⟨gi, w⟩ := w
      refine va_sld hx hb hX hbl hbA hS gi dL_law_428 ?_
      have hPc := W_X_g hP
      have hDc := W_X_d (hD x y v0 v1 v2 v3 z g)
      refine va_calli (va_runV (As := [.int (sc (i3 + (1 : Int32)).toNatClampNeg)]) (rest := []) ⟨hx, hb, hml, hown, hts⟩ (met_X0_total l dC dI ct aX a0 a1 a2 a3 _ w) (cwV 1 hts (lw_V q315 q316 q317 q48 q318) rfl rfl rfl hd_X0_total ⟨Nat.le_of_ble_eq_true rfl, Nat.le_of_ble_eq_true rfl⟩) (pre_V hK hPc hDc hN (va_recv hK hPc (ci := 0) (q0 := 0) rfl rfl)) rfl rfl hl.1 rfl (lv_room (Nat.le_of_ble_eq_true rfl)) dL_law_429 ⟨Nat.le_of_ble_eq_true rfl, Nat.le_of_ble_eq_true rfl⟩) hS (fun q _ h => x_free hDc hS hA q h) (x_free hDc hS hA) (fun r20 u t H locs ht hvm w hB hz hk hS => ?_)
      obtain ⟨x_20, y_20, v0_20, v1_20, v2_20, v3_20⟩ := u
      dsimp only at w
      have hP := W_X_j hP (hD _ _ _ _ _ _ _ _) hk (post_P hB ht)
      have hP : va_P (dC, dI) vwCl (LWd aX a0 a1 a2 a3 aM ct x_20 y_20 v0_20 v1_20 v2_20 v3_20 z g) H := hP
      refine lv_aload_n hx hb dL_law_432 rfl (lv_at hl 2 rfl) ?_
      refine lv_aload_n hx hb dL_law_433 rfl (lv_at hl 0 rfl) ?_
      refine lv_iload_n hx hb dL_law_434 rfl (lv_at hl 3 rfl) ?_
      refine lv_iconst (v := 1) hx hb dL_law_435 (by decide) ?_
      refine lv_iadd hx hb dL_law_436 ?_
      obtain ⟨gi, w⟩ := w
      refine va_sld hx hb hX hbl hbA hS gi dL_law_437 ?_
      have hPc := W_M_g hP
      have hDc := W_M_d (hD x_20 y_20 v0_20 v1_20 v2_20 v3_20 z g)
      refine va_calli (va_runV (As := [.int (sc (i3 + (1 : Int32)).toNatClampNeg)]) (rest := [.int r20]) ⟨hx, hb, hml, hown, hts⟩ (met_X2_total l dC dI ct aM _ w) (cwV 1 hts (lw_V q728 q729 q730 q51 q731) rfl rfl rfl hd_X2_total ⟨Nat.le_of_ble_eq_true rfl, Nat.le_of_ble_eq_true rfl⟩) (pre_V hK hPc hDc hN (va_recv hK hPc (ci := 2) (q0 := 0) rfl rfl)) rfl rfl hl.1 rfl (lv_room (Nat.le_of_ble_eq_true rfl)) dL_law_438 ⟨Nat.le_of_ble_eq_true rfl, Nat.le_of_ble_eq_true rfl⟩) hS (fun q _ h => x_free hDc hS hA q h) (x_free hDc hS hA) (fun r21 u t H locs ht hvm w hB hz hk hS => ?_)
      obtain ⟨z_21, g_21⟩ := u
      dsimp only at w
      have hP := W_M_j hP (hD _ _ _ _ _ _ _ _) hk (post_P hB ht)
      have hP : va_P (dC, dI) vwCl (LWd aX a0 a1 a2 a3 aM ct x_20 y_20 v0_20 v1_20 v2_20 v3_20 z_21 g_21) H := hP
      refine lv_icmp_eq (tgt := 999) hx hb dL_law_441 (by decide) (fun c => ?_) (fun c => ?_)
      · have w := And.left w c
        exact wk_L_law_L999 X hD hX hbl hbA hAs hK18 _ _ _ _ _ _ _ _ _ w _ _ _ hP hS (lv_sub hl [0, 1, 2, 3] rfl)
      · have w := And.right w c
        refine lv_iconst (v := 0) hx hb dL_law_444 (by decide) ?_
        exact False.elim w
    have w := And.right w c1_9
    by_cases c1_10 : ((sc i3.toNatClampNeg) &&& (31 : Int32)) = 10
    · have w := And.left w c1_10
      refine lv_tableIn (tgt := 446) hx hb dL_law_33 (by rw [c1_10]; decide) (by rw [c1_10]; decide) (by rw [c1_10]; rfl) (by decide) ?_
      refine lv_aload_n hx hb dL_law_446 rfl (lv_at hl 1 rfl) ?_
      refine lv_aload_n hx hb dL_law_447 rfl (lv_at hl 0 rfl) ?_
      refine lv_iload_n hx hb dL_law_448 rfl (lv_at hl 3 rfl) ?_
      refine lv_iconst (v := 1) hx hb dL_law_449 (by decide) ?_
      refine lv_iadd hx hb dL_law_450 ?_
      obtain ⟨gi, w⟩ := w
      refine va_sld hx hb hX hbl hbA hS gi dL_law_451 ?_
      have hPc := W_X_g hP
      have hDc := W_X_d (hD x y v0 v1 v2 v3 z g)
      refine va_calli (va_runV (As := [.int (sc (i3 + (1 : Int32)).toNatClampNeg)]) (rest := []) ⟨hx, hb, hml, hown, hts⟩ (met_X0_fell l dC dI ct aX a0 a1 a2 a3 _ w) (cwV 1 hts (lw_V q321 q322 q323 q48 q324) rfl rfl rfl hd_X0_fell ⟨Nat.le_of_ble_eq_true rfl, Nat.le_of_ble_eq_true rfl⟩) (pre_V hK hPc hDc hN (va_recv hK hPc (ci := 0) (q0 := 0) rfl rfl)) rfl rfl hl.1 rfl (lv_room (Nat.le_of_ble_eq_true rfl)) dL_law_452 ⟨Nat.le_of_ble_eq_true rfl, Nat.le_of_ble_eq_true rfl⟩) hS (fun q _ h => x_free hDc hS hA q h) (x_free hDc hS hA) (fun r22 u t H locs ht hvm w hB hz hk hS => ?_)
      obtain ⟨x_22, y_22, v0_22, v1_22, v2_22, v3_22⟩ := u
      dsimp only at w
      have hP := W_X_j hP (hD _ _ _ _ _ _ _ _) hk (post_P hB ht)
      have hP : va_P (dC, dI) vwCl (LWd aX a0 a1 a2 a3 aM ct x_22 y_22 v0_22 v1_22 v2_22 v3_22 z g) H := hP
      refine lv_aload_n hx hb dL_law_455 rfl (lv_at hl 2 rfl) ?_
      refine lv_aload_n hx hb dL_law_456 rfl (lv_at hl 0 rfl) ?_
      refine lv_iload_n hx hb dL_law_457 rfl (lv_at hl 3 rfl) ?_
      refine lv_iconst (v := 1) hx hb dL_law_458 (by decide) ?_
      refine lv_iadd hx hb dL_law_459 ?_
      obtain ⟨gi, w⟩ := w
      refine va_sld hx hb hX hbl hbA hS gi dL_law_460 ?_
      have hPc := W_M_g hP
      have hDc := W_M_d (hD x_22 y_22 v0_22 v1_22 v2_22 v3_22 z g)
      refine va_calli (va_runV (As := [.int (sc (i3 + (1 : Int32)).toNatClampNeg)]) (rest := [.int r22]) ⟨hx, hb, hml, hown, hts⟩ (met_X2_fell l dC dI ct aM _ w) (cwV 1 hts (lw_V q736 q737 q738 q51 q739) rfl rfl rfl hd_X2_fell ⟨Nat.le_of_ble_eq_true rfl, Nat.le_of_ble_eq_true rfl⟩) (pre_V hK hPc hDc hN (va_recv hK hPc (ci := 2) (q0 := 0) rfl rfl)) rfl rfl hl.1 rfl (lv_room (Nat.le_of_ble_eq_true rfl)) dL_law_461 ⟨Nat.le_of_ble_eq_true rfl, Nat.le_of_ble_eq_true rfl⟩) hS (fun q _ h => x_free hDc hS hA q h) (x_free hDc hS hA) (fun r23 u t H locs ht hvm w hB hz hk hS => ?_)
      obtain ⟨z_23, g_23⟩ := u
      dsimp only at w
      have hP := W_M_j hP (hD _ _ _ _ _ _ _ _) hk (post_P hB ht)
      have hP : va_P (dC, dI) vwCl (LWd aX a0 a1 a2 a3 aM ct x_22 y_22 v0_22 v1_22 v2_22 v3_22 z_23 g_23) H := hP
      refine lv_icmp_eq (tgt := 999) hx hb dL_law_464 (by decide) (fun c => ?_) (fun c => ?_)
      · have w := And.left w c
        exact wk_L_law_L999 X hD hX hbl hbA hAs hK18 _ _ _ _ _ _ _ _ _ w _ _ _ hP hS (lv_sub hl [0, 1, 2, 3] rfl)
      · have w := And.right w c
        refine lv_iconst (v := 0) hx hb dL_law_467 (by decide) ?_
        exact False.elim w
    have w := And.right w c1_10
    by_cases c1_11 : ((sc i3.toNatClampNeg) &&& (31 : Int32)) = 11
    · have w := And.left w c1_11
      refine lv_tableIn (tgt := 469) hx hb dL_law_33 (by rw [c1_11]; decide) (by rw [c1_11]; decide) (by rw [c1_11]; rfl) (by decide) ?_
      refine lv_aload_n hx hb dL_law_469 rfl (lv_at hl 1 rfl) ?_
      have hPc := W_X_g hP
      have hDc := W_X_d (hD x y v0 v1 v2 v3 z g)
      refine va_calli (va_runV (As := []) (rest := []) ⟨hx, hb, hml, hown, hts⟩ (met_X0_done l dC dI ct aX a0 a1 a2 a3 _ w) (cwV 0 hts (lw_V q325 q326 q327 q48 q328) rfl rfl rfl hd_X0_done ⟨Nat.le_of_ble_eq_true rfl, Nat.le_of_ble_eq_true rfl⟩) (pre_V hK hPc hDc hN (va_recv hK hPc (ci := 0) (q0 := 0) rfl rfl)) rfl rfl hl.1 rfl (lv_room (Nat.le_of_ble_eq_true rfl)) dL_law_470 ⟨Nat.le_of_ble_eq_true rfl, Nat.le_of_ble_eq_true rfl⟩) hS (fun q _ h => x_free hDc hS hA q h) (x_free hDc hS hA) (fun r24 u t H locs ht hvm w hB hz hk hS => ?_)
      obtain ⟨x_24, y_24, v0_24, v1_24, v2_24, v3_24⟩ := u
      dsimp only at w
      have hP := W_X_j hP (hD _ _ _ _ _ _ _ _) hk (post_P hB ht)
      have hP : va_P (dC, dI) vwCl (LWd aX a0 a1 a2 a3 aM ct x_24 y_24 v0_24 v1_24 v2_24 v3_24 z g) H := hP
      refine lv_aload_n hx hb dL_law_473 rfl (lv_at hl 2 rfl) ?_
      have hPc := W_M_g hP
      have hDc := W_M_d (hD x_24 y_24 v0_24 v1_24 v2_24 v3_24 z g)
      refine va_calli (va_runV (As := []) (rest := [.int r24]) ⟨hx, hb, hml, hown, hts⟩ (met_X2_done l dC dI ct aM _ w) (cwV 0 hts (lw_V q740 q741 q742 q51 q743) rfl rfl rfl hd_X2_done ⟨Nat.le_of_ble_eq_true rfl, Nat.le_of_ble_eq_true rfl⟩) (pre_V hK hPc hDc hN (va_recv hK hPc (ci := 2) (q0 := 0) rfl rfl)) rfl rfl hl.1 rfl (lv_room (Nat.le_of_ble_eq_true rfl)) dL_law_474 ⟨Nat.le_of_ble_eq_true rfl, Nat.le_of_ble_eq_true rfl⟩) hS (fun q _ h => x_free hDc hS hA q h) (x_free hDc hS hA) (fun r25 u t H locs ht hvm w hB hz hk hS => ?_)
      obtain ⟨z_25, g_25⟩ := u
      dsimp only at w
      have hP := W_M_j hP (hD _ _ _ _ _ _ _ _) hk (post_P hB ht)
      have hP : va_P (dC, dI) vwCl (LWd aX a0 a1 a2 a3 aM ct x_24 y_24 v0_24 v1_24 v2_24 v3_24 z_25 g_25) H := hP
      refine lv_icmp_eq (tgt := 999) hx hb dL_law_477 (by decide) (fun c => ?_) (fun c => ?_)
      · have w := And.left w c
        exact wk_L_law_L999 X hD hX hbl hbA hAs hK18 _ _ _ _ _ _ _ _ _ w _ _ _ hP hS (lv_sub hl [0, 1, 2, 3] rfl)
      · have w := And.right w c
        refine lv_iconst (v := 0) hx hb dL_law_480 (by decide) ?_
        exact False.elim w
    have w := And.right w c1_11
    by_cases c1_12 : ((sc i3.toNatClampNeg) &&& (31 : Int32)) = 12
    · have w := And.left w c1_12
      refine lv_tableIn (tgt := 482) hx hb dL_law_33 (by rw [c1_12]; decide) (by rw [c1_12]; decide) (by rw [c1_12]; rfl) (by decide) ?_
      refine lv_aload_n hx hb dL_law_482 rfl (lv_at hl 1 rfl) ?_
      refine lv_aload_n hx hb dL_law_483 rfl (lv_at hl 0 rfl) ?_
      refine lv_iload_n hx hb dL_law_484 rfl (lv_at hl 3 rfl) ?_
      refine lv_iconst (v := 1) hx hb dL_law_485 (by decide) ?_
      refine lv_iadd hx hb dL_law_486 ?_
      obtain ⟨gi, w⟩ := w
      refine va_sld hx hb hX hbl hbA hS gi dL_law_487 ?_
      have hPc := W_X_g hP
      have hDc := W_X_d (hD x y v0 v1 v2 v3 z g)
      refine va_calli (va_runV (As := [.int (sc (i3 + (1 : Int32)).toNatClampNeg)]) (rest := []) ⟨hx, hb, hml, hown, hts⟩ (met_X0_struck l dC dI ct aX a0 a1 a2 a3 _ w) (cwV 1 hts (lw_V q329 q330 q331 q48 q332) rfl rfl rfl hd_X0_struck ⟨Nat.le_of_ble_eq_true rfl, Nat.le_of_ble_eq_true rfl⟩) (pre_V hK hPc hDc hN (va_recv hK hPc (ci := 0) (q0 := 0) rfl rfl)) rfl rfl hl.1 rfl (lv_room (Nat.le_of_ble_eq_true rfl)) dL_law_488 ⟨Nat.le_of_ble_eq_true rfl, Nat.le_of_ble_eq_true rfl⟩) hS (fun q _ h => x_free hDc hS hA q h) (x_free hDc hS hA) (fun r26 u t H locs ht hvm w hB hz hk hS => ?_)
      obtain ⟨x_26, y_26, v0_26, v1_26, v2_26, v3_26⟩ := u
      dsimp only at w
      have hP := W_X_j hP (hD _ _ _ _ _ _ _ _) hk (post_P hB ht)
      have hP : va_P (dC, dI) vwCl (LWd aX a0 a1 a2 a3 aM ct x_26 y_26 v0_26 v1_26 v2_26 v3_26 z g) H := hP
      refine lv_aload_n hx hb dL_law_491 rfl (lv_at hl 2 rfl) ?_
      refine lv_aload_n hx hb dL_law_492 rfl (lv_at hl 0 rfl) ?_
      refine lv_iload_n hx hb dL_law_493 rfl (lv_at hl 3 rfl) ?_
      refine lv_iconst (v := 1) hx hb dL_law_494 (by decide) ?_
      refine lv_iadd hx hb dL_law_495 ?_
      obtain ⟨gi, w⟩ := w
      refine va_sld hx hb hX hbl hbA hS gi dL_law_496 ?_
      have hPc := W_M_g hP
      have hDc := W_M_d (hD x_26 y_26 v0_26 v1_26 v2_26 v3_26 z g)
      refine va_calli (va_runV (As := [.int (sc (i3 + (1 : Int32)).toNatClampNeg)]) (rest := [.int r26]) ⟨hx, hb, hml, hown, hts⟩ (met_X2_struck l dC dI ct aM _ w) (cwV 1 hts (lw_V q744 q745 q746 q51 q747) rfl rfl rfl hd_X2_struck ⟨Nat.le_of_ble_eq_true rfl, Nat.le_of_ble_eq_true rfl⟩) (pre_V hK hPc hDc hN (va_recv hK hPc (ci := 2) (q0 := 0) rfl rfl)) rfl rfl hl.1 rfl (lv_room (Nat.le_of_ble_eq_true rfl)) dL_law_497 ⟨Nat.le_of_ble_eq_true rfl, Nat.le_of_ble_eq_true rfl⟩) hS (fun q _ h => x_free hDc hS hA q h) (x_free hDc hS hA) (fun r27 u t H locs ht hvm w hB hz hk hS => ?_)
      obtain ⟨z_27, g_27⟩ := u
      dsimp only at w
      have hP := W_M_j hP (hD _ _ _ _ _ _ _ _) hk (post_P hB ht)
      have hP : va_P (dC, dI) vwCl (LWd aX a0 a1 a2 a3 aM ct x_26 y_26 v0_26 v1_26 v2_26 v3_26 z_27 g_27) H := hP
      refine lv_icmp_eq (tgt := 999) hx hb dL_law_500 (by decide) (fun c => ?_) (fun c => ?_)
      · have w := And.left w c
        exact wk_L_law_L999 X hD hX hbl hbA hAs hK18 _ _ _ _ _ _ _ _ _ w _ _ _ hP hS (lv_sub hl [0, 1, 2, 3] rfl)
      · have w := And.right w c
        refine lv_iconst (v := 0) hx hb dL_law_503 (by decide) ?_
        exact False.elim w
    have w := And.right w c1_12
    by_cases c1_13 : ((sc i3.toNatClampNeg) &&& (31 : Int32)) = 13
    · have w := And.left w c1_13
      refine lv_tableIn (tgt := 505) hx hb dL_law_33 (by rw [c1_13]; decide) (by rw [c1_13]; decide) (by rw [c1_13]; rfl) (by decide) ?_
      refine lv_aload_n hx hb dL_law_505 rfl (lv_at hl 1 rfl) ?_
      refine lv_aload_n hx hb dL_law_506 rfl (lv_at hl 0 rfl) ?_
      refine lv_iload_n hx hb dL_law_507 rfl (lv_at hl 3 rfl) ?_
      refine lv_iconst (v := 1) hx hb dL_law_508 (by decide) ?_
      refine lv_iadd hx hb dL_law_509 ?_
      obtain ⟨gi, w⟩ := w
      refine va_sld hx hb hX hbl hbA hS gi dL_law_510 ?_
      have hPc := W_X_g hP
      have hDc := W_X_d (hD x y v0 v1 v2 v3 z g)
      refine va_calli (va_runV (As := [.int (sc (i3 + (1 : Int32)).toNatClampNeg)]) (rest := []) ⟨hx, hb, hml, hown, hts⟩ (met_X0_prints l dC dI ct aX a0 a1 a2 a3 _ w) (cwV 1 hts (lw_V q355 q356 q357 q48 q358) rfl rfl rfl hd_X0_prints ⟨Nat.le_of_ble_eq_true rfl, Nat.le_of_ble_eq_true rfl⟩) (pre_V hK hPc hDc hN (va_recv hK hPc (ci := 0) (q0 := 0) rfl rfl)) rfl rfl hl.1 rfl (lv_room (Nat.le_of_ble_eq_true rfl)) dL_law_511 ⟨Nat.le_of_ble_eq_true rfl, Nat.le_of_ble_eq_true rfl⟩) hS (fun q _ h => x_free hDc hS hA q h) (x_free hDc hS hA) (fun r28 u t H locs ht hvm w hB hz hk hS => ?_)
      obtain ⟨x_28, y_28, v0_28, v1_28, v2_28, v3_28⟩ := u
      dsimp only at w
      have hP := W_X_j hP (hD _ _ _ _ _ _ _ _) hk (post_P hB ht)
      have hP : va_P (dC, dI) vwCl (LWd aX a0 a1 a2 a3 aM ct x_28 y_28 v0_28 v1_28 v2_28 v3_28 z g) H := hP
      refine lv_aload_n hx hb dL_law_514 rfl (lv_at hl 2 rfl) ?_
      refine lv_aload_n hx hb dL_law_515 rfl (lv_at hl 0 rfl) ?_
      refine lv_iload_n hx hb dL_law_516 rfl (lv_at hl 3 rfl) ?_
      refine lv_iconst (v := 1) hx hb dL_law_517 (by decide) ?_
      refine lv_iadd hx hb dL_law_518 ?_
      obtain ⟨gi, w⟩ := w
      refine va_sld hx hb hX hbl hbA hS gi dL_law_519 ?_
      have hPc := W_M_g hP
      have hDc := W_M_d (hD x_28 y_28 v0_28 v1_28 v2_28 v3_28 z g)
      refine va_calli (va_runV (As := [.int (sc (i3 + (1 : Int32)).toNatClampNeg)]) (rest := [.int r28]) ⟨hx, hb, hml, hown, hts⟩ (met_X2_prints l dC dI ct aM _ w) (cwV 1 hts (lw_V q756 q757 q758 q51 q759) rfl rfl rfl hd_X2_prints ⟨Nat.le_of_ble_eq_true rfl, Nat.le_of_ble_eq_true rfl⟩) (pre_V hK hPc hDc hN (va_recv hK hPc (ci := 2) (q0 := 0) rfl rfl)) rfl rfl hl.1 rfl (lv_room (Nat.le_of_ble_eq_true rfl)) dL_law_520 ⟨Nat.le_of_ble_eq_true rfl, Nat.le_of_ble_eq_true rfl⟩) hS (fun q _ h => x_free hDc hS hA q h) (x_free hDc hS hA) (fun r29 u t H locs ht hvm w hB hz hk hS => ?_)
      obtain ⟨z_29, g_29⟩ := u
      dsimp only at w
      have hP := W_M_j hP (hD _ _ _ _ _ _ _ _) hk (post_P hB ht)
      have hP : va_P (dC, dI) vwCl (LWd aX a0 a1 a2 a3 aM ct x_28 y_28 v0_28 v1_28 v2_28 v3_28 z_29 g_29) H := hP
      refine lv_icmp_eq (tgt := 999) hx hb dL_law_523 (by decide) (fun c => ?_) (fun c => ?_)
      · have w := And.left w c
        exact wk_L_law_L999 X hD hX hbl hbA hAs hK18 _ _ _ _ _ _ _ _ _ w _ _ _ hP hS (lv_sub hl [0, 1, 2, 3] rfl)
      · have w := And.right w c
        refine lv_iconst (v := 0) hx hb dL_law_526 (by decide) ?_
        exact False.elim w
    have w := And.right w c1_13
    by_cases c1_14 : ((sc i3.toNatClampNeg) &&& (31 : Int32)) = 14
    · have w := And.left w c1_14
      refine lv_tableIn (tgt := 528) hx hb dL_law_33 (by rw [c1_14]; decide) (by rw [c1_14]; decide) (by rw [c1_14]; rfl) (by decide) ?_
      refine lv_aload_n hx hb dL_law_528 rfl (lv_at hl 1 rfl) ?_
      refine lv_aload_n hx hb dL_law_529 rfl (lv_at hl 0 rfl) ?_
      refine lv_iload_n hx hb dL_law_530 rfl (lv_at hl 3 rfl) ?_
      refine lv_iconst (v := 1) hx hb dL_law_531 (by decide) ?_
      refine lv_iadd hx hb dL_law_532 ?_
      obtain ⟨gi, w⟩ := w
      refine va_sld hx hb hX hbl hbA hS gi dL_law_533 ?_
      refine lv_aload_n hx hb dL_law_534 rfl (lv_at hl 0 rfl) ?_
      refine lv_iload_n hx hb dL_law_535 rfl (lv_at hl 3 rfl) ?_
      refine lv_iconst (v := 2) hx hb dL_law_536 (by decide) ?_
      refine lv_iadd hx hb dL_law_537 ?_
      obtain ⟨gi, w⟩ := w
      refine va_sld hx hb hX hbl hbA hS gi dL_law_538 ?_
      have hPc := W_X_g hP
      have hDc := W_X_d (hD x y v0 v1 v2 v3 z g)
      refine va_calli (va_runV (As := [.int (sc (i3 + (1 : Int32)).toNatClampNeg), .int (sc (i3 + (2 : Int32)).toNatClampNeg)]) (rest := []) ⟨hx, hb, hml, hown, hts⟩ (met_X0_buys l dC dI ct aX a0 a1 a2 a3 _ w) (cwV 2 hts (lw_V q360 q361 q362 q48 q363) rfl rfl rfl hd_X0_buys ⟨Nat.le_of_ble_eq_true rfl, Nat.le_of_ble_eq_true rfl⟩) (pre_V hK hPc hDc hN (va_recv hK hPc (ci := 0) (q0 := 0) rfl rfl)) rfl rfl hl.1 rfl (lv_room (Nat.le_of_ble_eq_true rfl)) dL_law_539 ⟨Nat.le_of_ble_eq_true rfl, Nat.le_of_ble_eq_true rfl⟩) hS (fun q _ h => x_free hDc hS hA q h) (x_free hDc hS hA) (fun r30 u t H locs ht hvm w hB hz hk hS => ?_)
      obtain ⟨x_30, y_30, v0_30, v1_30, v2_30, v3_30⟩ := u
      dsimp only at w
      have hP := W_X_j hP (hD _ _ _ _ _ _ _ _) hk (post_P hB ht)
      have hP : va_P (dC, dI) vwCl (LWd aX a0 a1 a2 a3 aM ct x_30 y_30 v0_30 v1_30 v2_30 v3_30 z g) H := hP
      refine lv_aload_n hx hb dL_law_542 rfl (lv_at hl 2 rfl) ?_
      refine lv_aload_n hx hb dL_law_543 rfl (lv_at hl 0 rfl) ?_
      refine lv_iload_n hx hb dL_law_544 rfl (lv_at hl 3 rfl) ?_
      refine lv_iconst (v := 1) hx hb dL_law_545 (by decide) ?_
      refine lv_iadd hx hb dL_law_546 ?_
      obtain ⟨gi, w⟩ := w
      refine va_sld hx hb hX hbl hbA hS gi dL_law_547 ?_
      refine lv_aload_n hx hb dL_law_548 rfl (lv_at hl 0 rfl) ?_
      refine lv_iload_n hx hb dL_law_549 rfl (lv_at hl 3 rfl) ?_
      refine lv_iconst (v := 2) hx hb dL_law_550 (by decide) ?_
      refine lv_iadd hx hb dL_law_551 ?_
      obtain ⟨gi, w⟩ := w
      refine va_sld hx hb hX hbl hbA hS gi dL_law_552 ?_
      have hPc := W_M_g hP
      have hDc := W_M_d (hD x_30 y_30 v0_30 v1_30 v2_30 v3_30 z g)
      refine va_calli (va_runV (As := [.int (sc (i3 + (1 : Int32)).toNatClampNeg), .int (sc (i3 + (2 : Int32)).toNatClampNeg)]) (rest := [.int r30]) ⟨hx, hb, hml, hown, hts⟩ (met_X2_buys l dC dI ct aM _ w) (cwV 2 hts (lw_V q760 q761 q762 q51 q763) rfl rfl rfl hd_X2_buys ⟨Nat.le_of_ble_eq_true rfl, Nat.le_of_ble_eq_true rfl⟩) (pre_V hK hPc hDc hN (va_recv hK hPc (ci := 2) (q0 := 0) rfl rfl)) rfl rfl hl.1 rfl (lv_room (Nat.le_of_ble_eq_true rfl)) dL_law_553 ⟨Nat.le_of_ble_eq_true rfl, Nat.le_of_ble_eq_true rfl⟩) hS (fun q _ h => x_free hDc hS hA q h) (x_free hDc hS hA) (fun r31 u t H locs ht hvm w hB hz hk hS => ?_)
      obtain ⟨z_31, g_31⟩ := u
      dsimp only at w
      have hP := W_M_j hP (hD _ _ _ _ _ _ _ _) hk (post_P hB ht)
      have hP : va_P (dC, dI) vwCl (LWd aX a0 a1 a2 a3 aM ct x_30 y_30 v0_30 v1_30 v2_30 v3_30 z_31 g_31) H := hP
      refine lv_icmp_eq (tgt := 999) hx hb dL_law_556 (by decide) (fun c => ?_) (fun c => ?_)
      · have w := And.left w c
        exact wk_L_law_L999 X hD hX hbl hbA hAs hK18 _ _ _ _ _ _ _ _ _ w _ _ _ hP hS (lv_sub hl [0, 1, 2, 3] rfl)
      · have w := And.right w c
        refine lv_iconst (v := 0) hx hb dL_law_559 (by decide) ?_
        exact False.elim w
    have w := And.right w c1_14
    by_cases c1_15 : ((sc i3.toNatClampNeg) &&& (31 : Int32)) = 15
    · have w := And.left w c1_15
      refine lv_tableIn (tgt := 561) hx hb dL_law_33 (by rw [c1_15]; decide) (by rw [c1_15]; decide) (by rw [c1_15]; rfl) (by decide) ?_
      refine lv_aload_n hx hb dL_law_561 rfl (lv_at hl 1 rfl) ?_
      refine lv_aload_n hx hb dL_law_562 rfl (lv_at hl 0 rfl) ?_
      refine lv_iload_n hx hb dL_law_563 rfl (lv_at hl 3 rfl) ?_
      refine lv_iconst (v := 1) hx hb dL_law_564 (by decide) ?_
      refine lv_iadd hx hb dL_law_565 ?_
      obtain ⟨gi, w⟩ := w
      refine va_sld hx hb hX hbl hbA hS gi dL_law_566 ?_
      refine lv_aload_n hx hb dL_law_567 rfl (lv_at hl 0 rfl) ?_
      refine lv_iload_n hx hb dL_law_568 rfl (lv_at hl 3 rfl) ?_
      refine lv_iconst (v := 2) hx hb dL_law_569 (by decide) ?_
      refine lv_iadd hx hb dL_law_570 ?_
      obtain ⟨gi, w⟩ := w
      refine va_sld hx hb hX hbl hbA hS gi dL_law_571 ?_
      refine lv_aload_n hx hb dL_law_572 rfl (lv_at hl 0 rfl) ?_
      refine lv_iload_n hx hb dL_law_573 rfl (lv_at hl 3 rfl) ?_
      refine lv_iconst (v := 3) hx hb dL_law_574 (by decide) ?_
      refine lv_iadd hx hb dL_law_575 ?_
      obtain ⟨gi, w⟩ := w
      refine va_sld hx hb hX hbl hbA hS gi dL_law_576 ?_
      have hPc := W_X_g hP
      have hDc := W_X_d (hD x y v0 v1 v2 v3 z g)
      refine va_calli (va_runV (As := [.int (sc (i3 + (1 : Int32)).toNatClampNeg), .int (sc (i3 + (2 : Int32)).toNatClampNeg), .int (sc (i3 + (3 : Int32)).toNatClampNeg)]) (rest := []) ⟨hx, hb, hml, hown, hts⟩ (met_X0_runs l dC dI ct aX a0 a1 a2 a3 _ w) (cwV 3 hts (lw_V q364 q365 q366 q48 q367) rfl rfl rfl hd_X0_runs ⟨Nat.le_of_ble_eq_true rfl, Nat.le_of_ble_eq_true rfl⟩) (pre_V hK hPc hDc hN (va_recv hK hPc (ci := 0) (q0 := 0) rfl rfl)) rfl rfl hl.1 rfl (lv_room (Nat.le_of_ble_eq_true rfl)) dL_law_577 ⟨Nat.le_of_ble_eq_true rfl, Nat.le_of_ble_eq_true rfl⟩) hS (fun q _ h => x_free hDc hS hA q h) (x_free hDc hS hA) (fun r32 u t H locs ht hvm w hB hz hk hS => ?_)
      obtain ⟨x_32, y_32, v0_32, v1_32, v2_32, v3_32⟩ := u
      dsimp only at w
      have hP := W_X_j hP (hD _ _ _ _ _ _ _ _) hk (post_P hB ht)
      have hP : va_P (dC, dI) vwCl (LWd aX a0 a1 a2 a3 aM ct x_32 y_32 v0_32 v1_32 v2_32 v3_32 z g) H := hP
      refine lv_aload_n hx hb dL_law_580 rfl (lv_at hl 2 rfl) ?_
      refine lv_aload_n hx hb dL_law_581 rfl (lv_at hl 0 rfl) ?_
      refine lv_iload_n hx hb dL_law_582 rfl (lv_at hl 3 rfl) ?_
      refine lv_iconst (v := 1) hx hb dL_law_583 (by decide) ?_
      refine lv_iadd hx hb dL_law_584 ?_
      obtain ⟨gi, w⟩ := w
      refine va_sld hx hb hX hbl hbA hS gi dL_law_585 ?_
      refine lv_aload_n hx hb dL_law_586 rfl (lv_at hl 0 rfl) ?_
      refine lv_iload_n hx hb dL_law_587 rfl (lv_at hl 3 rfl) ?_
      refine lv_iconst (v := 2) hx hb dL_law_588 (by decide) ?_
      refine lv_iadd hx hb dL_law_589 ?_
      obtain ⟨gi, w⟩ := w
      refine va_sld hx hb hX hbl hbA hS gi dL_law_590 ?_
      refine lv_aload_n hx hb dL_law_591 rfl (lv_at hl 0 rfl) ?_
      refine lv_iload_n hx hb dL_law_592 rfl (lv_at hl 3 rfl) ?_
      refine lv_iconst (v := 3) hx hb dL_law_593 (by decide) ?_
      refine lv_iadd hx hb dL_law_594 ?_
      obtain ⟨gi, w⟩ := w
      refine va_sld hx hb hX hbl hbA hS gi dL_law_595 ?_
      have hPc := W_M_g hP
      have hDc := W_M_d (hD x_32 y_32 v0_32 v1_32 v2_32 v3_32 z g)
      refine va_calli (va_runV (As := [.int (sc (i3 + (1 : Int32)).toNatClampNeg), .int (sc (i3 + (2 : Int32)).toNatClampNeg), .int (sc (i3 + (3 : Int32)).toNatClampNeg)]) (rest := [.int r32]) ⟨hx, hb, hml, hown, hts⟩ (met_X2_runs l dC dI ct aM _ w) (cwV 3 hts (lw_V q768 q769 q770 q51 q771) rfl rfl rfl hd_X2_runs ⟨Nat.le_of_ble_eq_true rfl, Nat.le_of_ble_eq_true rfl⟩) (pre_V hK hPc hDc hN (va_recv hK hPc (ci := 2) (q0 := 0) rfl rfl)) rfl rfl hl.1 rfl (lv_room (Nat.le_of_ble_eq_true rfl)) dL_law_596 ⟨Nat.le_of_ble_eq_true rfl, Nat.le_of_ble_eq_true rfl⟩) hS (fun q _ h => x_free hDc hS hA q h) (x_free hDc hS hA) (fun r33 u t H locs ht hvm w hB hz hk hS => ?_)
      obtain ⟨z_33, g_33⟩ := u
      dsimp only at w
      have hP := W_M_j hP (hD _ _ _ _ _ _ _ _) hk (post_P hB ht)
      have hP : va_P (dC, dI) vwCl (LWd aX a0 a1 a2 a3 aM ct x_32 y_32 v0_32 v1_32 v2_32 v3_32 z_33 g_33) H := hP
      refine lv_icmp_eq (tgt := 999) hx hb dL_law_599 (by decide) (fun c => ?_) (fun c => ?_)
      · have w := And.left w c
        exact wk_L_law_L999 X hD hX hbl hbA hAs hK18 _ _ _ _ _ _ _ _ _ w _ _ _ hP hS (lv_sub hl [0, 1, 2, 3] rfl)
      · have w := And.right w c
        refine lv_iconst (v := 0) hx hb dL_law_602 (by decide) ?_
        exact False.elim w
    have w := And.right w c1_15
    by_cases c1_16 : ((sc i3.toNatClampNeg) &&& (31 : Int32)) = 16
    · have w := And.left w c1_16
      refine lv_tableIn (tgt := 604) hx hb dL_law_33 (by rw [c1_16]; decide) (by rw [c1_16]; decide) (by rw [c1_16]; rfl) (by decide) ?_
      refine lv_aload_n hx hb dL_law_604 rfl (lv_at hl 1 rfl) ?_
      refine lv_aload_n hx hb dL_law_605 rfl (lv_at hl 0 rfl) ?_
      refine lv_iload_n hx hb dL_law_606 rfl (lv_at hl 3 rfl) ?_
      refine lv_iconst (v := 1) hx hb dL_law_607 (by decide) ?_
      refine lv_iadd hx hb dL_law_608 ?_
      obtain ⟨gi, w⟩ := w
      refine va_sld hx hb hX hbl hbA hS gi dL_law_609 ?_
      refine lv_aload_n hx hb dL_law_610 rfl (lv_at hl 0 rfl) ?_
      refine lv_iload_n hx hb dL_law_611 rfl (lv_at hl 3 rfl) ?_
      refine lv_iconst (v := 2) hx hb dL_law_612 (by decide) ?_
      refine lv_iadd hx hb dL_law_613 ?_
      obtain ⟨gi, w⟩ := w
      refine va_sld hx hb hX hbl hbA hS gi dL_law_614 ?_
      have hPc := W_X_g hP
      have hDc := W_X_d (hD x y v0 v1 v2 v3 z g)
      refine va_calli (va_runV (As := [.int (sc (i3 + (1 : Int32)).toNatClampNeg), .int (sc (i3 + (2 : Int32)).toNatClampNeg)]) (rest := []) ⟨hx, hb, hml, hown, hts⟩ (met_X0_wages l dC dI ct aX a0 a1 a2 a3 _ w) (cwV 2 hts (lw_V q368 q369 q370 q48 q371) rfl rfl rfl hd_X0_wages ⟨Nat.le_of_ble_eq_true rfl, Nat.le_of_ble_eq_true rfl⟩) (pre_V hK hPc hDc hN (va_recv hK hPc (ci := 0) (q0 := 0) rfl rfl)) rfl rfl hl.1 rfl (lv_room (Nat.le_of_ble_eq_true rfl)) dL_law_615 ⟨Nat.le_of_ble_eq_true rfl, Nat.le_of_ble_eq_true rfl⟩) hS (fun q _ h => x_free hDc hS hA q h) (x_free hDc hS hA) (fun r34 u t H locs ht hvm w hB hz hk hS => ?_)
      obtain ⟨x_34, y_34, v0_34, v1_34, v2_34, v3_34⟩ := u
      dsimp only at w
      have hP := W_X_j hP (hD _ _ _ _ _ _ _ _) hk (post_P hB ht)
      have hP : va_P (dC, dI) vwCl (LWd aX a0 a1 a2 a3 aM ct x_34 y_34 v0_34 v1_34 v2_34 v3_34 z g) H := hP
      refine lv_aload_n hx hb dL_law_618 rfl (lv_at hl 2 rfl) ?_
      refine lv_aload_n hx hb dL_law_619 rfl (lv_at hl 0 rfl) ?_
      refine lv_iload_n hx hb dL_law_620 rfl (lv_at hl 3 rfl) ?_
      refine lv_iconst (v := 1) hx hb dL_law_621 (by decide) ?_
      refine lv_iadd hx hb dL_law_622 ?_
      obtain ⟨gi, w⟩ := w
      refine va_sld hx hb hX hbl hbA hS gi dL_law_623 ?_
      refine lv_aload_n hx hb dL_law_624 rfl (lv_at hl 0 rfl) ?_
      refine lv_iload_n hx hb dL_law_625 rfl (lv_at hl 3 rfl) ?_
      refine lv_iconst (v := 2) hx hb dL_law_626 (by decide) ?_
      refine lv_iadd hx hb dL_law_627 ?_
      obtain ⟨gi, w⟩ := w
      refine va_sld hx hb hX hbl hbA hS gi dL_law_628 ?_
      have hPc := W_M_g hP
      have hDc := W_M_d (hD x_34 y_34 v0_34 v1_34 v2_34 v3_34 z g)
      refine va_calli (va_runV (As := [.int (sc (i3 + (1 : Int32)).toNatClampNeg), .int (sc (i3 + (2 : Int32)).toNatClampNeg)]) (rest := [.int r34]) ⟨hx, hb, hml, hown, hts⟩ (met_X2_wages l dC dI ct aM _ w) (cwV 2 hts (lw_V q773 q774 q775 q51 q776) rfl rfl rfl hd_X2_wages ⟨Nat.le_of_ble_eq_true rfl, Nat.le_of_ble_eq_true rfl⟩) (pre_V hK hPc hDc hN (va_recv hK hPc (ci := 2) (q0 := 0) rfl rfl)) rfl rfl hl.1 rfl (lv_room (Nat.le_of_ble_eq_true rfl)) dL_law_629 ⟨Nat.le_of_ble_eq_true rfl, Nat.le_of_ble_eq_true rfl⟩) hS (fun q _ h => x_free hDc hS hA q h) (x_free hDc hS hA) (fun r35 u t H locs ht hvm w hB hz hk hS => ?_)
      obtain ⟨z_35, g_35⟩ := u
      dsimp only at w
      have hP := W_M_j hP (hD _ _ _ _ _ _ _ _) hk (post_P hB ht)
      have hP : va_P (dC, dI) vwCl (LWd aX a0 a1 a2 a3 aM ct x_34 y_34 v0_34 v1_34 v2_34 v3_34 z_35 g_35) H := hP
      refine lv_icmp_eq (tgt := 999) hx hb dL_law_632 (by decide) (fun c => ?_) (fun c => ?_)
      · have w := And.left w c
        exact wk_L_law_L999 X hD hX hbl hbA hAs hK18 _ _ _ _ _ _ _ _ _ w _ _ _ hP hS (lv_sub hl [0, 1, 2, 3] rfl)
      · have w := And.right w c
        refine lv_iconst (v := 0) hx hb dL_law_635 (by decide) ?_
        exact False.elim w
    have w := And.right w c1_16
    by_cases c1_17 : ((sc i3.toNatClampNeg) &&& (31 : Int32)) = 17
    · have w := And.left w c1_17
      refine lv_tableIn (tgt := 637) hx hb dL_law_33 (by rw [c1_17]; decide) (by rw [c1_17]; decide) (by rw [c1_17]; rfl) (by decide) ?_
      refine lv_aload_n hx hb dL_law_637 rfl (lv_at hl 1 rfl) ?_
      refine lv_aload_n hx hb dL_law_638 rfl (lv_at hl 0 rfl) ?_
      refine lv_iload_n hx hb dL_law_639 rfl (lv_at hl 3 rfl) ?_
      refine lv_iconst (v := 1) hx hb dL_law_640 (by decide) ?_
      refine lv_iadd hx hb dL_law_641 ?_
      obtain ⟨gi, w⟩ := w
      refine va_sld hx hb hX hbl hbA hS gi dL_law_642 ?_
      refine lv_aload_n hx hb dL_law_643 rfl (lv_at hl 0 rfl) ?_
      refine lv_iload_n hx hb dL_law_644 rfl (lv_at hl 3 rfl) ?_
      refine lv_iconst (v := 2) hx hb dL_law_645 (by decide) ?_
      refine lv_iadd hx hb dL_law_646 ?_
      obtain ⟨gi, w⟩ := w
      refine va_sld hx hb hX hbl hbA hS gi dL_law_647 ?_
      refine lv_aload_n hx hb dL_law_648 rfl (lv_at hl 0 rfl) ?_
      refine lv_iload_n hx hb dL_law_649 rfl (lv_at hl 3 rfl) ?_
      refine lv_iconst (v := 3) hx hb dL_law_650 (by decide) ?_
      refine lv_iadd hx hb dL_law_651 ?_
      obtain ⟨gi, w⟩ := w
      refine va_sld hx hb hX hbl hbA hS gi dL_law_652 ?_
      refine lv_aload_n hx hb dL_law_653 rfl (lv_at hl 0 rfl) ?_
      refine lv_iload_n hx hb dL_law_654 rfl (lv_at hl 3 rfl) ?_
      refine lv_iconst (v := 4) hx hb dL_law_655 (by decide) ?_
      refine lv_iadd hx hb dL_law_656 ?_
      obtain ⟨gi, w⟩ := w
      refine va_sld hx hb hX hbl hbA hS gi dL_law_657 ?_
      refine lv_aload_n hx hb dL_law_658 rfl (lv_at hl 0 rfl) ?_
      refine lv_iload_n hx hb dL_law_659 rfl (lv_at hl 3 rfl) ?_
      refine lv_iconst (v := 5) hx hb dL_law_660 (by decide) ?_
      refine lv_iadd hx hb dL_law_661 ?_
      obtain ⟨gi, w⟩ := w
      refine va_sld hx hb hX hbl hbA hS gi dL_law_662 ?_
      have hPc := W_X_g hP
      have hDc := W_X_d (hD x y v0 v1 v2 v3 z g)
      refine va_calll (va_runV (As := [.int (sc (i3 + (1 : Int32)).toNatClampNeg), .int (sc (i3 + (2 : Int32)).toNatClampNeg), .int (sc (i3 + (3 : Int32)).toNatClampNeg), .int (sc (i3 + (4 : Int32)).toNatClampNeg), .int (sc (i3 + (5 : Int32)).toNatClampNeg)]) (rest := []) ⟨hx, hb, hml, hown, hts⟩ (met_X0_change l dC dI ct aX a0 a1 a2 a3 _ w) (cwV 5 hts (lw_V q376 q377 q378 q48 q379) rfl rfl rfl hd_X0_change ⟨Nat.le_of_ble_eq_true rfl, Nat.le_of_ble_eq_true rfl⟩) (pre_V hK hPc hDc hN (va_recv hK hPc (ci := 0) (q0 := 0) rfl rfl)) rfl rfl hl.1 rfl (lv_room (Nat.le_of_ble_eq_true rfl)) dL_law_663 ⟨Nat.le_of_ble_eq_true rfl, Nat.le_of_ble_eq_true rfl⟩) hS (fun q _ h => x_free hDc hS hA q h) (x_free hDc hS hA) (fun r36 u t H locs ht hvm w hB hz hk hS => ?_)
      obtain ⟨x_36, y_36, v0_36, v1_36, v2_36, v3_36⟩ := u
      dsimp only at w
      have hP := W_X_j hP (hD _ _ _ _ _ _ _ _) hk (post_P hB ht)
      have hP : va_P (dC, dI) vwCl (LWd aX a0 a1 a2 a3 aM ct x_36 y_36 v0_36 v1_36 v2_36 v3_36 z g) H := hP
      refine lv_aload_n hx hb dL_law_666 rfl (lv_at hl 2 rfl) ?_
      refine lv_aload_n hx hb dL_law_667 rfl (lv_at hl 0 rfl) ?_
      refine lv_iload_n hx hb dL_law_668 rfl (lv_at hl 3 rfl) ?_
      refine lv_iconst (v := 1) hx hb dL_law_669 (by decide) ?_
      refine lv_iadd hx hb dL_law_670 ?_
      obtain ⟨gi, w⟩ := w
      refine va_sld hx hb hX hbl hbA hS gi dL_law_671 ?_
      refine lv_aload_n hx hb dL_law_672 rfl (lv_at hl 0 rfl) ?_
      refine lv_iload_n hx hb dL_law_673 rfl (lv_at hl 3 rfl) ?_
      refine lv_iconst (v := 2) hx hb dL_law_674 (by decide) ?_
      refine lv_iadd hx hb dL_law_675 ?_
      obtain ⟨gi, w⟩ := w
      refine va_sld hx hb hX hbl hbA hS gi dL_law_676 ?_
      refine lv_aload_n hx hb dL_law_677 rfl (lv_at hl 0 rfl) ?_
      refine lv_iload_n hx hb dL_law_678 rfl (lv_at hl 3 rfl) ?_
      refine lv_iconst (v := 3) hx hb dL_law_679 (by decide) ?_
      refine lv_iadd hx hb dL_law_680 ?_
      obtain ⟨gi, w⟩ := w
      refine va_sld hx hb hX hbl hbA hS gi dL_law_681 ?_
      refine lv_aload_n hx hb dL_law_682 rfl (lv_at hl 0 rfl) ?_
      refine lv_iload_n hx hb dL_law_683 rfl (lv_at hl 3 rfl) ?_
      refine lv_iconst (v := 4) hx hb dL_law_684 (by decide) ?_
      refine lv_iadd hx hb dL_law_685 ?_
      obtain ⟨gi, w⟩ := w
      refine va_sld hx hb hX hbl hbA hS gi dL_law_686 ?_
      refine lv_aload_n hx hb dL_law_687 rfl (lv_at hl 0 rfl) ?_
      refine lv_iload_n hx hb dL_law_688 rfl (lv_at hl 3 rfl) ?_
      refine lv_iconst (v := 5) hx hb dL_law_689 (by decide) ?_
      refine lv_iadd hx hb dL_law_690 ?_
      obtain ⟨gi, w⟩ := w
      refine va_sld hx hb hX hbl hbA hS gi dL_law_691 ?_
      have hPc := W_M_g hP
      have hDc := W_M_d (hD x_36 y_36 v0_36 v1_36 v2_36 v3_36 z g)
      refine va_calll (va_runV (As := [.int (sc (i3 + (1 : Int32)).toNatClampNeg), .int (sc (i3 + (2 : Int32)).toNatClampNeg), .int (sc (i3 + (3 : Int32)).toNatClampNeg), .int (sc (i3 + (4 : Int32)).toNatClampNeg), .int (sc (i3 + (5 : Int32)).toNatClampNeg)]) (rest := [.long r36]) ⟨hx, hb, hml, hown, hts⟩ (met_X2_change l dC dI ct aM _ w) (cwV 5 hts (lw_V q779 q780 q781 q51 q782) rfl rfl rfl hd_X2_change ⟨Nat.le_of_ble_eq_true rfl, Nat.le_of_ble_eq_true rfl⟩) (pre_V hK hPc hDc hN (va_recv hK hPc (ci := 2) (q0 := 0) rfl rfl)) rfl rfl hl.1 rfl (lv_room (Nat.le_of_ble_eq_true rfl)) dL_law_692 ⟨Nat.le_of_ble_eq_true rfl, Nat.le_of_ble_eq_true rfl⟩) hS (fun q _ h => x_free hDc hS hA q h) (x_free hDc hS hA) (fun r37 u t H locs ht hvm w hB hz hk hS => ?_)
      obtain ⟨z_37, g_37⟩ := u
      dsimp only at w
      have hP := W_M_j hP (hD _ _ _ _ _ _ _ _) hk (post_P hB ht)
      have hP : va_P (dC, dI) vwCl (LWd aX a0 a1 a2 a3 aM ct x_36 y_36 v0_36 v1_36 v2_36 v3_36 z_37 g_37) H := hP
      refine W.lcmp hx hb dL_law_695 ?_
      refine lv_if_eq (tgt := 999) hx hb dL_law_696 (by decide) (fun c => ?_) (fun c => ?_)
      · have w := And.left w c
        exact wk_L_law_L999 X hD hX hbl hbA hAs hK18 _ _ _ _ _ _ _ _ _ w _ _ _ hP hS (lv_sub hl [0, 1, 2, 3] rfl)
      · have w := And.right w c
        refine lv_iconst (v := 0) hx hb dL_law_699 (by decide) ?_
        exact False.elim w
    have w := And.right w c1_17
    by_cases c1_18 : ((sc i3.toNatClampNeg) &&& (31 : Int32)) = 18
    · have w := And.left w c1_18
      refine lv_tableIn (tgt := 701) hx hb dL_law_33 (by rw [c1_18]; decide) (by rw [c1_18]; decide) (by rw [c1_18]; rfl) (by decide) ?_
      refine lv_aload_n hx hb dL_law_701 rfl (lv_at hl 1 rfl) ?_
      refine lv_aload_n hx hb dL_law_702 rfl (lv_at hl 0 rfl) ?_
      refine lv_iload_n hx hb dL_law_703 rfl (lv_at hl 3 rfl) ?_
      refine lv_iconst (v := 1) hx hb dL_law_704 (by decide) ?_
      refine lv_iadd hx hb dL_law_705 ?_
      obtain ⟨gi, w⟩ := w
      refine va_sld hx hb hX hbl hbA hS gi dL_law_706 ?_
      refine lv_aload_n hx hb dL_law_707 rfl (lv_at hl 0 rfl) ?_
      refine lv_iload_n hx hb dL_law_708 rfl (lv_at hl 3 rfl) ?_
      refine lv_iconst (v := 2) hx hb dL_law_709 (by decide) ?_
      refine lv_iadd hx hb dL_law_710 ?_
      obtain ⟨gi, w⟩ := w
      refine va_sld hx hb hX hbl hbA hS gi dL_law_711 ?_
      refine lv_aload_n hx hb dL_law_712 rfl (lv_at hl 0 rfl) ?_
      refine lv_iload_n hx hb dL_law_713 rfl (lv_at hl 3 rfl) ?_
      refine lv_iconst (v := 3) hx hb dL_law_714 (by decide) ?_
      refine lv_iadd hx hb dL_law_715 ?_
      obtain ⟨gi, w⟩ := w
      refine va_sld hx hb hX hbl hbA hS gi dL_law_716 ?_
      refine lv_aload_n hx hb dL_law_717 rfl (lv_at hl 0 rfl) ?_
      refine lv_iload_n hx hb dL_law_718 rfl (lv_at hl 3 rfl) ?_
      refine lv_iconst (v := 4) hx hb dL_law_719 (by decide) ?_
      refine lv_iadd hx hb dL_law_720 ?_
      obtain ⟨gi, w⟩ := w
      refine va_sld hx hb hX hbl hbA hS gi dL_law_721 ?_
      refine lv_aload_n hx hb dL_law_722 rfl (lv_at hl 0 rfl) ?_
      refine lv_iload_n hx hb dL_law_723 rfl (lv_at hl 3 rfl) ?_
      refine lv_iconst (v := 5) hx hb dL_law_724 (by decide) ?_
      refine lv_iadd hx hb dL_law_725 ?_
      obtain ⟨gi, w⟩ := w
      refine va_sld hx hb hX hbl hbA hS gi dL_law_726 ?_
      have hPc := W_X_g hP
      have hDc := W_X_d (hD x y v0 v1 v2 v3 z g)
      refine va_calll (va_runV (As := [.int (sc (i3 + (1 : Int32)).toNatClampNeg), .int (sc (i3 + (2 : Int32)).toNatClampNeg), .int (sc (i3 + (3 : Int32)).toNatClampNeg), .int (sc (i3 + (4 : Int32)).toNatClampNeg), .int (sc (i3 + (5 : Int32)).toNatClampNeg)]) (rest := []) ⟨hx, hb, hml, hown, hts⟩ (met_X0_sample l dC dI ct aX a0 a1 a2 a3 _ w) (cwV 5 hts (lw_V q389 q390 q391 q48 q392) rfl rfl rfl hd_X0_sample ⟨Nat.le_of_ble_eq_true rfl, Nat.le_of_ble_eq_true rfl⟩) (pre_V hK hPc hDc hN (va_recv hK hPc (ci := 0) (q0 := 0) rfl rfl)) rfl rfl hl.1 rfl (lv_room (Nat.le_of_ble_eq_true rfl)) dL_law_727 ⟨Nat.le_of_ble_eq_true rfl, Nat.le_of_ble_eq_true rfl⟩) hS (fun q _ h => x_free hDc hS hA q h) (x_free hDc hS hA) (fun r38 u t H locs ht hvm w hB hz hk hS => ?_)
      obtain ⟨x_38, y_38, v0_38, v1_38, v2_38, v3_38⟩ := u
      dsimp only at w
      have hP := W_X_j hP (hD _ _ _ _ _ _ _ _) hk (post_P hB ht)
      have hP : va_P (dC, dI) vwCl (LWd aX a0 a1 a2 a3 aM ct x_38 y_38 v0_38 v1_38 v2_38 v3_38 z g) H := hP
      refine lv_aload_n hx hb dL_law_730 rfl (lv_at hl 2 rfl) ?_
      refine lv_aload_n hx hb dL_law_731 rfl (lv_at hl 0 rfl) ?_
      refine lv_iload_n hx hb dL_law_732 rfl (lv_at hl 3 rfl) ?_
      refine lv_iconst (v := 1) hx hb dL_law_733 (by decide) ?_
      refine lv_iadd hx hb dL_law_734 ?_
      obtain ⟨gi, w⟩ := w
      refine va_sld hx hb hX hbl hbA hS gi dL_law_735 ?_
      refine lv_aload_n hx hb dL_law_736 rfl (lv_at hl 0 rfl) ?_
      refine lv_iload_n hx hb dL_law_737 rfl (lv_at hl 3 rfl) ?_
      refine lv_iconst (v := 2) hx hb dL_law_738 (by decide) ?_
      refine lv_iadd hx hb dL_law_739 ?_
      obtain ⟨gi, w⟩ := w
      refine va_sld hx hb hX hbl hbA hS gi dL_law_740 ?_
      refine lv_aload_n hx hb dL_law_741 rfl (lv_at hl 0 rfl) ?_
      refine lv_iload_n hx hb dL_law_742 rfl (lv_at hl 3 rfl) ?_
      refine lv_iconst (v := 3) hx hb dL_law_743 (by decide) ?_
      refine lv_iadd hx hb dL_law_744 ?_
      obtain ⟨gi, w⟩ := w
      refine va_sld hx hb hX hbl hbA hS gi dL_law_745 ?_
      refine lv_aload_n hx hb dL_law_746 rfl (lv_at hl 0 rfl) ?_
      refine lv_iload_n hx hb dL_law_747 rfl (lv_at hl 3 rfl) ?_
      refine lv_iconst (v := 4) hx hb dL_law_748 (by decide) ?_
      refine lv_iadd hx hb dL_law_749 ?_
      obtain ⟨gi, w⟩ := w
      refine va_sld hx hb hX hbl hbA hS gi dL_law_750 ?_
      refine lv_aload_n hx hb dL_law_751 rfl (lv_at hl 0 rfl) ?_
      refine lv_iload_n hx hb dL_law_752 rfl (lv_at hl 3 rfl) ?_
      refine lv_iconst (v := 5) hx hb dL_law_753 (by decide) ?_
      refine lv_iadd hx hb dL_law_754 ?_
      obtain ⟨gi, w⟩ := w
      refine va_sld hx hb hX hbl hbA hS gi dL_law_755 ?_
      have hPc := W_M_g hP
      have hDc := W_M_d (hD x_38 y_38 v0_38 v1_38 v2_38 v3_38 z g)
      refine va_calll (va_runV (As := [.int (sc (i3 + (1 : Int32)).toNatClampNeg), .int (sc (i3 + (2 : Int32)).toNatClampNeg), .int (sc (i3 + (3 : Int32)).toNatClampNeg), .int (sc (i3 + (4 : Int32)).toNatClampNeg), .int (sc (i3 + (5 : Int32)).toNatClampNeg)]) (rest := [.long r38]) ⟨hx, hb, hml, hown, hts⟩ (met_X2_sample l dC dI ct aM _ w) (cwV 5 hts (lw_V q789 q790 q791 q51 q792) rfl rfl rfl hd_X2_sample ⟨Nat.le_of_ble_eq_true rfl, Nat.le_of_ble_eq_true rfl⟩) (pre_V hK hPc hDc hN (va_recv hK hPc (ci := 2) (q0 := 0) rfl rfl)) rfl rfl hl.1 rfl (lv_room (Nat.le_of_ble_eq_true rfl)) dL_law_756 ⟨Nat.le_of_ble_eq_true rfl, Nat.le_of_ble_eq_true rfl⟩) hS (fun q _ h => x_free hDc hS hA q h) (x_free hDc hS hA) (fun r39 u t H locs ht hvm w hB hz hk hS => ?_)
      obtain ⟨z_39, g_39⟩ := u
      dsimp only at w
      have hP := W_M_j hP (hD _ _ _ _ _ _ _ _) hk (post_P hB ht)
      have hP : va_P (dC, dI) vwCl (LWd aX a0 a1 a2 a3 aM ct x_38 y_38 v0_38 v1_38 v2_38 v3_38 z_39 g_39) H := hP
      refine W.lcmp hx hb dL_law_759 ?_
      refine lv_if_eq (tgt := 999) hx hb dL_law_760 (by decide) (fun c => ?_) (fun c => ?_)
      · have w := And.left w c
        exact wk_L_law_L999 X hD hX hbl hbA hAs hK18 _ _ _ _ _ _ _ _ _ w _ _ _ hP hS (lv_sub hl [0, 1, 2, 3] rfl)
      · have w := And.right w c
        refine lv_iconst (v := 0) hx hb dL_law_763 (by decide) ?_
        exact False.elim w
    have w := And.right w c1_18
    by_cases c1_19 : ((sc i3.toNatClampNeg) &&& (31 : Int32)) = 19
    · have w := And.left w c1_19
      refine lv_tableIn (tgt := 765) hx hb dL_law_33 (by rw [c1_19]; decide) (by rw [c1_19]; decide) (by rw [c1_19]; rfl) (by decide) ?_
      refine lv_aload_n hx hb dL_law_765 rfl (lv_at hl 1 rfl) ?_
      refine lv_aload_n hx hb dL_law_766 rfl (lv_at hl 0 rfl) ?_
      refine lv_iload_n hx hb dL_law_767 rfl (lv_at hl 3 rfl) ?_
      refine lv_iconst (v := 1) hx hb dL_law_768 (by decide) ?_
      refine lv_iadd hx hb dL_law_769 ?_
      obtain ⟨gi, w⟩ := w
      refine va_sld hx hb hX hbl hbA hS gi dL_law_770 ?_
      refine lv_aload_n hx hb dL_law_771 rfl (lv_at hl 0 rfl) ?_
      refine lv_iload_n hx hb dL_law_772 rfl (lv_at hl 3 rfl) ?_
      refine lv_iconst (v := 2) hx hb dL_law_773 (by decide) ?_
      refine lv_iadd hx hb dL_law_774 ?_
      obtain ⟨gi, w⟩ := w
      refine va_sld hx hb hX hbl hbA hS gi dL_law_775 ?_
      refine lv_aload_n hx hb dL_law_776 rfl (lv_at hl 0 rfl) ?_
      refine lv_iload_n hx hb dL_law_777 rfl (lv_at hl 3 rfl) ?_
      refine lv_iconst (v := 3) hx hb dL_law_778 (by decide) ?_
      refine lv_iadd hx hb dL_law_779 ?_
      obtain ⟨gi, w⟩ := w
      refine va_sld hx hb hX hbl hbA hS gi dL_law_780 ?_
      have hPc := W_X_g hP
      have hDc := W_X_d (hD x y v0 v1 v2 v3 z g)
      refine va_calli (va_runV (As := [.int (sc (i3 + (1 : Int32)).toNatClampNeg), .int (sc (i3 + (2 : Int32)).toNatClampNeg), .int (sc (i3 + (3 : Int32)).toNatClampNeg)]) (rest := []) ⟨hx, hb, hml, hown, hts⟩ (met_X0_seen l dC dI ct aX a0 a1 a2 a3 _ w) (cwV 3 hts (lw_V q396 q397 q398 q48 q399) rfl rfl rfl hd_X0_seen ⟨Nat.le_of_ble_eq_true rfl, Nat.le_of_ble_eq_true rfl⟩) (pre_V hK hPc hDc hN (va_recv hK hPc (ci := 0) (q0 := 0) rfl rfl)) rfl rfl hl.1 rfl (lv_room (Nat.le_of_ble_eq_true rfl)) dL_law_781 ⟨Nat.le_of_ble_eq_true rfl, Nat.le_of_ble_eq_true rfl⟩) hS (fun q _ h => x_free hDc hS hA q h) (x_free hDc hS hA) (fun r40 u t H locs ht hvm w hB hz hk hS => ?_)
      obtain ⟨x_40, y_40, v0_40, v1_40, v2_40, v3_40⟩ := u
      dsimp only at w
      have hP := W_X_j hP (hD _ _ _ _ _ _ _ _) hk (post_P hB ht)
      have hP : va_P (dC, dI) vwCl (LWd aX a0 a1 a2 a3 aM ct x_40 y_40 v0_40 v1_40 v2_40 v3_40 z g) H := hP
      refine lv_aload_n hx hb dL_law_784 rfl (lv_at hl 2 rfl) ?_
      refine lv_aload_n hx hb dL_law_785 rfl (lv_at hl 0 rfl) ?_
      refine lv_iload_n hx hb dL_law_786 rfl (lv_at hl 3 rfl) ?_
      refine lv_iconst (v := 1) hx hb dL_law_787 (by decide) ?_
      refine lv_iadd hx hb dL_law_788 ?_
      obtain ⟨gi, w⟩ := w
      refine va_sld hx hb hX hbl hbA hS gi dL_law_789 ?_
      refine lv_aload_n hx hb dL_law_790 rfl (lv_at hl 0 rfl) ?_
      refine lv_iload_n hx hb dL_law_791 rfl (lv_at hl 3 rfl) ?_
      refine lv_iconst (v := 2) hx hb dL_law_792 (by decide) ?_
      refine lv_iadd hx hb dL_law_793 ?_
      obtain ⟨gi, w⟩ := w
      refine va_sld hx hb hX hbl hbA hS gi dL_law_794 ?_
      refine lv_aload_n hx hb dL_law_795 rfl (lv_at hl 0 rfl) ?_
      refine lv_iload_n hx hb dL_law_796 rfl (lv_at hl 3 rfl) ?_
      refine lv_iconst (v := 3) hx hb dL_law_797 (by decide) ?_
      refine lv_iadd hx hb dL_law_798 ?_
      obtain ⟨gi, w⟩ := w
      refine va_sld hx hb hX hbl hbA hS gi dL_law_799 ?_
      have hPc := W_M_g hP
      have hDc := W_M_d (hD x_40 y_40 v0_40 v1_40 v2_40 v3_40 z g)
      refine va_calli (va_runV (As := [.int (sc (i3 + (1 : Int32)).toNatClampNeg), .int (sc (i3 + (2 : Int32)).toNatClampNeg), .int (sc (i3 + (3 : Int32)).toNatClampNeg)]) (rest := [.int r40]) ⟨hx, hb, hml, hown, hts⟩ (met_X2_seen l dC dI ct aM _ w) (cwV 3 hts (lw_V q798 q799 q800 q51 q801) rfl rfl rfl hd_X2_seen ⟨Nat.le_of_ble_eq_true rfl, Nat.le_of_ble_eq_true rfl⟩) (pre_V hK hPc hDc hN (va_recv hK hPc (ci := 2) (q0 := 0) rfl rfl)) rfl rfl hl.1 rfl (lv_room (Nat.le_of_ble_eq_true rfl)) dL_law_800 ⟨Nat.le_of_ble_eq_true rfl, Nat.le_of_ble_eq_true rfl⟩) hS (fun q _ h => x_free hDc hS hA q h) (x_free hDc hS hA) (fun r41 u t H locs ht hvm w hB hz hk hS => ?_)
      obtain ⟨z_41, g_41⟩ := u
      dsimp only at w
      have hP := W_M_j hP (hD _ _ _ _ _ _ _ _) hk (post_P hB ht)
      have hP : va_P (dC, dI) vwCl (LWd aX a0 a1 a2 a3 aM ct x_40 y_40 v0_40 v1_40 v2_40 v3_40 z_41 g_41) H := hP
      refine lv_icmp_eq (tgt := 999) hx hb dL_law_803 (by decide) (fun c => ?_) (fun c => ?_)
      · have w := And.left w c
        exact wk_L_law_L999 X hD hX hbl hbA hAs hK18 _ _ _ _ _ _ _ _ _ w _ _ _ hP hS (lv_sub hl [0, 1, 2, 3] rfl)
      · have w := And.right w c
        refine lv_iconst (v := 0) hx hb dL_law_806 (by decide) ?_
        exact False.elim w
    have w := And.right w c1_19
    by_cases c1_20 : ((sc i3.toNatClampNeg) &&& (31 : Int32)) = 20
    · have w := And.left w c1_20
      refine lv_tableIn (tgt := 808) hx hb dL_law_33 (by rw [c1_20]; decide) (by rw [c1_20]; decide) (by rw [c1_20]; rfl) (by decide) ?_
      refine lv_aload_n hx hb dL_law_808 rfl (lv_at hl 1 rfl) ?_
      have hPc := W_X_g hP
      have hDc := W_X_d (hD x y v0 v1 v2 v3 z g)
      refine va_calli (va_runV (As := []) (rest := []) ⟨hx, hb, hml, hown, hts⟩ (met_X0_forget l dC dI ct aX a0 a1 a2 a3 _ w) (cwV 0 hts (lw_V q400 q401 q402 q48 q403) rfl rfl rfl hd_X0_forget ⟨Nat.le_of_ble_eq_true rfl, Nat.le_of_ble_eq_true rfl⟩) (pre_V hK hPc hDc hN (va_recv hK hPc (ci := 0) (q0 := 0) rfl rfl)) rfl rfl hl.1 rfl (lv_room (Nat.le_of_ble_eq_true rfl)) dL_law_809 ⟨Nat.le_of_ble_eq_true rfl, Nat.le_of_ble_eq_true rfl⟩) hS (fun q _ h => x_free hDc hS hA q h) (x_free hDc hS hA) (fun r42 u t H locs ht hvm w hB hz hk hS => ?_)
      obtain ⟨x_42, y_42, v0_42, v1_42, v2_42, v3_42⟩ := u
      dsimp only at w
      have hP := W_X_j hP (hD _ _ _ _ _ _ _ _) hk (post_P hB ht)
      have hP : va_P (dC, dI) vwCl (LWd aX a0 a1 a2 a3 aM ct x_42 y_42 v0_42 v1_42 v2_42 v3_42 z g) H := hP
      refine lv_aload_n hx hb dL_law_812 rfl (lv_at hl 2 rfl) ?_
      have hPc := W_M_g hP
      have hDc := W_M_d (hD x_42 y_42 v0_42 v1_42 v2_42 v3_42 z g)
      refine va_calli (va_runV (As := []) (rest := [.int r42]) ⟨hx, hb, hml, hown, hts⟩ (met_X2_forget l dC dI ct aM _ w) (cwV 0 hts (lw_V q803 q804 q805 q51 q806) rfl rfl rfl hd_X2_forget ⟨Nat.le_of_ble_eq_true rfl, Nat.le_of_ble_eq_true rfl⟩) (pre_V hK hPc hDc hN (va_recv hK hPc (ci := 2) (q0 := 0) rfl rfl)) rfl rfl hl.1 rfl (lv_room (Nat.le_of_ble_eq_true rfl)) dL_law_813 ⟨Nat.le_of_ble_eq_true rfl, Nat.le_of_ble_eq_true rfl⟩) hS (fun q _ h => x_free hDc hS hA q h) (x_free hDc hS hA) (fun r43 u t H locs ht hvm w hB hz hk hS => ?_)
      obtain ⟨z_43, g_43⟩ := u
      dsimp only at w
      have hP := W_M_j hP (hD _ _ _ _ _ _ _ _) hk (post_P hB ht)
      have hP : va_P (dC, dI) vwCl (LWd aX a0 a1 a2 a3 aM ct x_42 y_42 v0_42 v1_42 v2_42 v3_42 z_43 g_43) H := hP
      refine lv_icmp_eq (tgt := 999) hx hb dL_law_816 (by decide) (fun c => ?_) (fun c => ?_)
      · have w := And.left w c
        exact wk_L_law_L999 X hD hX hbl hbA hAs hK18 _ _ _ _ _ _ _ _ _ w _ _ _ hP hS (lv_sub hl [0, 1, 2, 3] rfl)
      · have w := And.right w c
        refine lv_iconst (v := 0) hx hb dL_law_819 (by decide) ?_
        exact False.elim w
    have w := And.right w c1_20
    by_cases c1_21 : ((sc i3.toNatClampNeg) &&& (31 : Int32)) = 21
    · have w := And.left w c1_21
      refine lv_tableIn (tgt := 821) hx hb dL_law_33 (by rw [c1_21]; decide) (by rw [c1_21]; decide) (by rw [c1_21]; rfl) (by decide) ?_
      refine lv_aload_n hx hb dL_law_821 rfl (lv_at hl 1 rfl) ?_
      refine lv_aload_n hx hb dL_law_822 rfl (lv_at hl 0 rfl) ?_
      refine lv_iload_n hx hb dL_law_823 rfl (lv_at hl 3 rfl) ?_
      refine lv_iconst (v := 1) hx hb dL_law_824 (by decide) ?_
      refine lv_iadd hx hb dL_law_825 ?_
      obtain ⟨gi, w⟩ := w
      refine va_sld hx hb hX hbl hbA hS gi dL_law_826 ?_
      refine lv_aload_n hx hb dL_law_827 rfl (lv_at hl 0 rfl) ?_
      refine lv_iload_n hx hb dL_law_828 rfl (lv_at hl 3 rfl) ?_
      refine lv_iconst (v := 2) hx hb dL_law_829 (by decide) ?_
      refine lv_iadd hx hb dL_law_830 ?_
      obtain ⟨gi, w⟩ := w
      refine va_sld hx hb hX hbl hbA hS gi dL_law_831 ?_
      have hPc := W_X_g hP
      have hDc := W_X_d (hD x y v0 v1 v2 v3 z g)
      refine va_calli (va_runV (As := [.int (sc (i3 + (1 : Int32)).toNatClampNeg), .int (sc (i3 + (2 : Int32)).toNatClampNeg)]) (rest := []) ⟨hx, hb, hml, hown, hts⟩ (met_X0_clerks l dC dI ct aX a0 a1 a2 a3 _ w) (cwV 2 hts (lw_V q404 q405 q406 q48 q407) rfl rfl rfl hd_X0_clerks ⟨Nat.le_of_ble_eq_true rfl, Nat.le_of_ble_eq_true rfl⟩) (pre_V hK hPc hDc hN (va_recv hK hPc (ci := 0) (q0 := 0) rfl rfl)) rfl rfl hl.1 rfl (lv_room (Nat.le_of_ble_eq_true rfl)) dL_law_832 ⟨Nat.le_of_ble_eq_true rfl, Nat.le_of_ble_eq_true rfl⟩) hS (fun q _ h => x_free hDc hS hA q h) (x_free hDc hS hA) (fun r44 u t H locs ht hvm w hB hz hk hS => ?_)
      obtain ⟨x_44, y_44, v0_44, v1_44, v2_44, v3_44⟩ := u
      dsimp only at w
      have hP := W_X_j hP (hD _ _ _ _ _ _ _ _) hk (post_P hB ht)
      have hP : va_P (dC, dI) vwCl (LWd aX a0 a1 a2 a3 aM ct x_44 y_44 v0_44 v1_44 v2_44 v3_44 z g) H := hP
      refine lv_aload_n hx hb dL_law_835 rfl (lv_at hl 2 rfl) ?_
      refine lv_aload_n hx hb dL_law_836 rfl (lv_at hl 0 rfl) ?_
      refine lv_iload_n hx hb dL_law_837 rfl (lv_at hl 3 rfl) ?_
      refine lv_iconst (v := 1) hx hb dL_law_838 (by decide) ?_
      refine lv_iadd hx hb dL_law_839 ?_
      obtain ⟨gi, w⟩ := w
      refine va_sld hx hb hX hbl hbA hS gi dL_law_840 ?_
      refine lv_aload_n hx hb dL_law_841 rfl (lv_at hl 0 rfl) ?_
      refine lv_iload_n hx hb dL_law_842 rfl (lv_at hl 3 rfl) ?_
      refine lv_iconst (v := 2) hx hb dL_law_843 (by decide) ?_
      refine lv_iadd hx hb dL_law_844 ?_
      obtain ⟨gi, w⟩ := w
      refine va_sld hx hb hX hbl hbA hS gi dL_law_845 ?_
      have hPc := W_M_g hP
      have hDc := W_M_d (hD x_44 y_44 v0_44 v1_44 v2_44 v3_44 z g)
      refine va_calli (va_runV (As := [.int (sc (i3 + (1 : Int32)).toNatClampNeg), .int (sc (i3 + (2 : Int32)).toNatClampNeg)]) (rest := [.int r44]) ⟨hx, hb, hml, hown, hts⟩ (met_X2_clerks l dC dI ct aM _ w) (cwV 2 hts (lw_V q807 q808 q809 q51 q810) rfl rfl rfl hd_X2_clerks ⟨Nat.le_of_ble_eq_true rfl, Nat.le_of_ble_eq_true rfl⟩) (pre_V hK hPc hDc hN (va_recv hK hPc (ci := 2) (q0 := 0) rfl rfl)) rfl rfl hl.1 rfl (lv_room (Nat.le_of_ble_eq_true rfl)) dL_law_846 ⟨Nat.le_of_ble_eq_true rfl, Nat.le_of_ble_eq_true rfl⟩) hS (fun q _ h => x_free hDc hS hA q h) (x_free hDc hS hA) (fun r45 u t H locs ht hvm w hB hz hk hS => ?_)
      obtain ⟨z_45, g_45⟩ := u
      dsimp only at w
      have hP := W_M_j hP (hD _ _ _ _ _ _ _ _) hk (post_P hB ht)
      have hP : va_P (dC, dI) vwCl (LWd aX a0 a1 a2 a3 aM ct x_44 y_44 v0_44 v1_44 v2_44 v3_44 z_45 g_45) H := hP
      refine lv_icmp_eq (tgt := 999) hx hb dL_law_849 (by decide) (fun c => ?_) (fun c => ?_)
      · have w := And.left w c
        exact wk_L_law_L999 X hD hX hbl hbA hAs hK18 _ _ _ _ _ _ _ _ _ w _ _ _ hP hS (lv_sub hl [0, 1, 2, 3] rfl)
      · have w := And.right w c
        refine lv_iconst (v := 0) hx hb dL_law_852 (by decide) ?_
        exact False.elim w
    have w := And.right w c1_21
    by_cases c1_22 : ((sc i3.toNatClampNeg) &&& (31 : Int32)) = 22
    · have w := And.left w c1_22
      refine lv_tableIn (tgt := 854) hx hb dL_law_33 (by rw [c1_22]; decide) (by rw [c1_22]; decide) (by rw [c1_22]; rfl) (by decide) ?_
      refine lv_aload_n hx hb dL_law_854 rfl (lv_at hl 1 rfl) ?_
      refine lv_aload_n hx hb dL_law_855 rfl (lv_at hl 0 rfl) ?_
      refine lv_iload_n hx hb dL_law_856 rfl (lv_at hl 3 rfl) ?_
      refine lv_iconst (v := 1) hx hb dL_law_857 (by decide) ?_
      refine lv_iadd hx hb dL_law_858 ?_
      obtain ⟨gi, w⟩ := w
      refine va_sld hx hb hX hbl hbA hS gi dL_law_859 ?_
      refine lv_aload_n hx hb dL_law_860 rfl (lv_at hl 0 rfl) ?_
      refine lv_iload_n hx hb dL_law_861 rfl (lv_at hl 3 rfl) ?_
      refine lv_iconst (v := 2) hx hb dL_law_862 (by decide) ?_
      refine lv_iadd hx hb dL_law_863 ?_
      obtain ⟨gi, w⟩ := w
      refine va_sld hx hb hX hbl hbA hS gi dL_law_864 ?_
      have hPc := W_X_g hP
      have hDc := W_X_d (hD x y v0 v1 v2 v3 z g)
      refine va_calli (va_runV (As := [.int (sc (i3 + (1 : Int32)).toNatClampNeg), .int (sc (i3 + (2 : Int32)).toNatClampNeg)]) (rest := []) ⟨hx, hb, hml, hown, hts⟩ (met_X0_count l dC dI ct aX a0 a1 a2 a3 _ w) (cwV 2 hts (lw_V q412 q413 q414 q48 q415) rfl rfl rfl hd_X0_count ⟨Nat.le_of_ble_eq_true rfl, Nat.le_of_ble_eq_true rfl⟩) (pre_V hK hPc hDc hN (va_recv hK hPc (ci := 0) (q0 := 0) rfl rfl)) rfl rfl hl.1 rfl (lv_room (Nat.le_of_ble_eq_true rfl)) dL_law_865 ⟨Nat.le_of_ble_eq_true rfl, Nat.le_of_ble_eq_true rfl⟩) hS (fun q _ h => x_free hDc hS hA q h) (x_free hDc hS hA) (fun r46 u t H locs ht hvm w hB hz hk hS => ?_)
      obtain ⟨x_46, y_46, v0_46, v1_46, v2_46, v3_46⟩ := u
      dsimp only at w
      have hP := W_X_j hP (hD _ _ _ _ _ _ _ _) hk (post_P hB ht)
      have hP : va_P (dC, dI) vwCl (LWd aX a0 a1 a2 a3 aM ct x_46 y_46 v0_46 v1_46 v2_46 v3_46 z g) H := hP
      refine lv_aload_n hx hb dL_law_868 rfl (lv_at hl 2 rfl) ?_
      refine lv_aload_n hx hb dL_law_869 rfl (lv_at hl 0 rfl) ?_
      refine lv_iload_n hx hb dL_law_870 rfl (lv_at hl 3 rfl) ?_
      refine lv_iconst (v := 1) hx hb dL_law_871 (by decide) ?_
      refine lv_iadd hx hb dL_law_872 ?_
      obtain ⟨gi, w⟩ := w
      refine va_sld hx hb hX hbl hbA hS gi dL_law_873 ?_
      refine lv_aload_n hx hb dL_law_874 rfl (lv_at hl 0 rfl) ?_
      refine lv_iload_n hx hb dL_law_875 rfl (lv_at hl 3 rfl) ?_
      refine lv_iconst (v := 2) hx hb dL_law_876 (by decide) ?_
      refine lv_iadd hx hb dL_law_877 ?_
      obtain ⟨gi, w⟩ := w
      refine va_sld hx hb hX hbl hbA hS gi dL_law_878 ?_
      have hPc := W_M_g hP
      have hDc := W_M_d (hD x_46 y_46 v0_46 v1_46 v2_46 v3_46 z g)
      refine va_calli (va_runV (As := [.int (sc (i3 + (1 : Int32)).toNatClampNeg), .int (sc (i3 + (2 : Int32)).toNatClampNeg)]) (rest := [.int r46]) ⟨hx, hb, hml, hown, hts⟩ (met_X2_count l dC dI ct aM _ w) (cwV 2 hts (lw_V q818 q819 q820 q51 q821) rfl rfl rfl hd_X2_count ⟨Nat.le_of_ble_eq_true rfl, Nat.le_of_ble_eq_true rfl⟩) (pre_V hK hPc hDc hN (va_recv hK hPc (ci := 2) (q0 := 0) rfl rfl)) rfl rfl hl.1 rfl (lv_room (Nat.le_of_ble_eq_true rfl)) dL_law_879 ⟨Nat.le_of_ble_eq_true rfl, Nat.le_of_ble_eq_true rfl⟩) hS (fun q _ h => x_free hDc hS hA q h) (x_free hDc hS hA) (fun r47 u t H locs ht hvm w hB hz hk hS => ?_)
      obtain ⟨z_47, g_47⟩ := u
      dsimp only at w
      have hP := W_M_j hP (hD _ _ _ _ _ _ _ _) hk (post_P hB ht)
      have hP : va_P (dC, dI) vwCl (LWd aX a0 a1 a2 a3 aM ct x_46 y_46 v0_46 v1_46 v2_46 v3_46 z_47 g_47) H := hP
      refine lv_icmp_eq (tgt := 999) hx hb dL_law_882 (by decide) (fun c => ?_) (fun c => ?_)
      · have w := And.left w c
        exact wk_L_law_L999 X hD hX hbl hbA hAs hK18 _ _ _ _ _ _ _ _ _ w _ _ _ hP hS (lv_sub hl [0, 1, 2, 3] rfl)
      · have w := And.right w c
        refine lv_iconst (v := 0) hx hb dL_law_885 (by decide) ?_
        exact False.elim w
    have w := And.right w c1_22
    by_cases c1_23 : ((sc i3.toNatClampNeg) &&& (31 : Int32)) = 23
    · have w := And.left w c1_23
      refine lv_tableIn (tgt := 887) hx hb dL_law_33 (by rw [c1_23]; decide) (by rw [c1_23]; decide) (by rw [c1_23]; rfl) (by decide) ?_
      refine lv_aload_n hx hb dL_law_887 rfl (lv_at hl 1 rfl) ?_
      refine lv_aload_n hx hb dL_law_888 rfl (lv_at hl 0 rfl) ?_
      refine lv_iload_n hx hb dL_law_889 rfl (lv_at hl 3 rfl) ?_
      refine lv_iconst (v := 1) hx hb dL_law_890 (by decide) ?_
      refine lv_iadd hx hb dL_law_891 ?_
      obtain ⟨gi, w⟩ := w
      refine va_sld hx hb hX hbl hbA hS gi dL_law_892 ?_
      refine lv_aload_n hx hb dL_law_893 rfl (lv_at hl 0 rfl) ?_
      refine lv_iload_n hx hb dL_law_894 rfl (lv_at hl 3 rfl) ?_
      refine lv_iconst (v := 2) hx hb dL_law_895 (by decide) ?_
      refine lv_iadd hx hb dL_law_896 ?_
      obtain ⟨gi, w⟩ := w
      refine va_sld hx hb hX hbl hbA hS gi dL_law_897 ?_
      refine lv_aload_n hx hb dL_law_898 rfl (lv_at hl 0 rfl) ?_
      refine lv_iload_n hx hb dL_law_899 rfl (lv_at hl 3 rfl) ?_
      refine lv_iconst (v := 3) hx hb dL_law_900 (by decide) ?_
      refine lv_iadd hx hb dL_law_901 ?_
      obtain ⟨gi, w⟩ := w
      refine va_sld hx hb hX hbl hbA hS gi dL_law_902 ?_
      have hPc := W_X_g hP
      have hDc := W_X_d (hD x y v0 v1 v2 v3 z g)
      refine va_calli (va_runV (As := [.int (sc (i3 + (1 : Int32)).toNatClampNeg), .int (sc (i3 + (2 : Int32)).toNatClampNeg), .int (sc (i3 + (3 : Int32)).toNatClampNeg)]) (rest := []) ⟨hx, hb, hml, hown, hts⟩ (met_X0_year l dC dI ct aX a0 a1 a2 a3 _ w) (cwV 3 hts (lw_V q418 q419 q420 q48 q421) rfl rfl rfl hd_X0_year ⟨Nat.le_of_ble_eq_true rfl, Nat.le_of_ble_eq_true rfl⟩) (pre_V hK hPc hDc hN (va_recv hK hPc (ci := 0) (q0 := 0) rfl rfl)) rfl rfl hl.1 rfl (lv_room (Nat.le_of_ble_eq_true rfl)) dL_law_903 ⟨Nat.le_of_ble_eq_true rfl, Nat.le_of_ble_eq_true rfl⟩) hS (fun q _ h => x_free hDc hS hA q h) (x_free hDc hS hA) (fun r48 u t H locs ht hvm w hB hz hk hS => ?_)
      obtain ⟨x_48, y_48, v0_48, v1_48, v2_48, v3_48⟩ := u
      dsimp only at w
      have hP := W_X_j hP (hD _ _ _ _ _ _ _ _) hk (post_P hB ht)
      have hP : va_P (dC, dI) vwCl (LWd aX a0 a1 a2 a3 aM ct x_48 y_48 v0_48 v1_48 v2_48 v3_48 z g) H := hP
      refine lv_aload_n hx hb dL_law_906 rfl (lv_at hl 2 rfl) ?_
      refine lv_aload_n hx hb dL_law_907 rfl (lv_at hl 0 rfl) ?_
      refine lv_iload_n hx hb dL_law_908 rfl (lv_at hl 3 rfl) ?_
      refine lv_iconst (v := 1) hx hb dL_law_909 (by decide) ?_
      refine lv_iadd hx hb dL_law_910 ?_
      obtain ⟨gi, w⟩ := w
      refine va_sld hx hb hX hbl hbA hS gi dL_law_911 ?_
      refine lv_aload_n hx hb dL_law_912 rfl (lv_at hl 0 rfl) ?_
      refine lv_iload_n hx hb dL_law_913 rfl (lv_at hl 3 rfl) ?_
      refine lv_iconst (v := 2) hx hb dL_law_914 (by decide) ?_
      refine lv_iadd hx hb dL_law_915 ?_
      obtain ⟨gi, w⟩ := w
      refine va_sld hx hb hX hbl hbA hS gi dL_law_916 ?_
      refine lv_aload_n hx hb dL_law_917 rfl (lv_at hl 0 rfl) ?_
      refine lv_iload_n hx hb dL_law_918 rfl (lv_at hl 3 rfl) ?_
      refine lv_iconst (v := 3) hx hb dL_law_919 (by decide) ?_
      refine lv_iadd hx hb dL_law_920 ?_
      obtain ⟨gi, w⟩ := w
      refine va_sld hx hb hX hbl hbA hS gi dL_law_921 ?_
      have hPc := W_M_g hP
      have hDc := W_M_d (hD x_48 y_48 v0_48 v1_48 v2_48 v3_48 z g)
      refine va_calli (va_runV (As := [.int (sc (i3 + (1 : Int32)).toNatClampNeg), .int (sc (i3 + (2 : Int32)).toNatClampNeg), .int (sc (i3 + (3 : Int32)).toNatClampNeg)]) (rest := [.int r48]) ⟨hx, hb, hml, hown, hts⟩ (met_X2_year l dC dI ct aM _ w) (cwV 3 hts (lw_V q826 q827 q828 q51 q829) rfl rfl rfl hd_X2_year ⟨Nat.le_of_ble_eq_true rfl, Nat.le_of_ble_eq_true rfl⟩) (pre_V hK hPc hDc hN (va_recv hK hPc (ci := 2) (q0 := 0) rfl rfl)) rfl rfl hl.1 rfl (lv_room (Nat.le_of_ble_eq_true rfl)) dL_law_922 ⟨Nat.le_of_ble_eq_true rfl, Nat.le_of_ble_eq_true rfl⟩) hS (fun q _ h => x_free hDc hS hA q h) (x_free hDc hS hA) (fun r49 u t H locs ht hvm w hB hz hk hS => ?_)
      obtain ⟨z_49, g_49⟩ := u
      dsimp only at w
      have hP := W_M_j hP (hD _ _ _ _ _ _ _ _) hk (post_P hB ht)
      have hP : va_P (dC, dI) vwCl (LWd aX a0 a1 a2 a3 aM ct x_48 y_48 v0_48 v1_48 v2_48 v3_48 z_49 g_49) H := hP
      refine lv_icmp_eq (tgt := 999) hx hb dL_law_925 (by decide) (fun c => ?_) (fun c => ?_)
      · have w := And.left w c
        exact wk_L_law_L999 X hD hX hbl hbA hAs hK18 _ _ _ _ _ _ _ _ _ w _ _ _ hP hS (lv_sub hl [0, 1, 2, 3] rfl)
      · have w := And.right w c
        refine lv_iconst (v := 0) hx hb dL_law_928 (by decide) ?_
        exact False.elim w
    have w := And.right w c1_23
    by_cases c1_24 : ((sc i3.toNatClampNeg) &&& (31 : Int32)) = 24
    · have w := And.left w c1_24
      refine lv_tableIn (tgt := 930) hx hb dL_law_33 (by rw [c1_24]; decide) (by rw [c1_24]; decide) (by rw [c1_24]; rfl) (by decide) ?_
      refine lv_aload_n hx hb dL_law_930 rfl (lv_at hl 1 rfl) ?_
      refine lv_aload_n hx hb dL_law_931 rfl (lv_at hl 0 rfl) ?_
      refine lv_iload_n hx hb dL_law_932 rfl (lv_at hl 3 rfl) ?_
      refine lv_iconst (v := 1) hx hb dL_law_933 (by decide) ?_
      refine lv_iadd hx hb dL_law_934 ?_
      obtain ⟨gi, w⟩ := w
      refine va_sld hx hb hX hbl hbA hS gi dL_law_935 ?_
      have hPc := W_X_g hP
      have hDc := W_X_d (hD x y v0 v1 v2 v3 z g)
      refine va_calli (va_runV (As := [.int (sc (i3 + (1 : Int32)).toNatClampNeg)]) (rest := []) ⟨hx, hb, hml, hown, hts⟩ (met_X0_image l dC dI ct aX a0 a1 a2 a3 _ w) (cwV 1 hts (lw_V q428 q429 q430 q48 q431) rfl rfl rfl hd_X0_image ⟨Nat.le_of_ble_eq_true rfl, Nat.le_of_ble_eq_true rfl⟩) (pre_V hK hPc hDc hN (va_recv hK hPc (ci := 0) (q0 := 0) rfl rfl)) rfl rfl hl.1 rfl (lv_room (Nat.le_of_ble_eq_true rfl)) dL_law_936 ⟨Nat.le_of_ble_eq_true rfl, Nat.le_of_ble_eq_true rfl⟩) hS (fun q _ h => x_free hDc hS hA q h) (x_free hDc hS hA) (fun r50 u t H locs ht hvm w hB hz hk hS => ?_)
      obtain ⟨x_50, y_50, v0_50, v1_50, v2_50, v3_50⟩ := u
      dsimp only at w
      have hP := W_X_j hP (hD _ _ _ _ _ _ _ _) hk (post_P hB ht)
      have hP : va_P (dC, dI) vwCl (LWd aX a0 a1 a2 a3 aM ct x_50 y_50 v0_50 v1_50 v2_50 v3_50 z g) H := hP
      refine lv_aload_n hx hb dL_law_939 rfl (lv_at hl 2 rfl) ?_
      refine lv_aload_n hx hb dL_law_940 rfl (lv_at hl 0 rfl) ?_
      refine lv_iload_n hx hb dL_law_941 rfl (lv_at hl 3 rfl) ?_
      refine lv_iconst (v := 1) hx hb dL_law_942 (by decide) ?_
      refine lv_iadd hx hb dL_law_943 ?_
      obtain ⟨gi, w⟩ := w
      refine va_sld hx hb hX hbl hbA hS gi dL_law_944 ?_
      have hPc := W_M_g hP
      have hDc := W_M_d (hD x_50 y_50 v0_50 v1_50 v2_50 v3_50 z g)
      refine va_calli (va_runV (As := [.int (sc (i3 + (1 : Int32)).toNatClampNeg)]) (rest := [.int r50]) ⟨hx, hb, hml, hown, hts⟩ (met_X2_image l dC dI ct aM _ w) (cwV 1 hts (lw_V q839 q840 q841 q51 q842) rfl rfl rfl hd_X2_image ⟨Nat.le_of_ble_eq_true rfl, Nat.le_of_ble_eq_true rfl⟩) (pre_V hK hPc hDc hN (va_recv hK hPc (ci := 2) (q0 := 0) rfl rfl)) rfl rfl hl.1 rfl (lv_room (Nat.le_of_ble_eq_true rfl)) dL_law_945 ⟨Nat.le_of_ble_eq_true rfl, Nat.le_of_ble_eq_true rfl⟩) hS (fun q _ h => x_free hDc hS hA q h) (x_free hDc hS hA) (fun r51 u t H locs ht hvm w hB hz hk hS => ?_)
      obtain ⟨z_51, g_51⟩ := u
      dsimp only at w
      have hP := W_M_j hP (hD _ _ _ _ _ _ _ _) hk (post_P hB ht)
      have hP : va_P (dC, dI) vwCl (LWd aX a0 a1 a2 a3 aM ct x_50 y_50 v0_50 v1_50 v2_50 v3_50 z_51 g_51) H := hP
      refine lv_icmp_eq (tgt := 999) hx hb dL_law_948 (by decide) (fun c => ?_) (fun c => ?_)
      · have w := And.left w c
        exact wk_L_law_L999 X hD hX hbl hbA hAs hK18 _ _ _ _ _ _ _ _ _ w _ _ _ hP hS (lv_sub hl [0, 1, 2, 3] rfl)
      · have w := And.right w c
        refine lv_iconst (v := 0) hx hb dL_law_951 (by decide) ?_
        exact False.elim w
    have w := And.right w c1_24
    by_cases c1_25 : ((sc i3.toNatClampNeg) &&& (31 : Int32)) = 25
    · have w := And.left w c1_25
      refine lv_tableIn (tgt := 953) hx hb dL_law_33 (by rw [c1_25]; decide) (by rw [c1_25]; decide) (by rw [c1_25]; rfl) (by decide) ?_
      refine lv_aload_n hx hb dL_law_953 rfl (lv_at hl 1 rfl) ?_
      refine lv_aload_n hx hb dL_law_954 rfl (lv_at hl 0 rfl) ?_
      refine lv_iload_n hx hb dL_law_955 rfl (lv_at hl 3 rfl) ?_
      refine lv_iconst (v := 1) hx hb dL_law_956 (by decide) ?_
      refine lv_iadd hx hb dL_law_957 ?_
      obtain ⟨gi, w⟩ := w
      refine va_sld hx hb hX hbl hbA hS gi dL_law_958 ?_
      have hPc := W_X_g hP
      have hDc := W_X_d (hD x y v0 v1 v2 v3 z g)
      refine va_calli (va_runV (As := [.int (sc (i3 + (1 : Int32)).toNatClampNeg)]) (rest := []) ⟨hx, hb, hml, hown, hts⟩ (met_X0_restore l dC dI ct aX a0 a1 a2 a3 _ w) (cwV 1 hts (lw_V q432 q433 q434 q48 q435) rfl rfl rfl hd_X0_restore ⟨Nat.le_of_ble_eq_true rfl, Nat.le_of_ble_eq_true rfl⟩) (pre_V hK hPc hDc hN (va_recv hK hPc (ci := 0) (q0 := 0) rfl rfl)) rfl rfl hl.1 rfl (lv_room (Nat.le_of_ble_eq_true rfl)) dL_law_959 ⟨Nat.le_of_ble_eq_true rfl, Nat.le_of_ble_eq_true rfl⟩) hS (fun q _ h => x_free hDc hS hA q h) (x_free hDc hS hA) (fun r52 u t H locs ht hvm w hB hz hk hS => ?_)
      obtain ⟨x_52, y_52, v0_52, v1_52, v2_52, v3_52⟩ := u
      dsimp only at w
      have hP := W_X_j hP (hD _ _ _ _ _ _ _ _) hk (post_P hB ht)
      have hP : va_P (dC, dI) vwCl (LWd aX a0 a1 a2 a3 aM ct x_52 y_52 v0_52 v1_52 v2_52 v3_52 z g) H := hP
      refine lv_aload_n hx hb dL_law_962 rfl (lv_at hl 2 rfl) ?_
      refine lv_aload_n hx hb dL_law_963 rfl (lv_at hl 0 rfl) ?_
      refine lv_iload_n hx hb dL_law_964 rfl (lv_at hl 3 rfl) ?_
      refine lv_iconst (v := 1) hx hb dL_law_965 (by decide) ?_
      refine lv_iadd hx hb dL_law_966 ?_
      obtain ⟨gi, w⟩ := w
      refine va_sld hx hb hX hbl hbA hS gi dL_law_967 ?_
      have hPc := W_M_g hP
      have hDc := W_M_d (hD x_52 y_52 v0_52 v1_52 v2_52 v3_52 z g)
      refine va_calli (va_runV (As := [.int (sc (i3 + (1 : Int32)).toNatClampNeg)]) (rest := [.int r52]) ⟨hx, hb, hml, hown, hts⟩ (met_X2_restore l dC dI ct aM _ w) (cwV 1 hts (lw_V q855 q856 q857 q51 q858) rfl rfl rfl hd_X2_restore ⟨Nat.le_of_ble_eq_true rfl, Nat.le_of_ble_eq_true rfl⟩) (pre_V hK hPc hDc hN (va_recv hK hPc (ci := 2) (q0 := 0) rfl rfl)) rfl rfl hl.1 rfl (lv_room (Nat.le_of_ble_eq_true rfl)) dL_law_968 ⟨Nat.le_of_ble_eq_true rfl, Nat.le_of_ble_eq_true rfl⟩) hS (fun q _ h => x_free hDc hS hA q h) (x_free hDc hS hA) (fun r53 u t H locs ht hvm w hB hz hk hS => ?_)
      obtain ⟨z_53, g_53⟩ := u
      dsimp only at w
      have hP := W_M_j hP (hD _ _ _ _ _ _ _ _) hk (post_P hB ht)
      have hP : va_P (dC, dI) vwCl (LWd aX a0 a1 a2 a3 aM ct x_52 y_52 v0_52 v1_52 v2_52 v3_52 z_53 g_53) H := hP
      refine lv_icmp_eq (tgt := 999) hx hb dL_law_971 (by decide) (fun c => ?_) (fun c => ?_)
      · have w := And.left w c
        exact wk_L_law_L999 X hD hX hbl hbA hAs hK18 _ _ _ _ _ _ _ _ _ w _ _ _ hP hS (lv_sub hl [0, 1, 2, 3] rfl)
      · have w := And.right w c
        refine lv_iconst (v := 0) hx hb dL_law_974 (by decide) ?_
        exact False.elim w
    have w := And.right w c1_25
    by_cases c1_26 : ((sc i3.toNatClampNeg) &&& (31 : Int32)) = 26
    · have w := And.left w c1_26
      refine lv_tableIn (tgt := 976) hx hb dL_law_33 (by rw [c1_26]; decide) (by rw [c1_26]; decide) (by rw [c1_26]; rfl) (by decide) ?_
      refine lv_aload_n hx hb dL_law_976 rfl (lv_at hl 1 rfl) ?_
      refine lv_aload_n hx hb dL_law_977 rfl (lv_at hl 0 rfl) ?_
      refine lv_iload_n hx hb dL_law_978 rfl (lv_at hl 3 rfl) ?_
      refine lv_iconst (v := 1) hx hb dL_law_979 (by decide) ?_
      refine lv_iadd hx hb dL_law_980 ?_
      obtain ⟨gi, w⟩ := w
      refine va_sld hx hb hX hbl hbA hS gi dL_law_981 ?_
      have hPc := W_X_g hP
      have hDc := W_X_d (hD x y v0 v1 v2 v3 z g)
      refine va_calli (va_runV (As := [.int (sc (i3 + (1 : Int32)).toNatClampNeg)]) (rest := []) ⟨hx, hb, hml, hown, hts⟩ (met_X0_told l dC dI ct aX a0 a1 a2 a3 _ w) (cwV 1 hts (lw_V q436 q437 q438 q48 q439) rfl rfl rfl hd_X0_told ⟨Nat.le_of_ble_eq_true rfl, Nat.le_of_ble_eq_true rfl⟩) (pre_V hK hPc hDc hN (va_recv hK hPc (ci := 0) (q0 := 0) rfl rfl)) rfl rfl hl.1 rfl (lv_room (Nat.le_of_ble_eq_true rfl)) dL_law_982 ⟨Nat.le_of_ble_eq_true rfl, Nat.le_of_ble_eq_true rfl⟩) hS (fun q _ h => x_free hDc hS hA q h) (x_free hDc hS hA) (fun r54 u t H locs ht hvm w hB hz hk hS => ?_)
      obtain ⟨x_54, y_54, v0_54, v1_54, v2_54, v3_54⟩ := u
      dsimp only at w
      have hP := W_X_j hP (hD _ _ _ _ _ _ _ _) hk (post_P hB ht)
      have hP : va_P (dC, dI) vwCl (LWd aX a0 a1 a2 a3 aM ct x_54 y_54 v0_54 v1_54 v2_54 v3_54 z g) H := hP
      refine lv_aload_n hx hb dL_law_985 rfl (lv_at hl 2 rfl) ?_
      refine lv_aload_n hx hb dL_law_986 rfl (lv_at hl 0 rfl) ?_
      refine lv_iload_n hx hb dL_law_987 rfl (lv_at hl 3 rfl) ?_
      refine lv_iconst (v := 1) hx hb dL_law_988 (by decide) ?_
      refine lv_iadd hx hb dL_law_989 ?_
      obtain ⟨gi, w⟩ := w
      refine va_sld hx hb hX hbl hbA hS gi dL_law_990 ?_
      have hPc := W_M_g hP
      have hDc := W_M_d (hD x_54 y_54 v0_54 v1_54 v2_54 v3_54 z g)
      refine va_calli (va_runV (As := [.int (sc (i3 + (1 : Int32)).toNatClampNeg)]) (rest := [.int r54]) ⟨hx, hb, hml, hown, hts⟩ (met_X2_told l dC dI ct aM _ w) (cwV 1 hts (lw_V q859 q860 q861 q51 q862) rfl rfl rfl hd_X2_told ⟨Nat.le_of_ble_eq_true rfl, Nat.le_of_ble_eq_true rfl⟩) (pre_V hK hPc hDc hN (va_recv hK hPc (ci := 2) (q0 := 0) rfl rfl)) rfl rfl hl.1 rfl (lv_room (Nat.le_of_ble_eq_true rfl)) dL_law_991 ⟨Nat.le_of_ble_eq_true rfl, Nat.le_of_ble_eq_true rfl⟩) hS (fun q _ h => x_free hDc hS hA q h) (x_free hDc hS hA) (fun r55 u t H locs ht hvm w hB hz hk hS => ?_)
      obtain ⟨z_55, g_55⟩ := u
      dsimp only at w
      have hP := W_M_j hP (hD _ _ _ _ _ _ _ _) hk (post_P hB ht)
      have hP : va_P (dC, dI) vwCl (LWd aX a0 a1 a2 a3 aM ct x_54 y_54 v0_54 v1_54 v2_54 v3_54 z_55 g_55) H := hP
      refine lv_icmp_eq (tgt := 999) hx hb dL_law_994 (by decide) (fun c => ?_) (fun c => ?_)
      · have w := And.left w c
        exact wk_L_law_L999 X hD hX hbl hbA hAs hK18 _ _ _ _ _ _ _ _ _ w _ _ _ hP hS (lv_sub hl [0, 1, 2, 3] rfl)
      · have w := And.right w c
        refine lv_iconst (v := 0) hx hb dL_law_997 (by decide) ?_
        exact False.elim w
    have w := And.right w c1_26
    refine lv_tableOut (tgt := 999) hx hb dL_law_33 (by have h0 := lv_neT c1_0 (a := 0) (by decide); have h1 := lv_neT c1_1 (a := 1) (by decide); have h2 := lv_neT c1_2 (a := 2) (by decide); have h3 := lv_neT c1_3 (a := 3) (by decide); have h4 := lv_neT c1_4 (a := 4) (by decide); have h5 := lv_neT c1_5 (a := 5) (by decide); have h6 := lv_neT c1_6 (a := 6) (by decide); have h7 := lv_neT c1_7 (a := 7) (by decide); have h8 := lv_neT c1_8 (a := 8) (by decide); have h9 := lv_neT c1_9 (a := 9) (by decide); have h10 := lv_neT c1_10 (a := 10) (by decide); have h11 := lv_neT c1_11 (a := 11) (by decide); have h12 := lv_neT c1_12 (a := 12) (by decide); have h13 := lv_neT c1_13 (a := 13) (by decide); have h14 := lv_neT c1_14 (a := 14) (by decide); have h15 := lv_neT c1_15 (a := 15) (by decide); have h16 := lv_neT c1_16 (a := 16) (by decide); have h17 := lv_neT c1_17 (a := 17) (by decide); have h18 := lv_neT c1_18 (a := 18) (by decide); have h19 := lv_neT c1_19 (a := 19) (by decide); have h20 := lv_neT c1_20 (a := 20) (by decide); have h21 := lv_neT c1_21 (a := 21) (by decide); have h22 := lv_neT c1_22 (a := 22) (by decide); have h23 := lv_neT c1_23 (a := 23) (by decide); have h24 := lv_neT c1_24 (a := 24) (by decide); have h25 := lv_neT c1_25 (a := 25) (by decide); have h26 := lv_neT c1_26 (a := 26) (by decide); omega) (by decide) ?_
    exact wk_L_law_L999 X hD hX hbl hbA hAs hK18 _ _ _ _ _ _ _ _ _ w _ _ _ hP hS (lv_sub hl [0, 1, 2, 3] rfl)
set_option maxHeartbeats 4000000 in
set_option maxRecDepth 100000 in
theorem wk_L_law_L18 {p : Program} {l : Launch} {e : Env} {s : State} {m : MethodId} {below : List Frame} {meth : Method} {c : Code} {dC : Nat → ClassId} {dI : Nat → Nat → Nat} {ct : Nat → ClassId} {A : Nat → Prop} {b : Nat} {n0 : Nat} {sc : Nat → Int32} {aX : Nat → Nat} {a0 : Nat → Nat} {a1 : Nat → Nat} {a2 : Nat → Nat} {a3 : Nat → Nat} {aM : Nat → Nat} {Post : Int32 → Prop}   (X : CxW p s m #[Value.ref b] meth c cL_law 4 ret R_law dC dI ct A) (hD : ∀ (x : V) (y : VL) (v0 : V) (v1 : V) (v2 : V) (v3 : V) (z : V) (g : VL), va_D A (LWd aX a0 a1 a2 a3 aM ct x y v0 v1 v2 v3 z g)) (hX : va_X b n0 sc s s.heap) (hbl : b < s.heap.size) (hbA : ¬ A b) (hAs : ∀ q, A q → s.heap.size ≤ q)  : ∀ (n : Nat) (i3 : Int32) (x : V) (y : VL) (v0 : V) (v1 : V) (v2 : V) (v3 : V) (z : V) (g : VL), wp_L_law_L18 n0 sc Post  n i3 x y v0 v1 v2 v3 z g → ∀ (H : Heap) (locs : List Loc) (ls : Array Slot), va_P (dC, dI) vwCl (LWd aX a0 a1 a2 a3 aM ct x y v0 v1 v2 v3 z g) H → va_S A s.heap H locs → lv_has ls 4 [(0, .ref b), (1, .ref (aX 0)), (2, .ref (aM 0)), (3, .int i3)] → W p l e room_1 s m #[Value.ref b] below meth c H locs mcW msW (lw_Z below #[Value.ref b] s) (F0 m 18 ls []) := by
  intro n
  induction n with
  | zero => intro i3 x y v0 v1 v2 v3 z g w; exact False.elim w
  | succ n ih => intro i3 x y v0 v1 v2 v3 z g w H locs ls hP hS hl; exact wk_L_law_S18 X hD hX hbl hbA hAs  ih i3 x y v0 v1 v2 v3 z g w H locs ls hP hS hl
