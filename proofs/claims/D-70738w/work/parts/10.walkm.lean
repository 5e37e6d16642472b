abbrev rm_X2_one : Room := { frames := 2, cells := 0, slots := 0, locals := 45 }
theorem hd_X2_one : yX2_one.cls = RX2 ∧ yX2_one.cls ≠ "java/lang/invoke/MethodHandle" ∧ yX2_one.cls ≠ "java/lang/invoke/VarHandle" ∧ (parseMethodDescriptor yX2_one.desc).map (fun d => d.parameters.length) = some 3 := by decide +kernel
set_option maxHeartbeats 4000000 in
set_option maxRecDepth 100000 in
theorem wk_X2_one_L33 {p : Program} {l : Launch} {e : Env} {s : State} {m : MethodId} {args : Array Value} {below : List Frame} {meth : Method} {c : Code} {dC : Nat → ClassId} {dI : Nat → Nat → Nat} {ct : Nat → ClassId} {A : Nat → Prop} {a : Nat → Nat} {Post : Int32 → V → VL → Prop}   (X : CxW p s m args meth c cX2_one 5 (some .int) RX2 dC dI ct A) (hD : ∀ (z : V) (g : VL), va_D A (MW a ct z g))  (z : V) (g : VL) (w : wp_X2_one_L33  Post  z g) : ∀ (H : Heap) (locs : List Loc) (ls : Array Slot), va_P (dC, dI) vwCl (MW a ct z g) H → va_S A s.heap H locs → lv_has ls 5 [] → W p l e rm_X2_one s m args below meth c H locs 0 0 (MQ below (va_Qi (fun (r : Int32) (u : V × VL) => Post r u.1 u.2) (fun (u : V × VL) t => WPos dC dI ct (MW a ct u.1 u.2) A t) A) args s 0 0 A) (F0 m 33 ls []) := by
  intro H locs ls hP hS hl
  have X0 := X
  obtain ⟨⟨hx, hb, hml, hr, hlk, hown, hts⟩, hA, hK, hN⟩ := X0
  unfold wp_X2_one_L33 at w
  refine lv_bipush (v := -2) hx hb dX2_one_33 (by decide) ?_
  exact W.iret (v := (-2 : Int32)) hx hb hr (fun t ht hW => ⟨⟨(-2 : Int32), (z, g), rfl, w, by rw [ht]; exact hP, va_K.moved hW.alike hK, (hD _ _)⟩, hS.F ht⟩) hS.2.2 dX2_one_35 hlk
set_option maxHeartbeats 4000000 in
set_option maxRecDepth 100000 in
theorem met_X2_one (l : Launch) (dC : Nat → ClassId) (dI : Nat → Nat → Nat) (ct : Nat → ClassId) (a : Nat → Nat) (sz : Nat) {i1 : Int32} {i2 : Int32} {i3 : Int32} {z : V} {g : VL} {Post : Int32 → V → VL → Prop} (w : wp_X2_one i1 i2 i3 z g Post) : Met l yX2_one (ws_ yX2_one cX2_one 5 (some .int)) rm_X2_one (va_Pc [.ref (a 0), .int i1, .int i2, .int i3] (fun U => WPre dC dI ct (MW a ct z g) sz U)) ((fun A => (va_Qi (fun (r : Int32) (u : V × VL) => Post r u.1 u.2) (fun (u : V × VL) t => WPos dC dI ct (MW a ct u.1 u.2) A t) A)) (va_A (MW a ct z g) sz)) 0 0 (va_A (MW a ct z g) sz) := by
  refine open_W (fun A => (va_Qi (fun (r : Int32) (u : V × VL) => Post r u.1 u.2) (fun (u : V × VL) t => WPos dC dI ct (MW a ct u.1 u.2) A t) A)) (by decide) (Nat.le_of_ble_eq_true rfl) ?_
  intro p e s m args below meth c ls A X hD0 hP hS hl
  have X0 := X
  obtain ⟨⟨hx, hb, hml, hr, hlk, hown, hts⟩, hA, hK, hN⟩ := X0
  have hD : ∀ (z' : V) (g' : VL), va_D A (MW a ct z' g') := fun z' g' => va_D_addr hD0 rfl
  have hl : lv_has ls 5 [(0, .ref (a 0)), (1, .int i1), (2, .int i2), (3, .int i3)] := hl
  unfold wp_X2_one at w
  have hS0 := hS
  refine lv_iload_n hx hb dX2_one_0 rfl (lv_at hl 1 rfl) ?_
  refine vp_callSi (W.runS (As := [.int i1]) (rest := []) ⟨hx, hb, hml, hown, hts⟩ (met_X2_isOne l w) (va_cwS 1 hts (lw_S q566 q567 q51 q568) rfl rfl rfl hd_X2_isOne ⟨Nat.le_of_ble_eq_true rfl, Nat.le_of_ble_eq_true rfl⟩) pre_S rfl rfl hl.1 rfl (lv_room (Nat.le_of_ble_eq_true rfl)) dX2_one_1 ⟨Nat.le_refl _, Nat.le_refl _⟩) (fun r1 w => ?_)
  refine lv_if_ne (tgt := 9) hx hb dX2_one_4 (by decide) (fun c => ?_) (fun c => ?_)
  · have w := And.right w c
    refine lv_iload_n hx hb dX2_one_9 rfl (lv_at hl 2 rfl) ?_
    refine lv_i2l hx hb dX2_one_10 rfl ?_
    refine lv_lconst (v := 0) hx hb dX2_one_11 (by decide) ?_
    refine lv_ldc2 (v := 9999) hx hb hown (hts _ q573) dX2_one_12 ?_
    refine vp_callSi (W.runS (As := [.long i2.toInt64, .long (0 : Int64), .long (9999 : Int64)]) (rest := []) ⟨hx, hb, hml, hown, hts⟩ (met_X2_in l w) (va_cwS 3 hts (lw_S q570 q571 q51 q572) rfl rfl rfl hd_X2_in ⟨Nat.le_of_ble_eq_true rfl, Nat.le_of_ble_eq_true rfl⟩) pre_S rfl rfl hl.1 rfl (lv_room (Nat.le_of_ble_eq_true rfl)) dX2_one_15 ⟨Nat.le_refl _, Nat.le_refl _⟩) (fun r2 w => ?_)
    refine lv_if_eq (tgt := 33) hx hb dX2_one_18 (by decide) (fun c => ?_) (fun c => ?_)
    · have w := And.left w c
      exact wk_X2_one_L33 X hD  _ _ w _ _ _ hP hS (lv_sub hl [] rfl)
    · have w := And.right w c
      refine lv_iload_n hx hb dX2_one_21 rfl (lv_at hl 3 rfl) ?_
      refine lv_i2l hx hb dX2_one_22 rfl ?_
      refine lv_lconst (v := 0) hx hb dX2_one_23 (by decide) ?_
      refine lv_ldc2 (v := 9999) hx hb hown (hts _ q573) dX2_one_24 ?_
      refine vp_callSi (W.runS (As := [.long i3.toInt64, .long (0 : Int64), .long (9999 : Int64)]) (rest := []) ⟨hx, hb, hml, hown, hts⟩ (met_X2_in l w) (va_cwS 3 hts (lw_S q570 q571 q51 q572) rfl rfl rfl hd_X2_in ⟨Nat.le_of_ble_eq_true rfl, Nat.le_of_ble_eq_true rfl⟩) pre_S rfl rfl hl.1 rfl (lv_room (Nat.le_of_ble_eq_true rfl)) dX2_one_27 ⟨Nat.le_refl _, Nat.le_refl _⟩) (fun r3 w => ?_)
      refine lv_if_ne (tgt := 36) hx hb dX2_one_30 (by decide) (fun c => ?_) (fun c => ?_)
      · have w := And.right w c
        refine lv_sipush (v := 10000) hx hb dX2_one_36 (by decide) ?_
        refine lv_aload_n hx hb dX2_one_39 rfl (lv_at hl 0 rfl) ?_
        refine va_get (D := (dC, dI)) (ci := 2) (v := .ref (a 1)) (C := RX2) (T := TX2) (N := 34) hx hb hts in_X2 hown hK hP 0 rfl rfl 0 (by decide) (hts _ q458) (fun _ h9 => h9) rfl dX2_one_40 ?_
        refine lv_iload_n hx hb dX2_one_43 rfl (lv_at hl 1 rfl) ?_
        obtain ⟨gi, w⟩ := w
        refine va_iald hx hb hK hP 1 0 rfl rfl gi dX2_one_44 ?_
        refine lv_imul hx hb dX2_one_45 ?_
        refine lv_aload_n hx hb dX2_one_46 rfl (lv_at hl 0 rfl) ?_
        refine va_get (D := (dC, dI)) (ci := 2) (v := .ref (a 2)) (C := RX2) (T := TX2) (N := 34) hx hb hts in_X2 hown hK hP 0 rfl rfl 1 (by decide) (hts _ q459) (fun _ h9 => h9) rfl dX2_one_47 ?_
        refine lv_iload_n hx hb dX2_one_50 rfl (lv_at hl 1 rfl) ?_
        obtain ⟨gi, w⟩ := w
        refine va_iald hx hb hK hP 2 0 rfl rfl gi dX2_one_51 ?_
        refine lv_iadd hx hb dX2_one_52 ?_
        refine lv_istore (lv' := [(4, .int (((10000 : Int32) * (z 0 i1.toNatClampNeg)) + (z 1 i1.toNatClampNeg))), (0, .ref (a 0)), (1, .int i1), (2, .int i2), (3, .int i3)]) hx hb dX2_one_53 hl (by decide) rfl (fun ls hl => ?_)
        refine lv_aload_n hx hb dX2_one_55 rfl (lv_at hl 1 rfl) ?_
        refine va_get (D := (dC, dI)) (ci := 2) (v := .ref (a 1)) (C := RX2) (T := TX2) (N := 34) hx hb hts in_X2 hown hK hP 0 rfl rfl 0 (by decide) (hts _ q458) (fun _ h9 => h9) rfl dX2_one_56 ?_
        refine lv_iload_n hx hb dX2_one_59 rfl (lv_at hl 2 rfl) ?_
        refine lv_iload_n hx hb dX2_one_60 rfl (lv_at hl 3 rfl) ?_
        obtain ⟨gi, w⟩ := w
        refine va_iast hx hb hK hP (hD _ _) hS 1 0 rfl rfl gi dX2_one_61 (fun H locs hP _ hS => ?_)
        have hP : va_P (dC, dI) vwCl (MW a ct (up2 z 0 i1.toNatClampNeg i2) g) H := MW_u_z_0 hP
        refine lv_aload_n hx hb dX2_one_62 rfl (lv_at hl 1 rfl) ?_
        refine va_get (D := (dC, dI)) (ci := 2) (v := .ref (a 2)) (C := RX2) (T := TX2) (N := 34) hx hb hts in_X2 hown hK hP 0 rfl rfl 1 (by decide) (hts _ q459) (fun _ h9 => h9) rfl dX2_one_63 ?_
        refine lv_iload_n hx hb dX2_one_66 rfl (lv_at hl 2 rfl) ?_
        refine lv_iload_n hx hb dX2_one_67 rfl (lv_at hl 4 rfl) ?_
        obtain ⟨gi, w⟩ := w
        refine va_iast hx hb hK hP (hD _ _) hS 2 0 rfl rfl gi dX2_one_68 (fun H locs hP _ hS => ?_)
        have hP : va_P (dC, dI) vwCl (MW a ct (up2 (up2 z 0 i1.toNatClampNeg i2) 1 i1.toNatClampNeg i3) g) H := MW_u_z_1 hP
        refine lv_iload hx hb dX2_one_69 (lv_at hl 0 rfl) ?_
        exact W.iret (v := (((10000 : Int32) * (z 0 i1.toNatClampNeg)) + (z 1 i1.toNatClampNeg))) hx hb hr (fun t ht hW => ⟨⟨(((10000 : Int32) * (z 0 i1.toNatClampNeg)) + (z 1 i1.toNatClampNeg)), ((up2 (up2 z 0 i1.toNatClampNeg i2) 1 i1.toNatClampNeg i3), g), rfl, w, by rw [ht]; exact hP, va_K.moved hW.alike hK, (hD _ _)⟩, hS.F ht⟩) hS.2.2 dX2_one_71 hlk
      · have w := And.left w c
        exact wk_X2_one_L33 X hD  _ _ w _ _ _ hP hS (lv_sub hl [] rfl)
  · have w := And.left w c
    refine lv_iconst (v := -1) hx hb dX2_one_7 (by decide) ?_
    exact W.iret (v := (-1 : Int32)) hx hb hr (fun t ht hW => ⟨⟨(-1 : Int32), (z, g), rfl, w, by rw [ht]; exact hP, va_K.moved hW.alike hK, (hD _ _)⟩, hS.F ht⟩) hS.2.2 dX2_one_8 hlk
abbrev rm_X2_owe : Room := { frames := 2, cells := 0, slots := 0, locals := 45 }
theorem hd_X2_owe : yX2_owe.cls = RX2 ∧ yX2_owe.cls ≠ "java/lang/invoke/MethodHandle" ∧ yX2_owe.cls ≠ "java/lang/invoke/VarHandle" ∧ (parseMethodDescriptor yX2_owe.desc).map (fun d => d.parameters.length) = some 3 := by decide +kernel
set_option maxHeartbeats 4000000 in
set_option maxRecDepth 100000 in
theorem wk_X2_owe_L19 {p : Program} {l : Launch} {e : Env} {s : State} {m : MethodId} {args : Array Value} {below : List Frame} {meth : Method} {c : Code} {dC : Nat → ClassId} {dI : Nat → Nat → Nat} {ct : Nat → ClassId} {A : Nat → Prop} {a : Nat → Nat} {Post : Int32 → V → VL → Prop}   (X : CxW p s m args meth c cX2_owe 5 (some .int) RX2 dC dI ct A) (hD : ∀ (z : V) (g : VL), va_D A (MW a ct z g))  (z : V) (g : VL) (w : wp_X2_owe_L19  Post  z g) : ∀ (H : Heap) (locs : List Loc) (ls : Array Slot), va_P (dC, dI) vwCl (MW a ct z g) H → va_S A s.heap H locs → lv_has ls 5 [] → W p l e rm_X2_owe s m args below meth c H locs 0 0 (MQ below (va_Qi (fun (r : Int32) (u : V × VL) => Post r u.1 u.2) (fun (u : V × VL) t => WPos dC dI ct (MW a ct u.1 u.2) A t) A) args s 0 0 A) (F0 m 19 ls []) := by
  intro H locs ls hP hS hl
  have X0 := X
  obtain ⟨⟨hx, hb, hml, hr, hlk, hown, hts⟩, hA, hK, hN⟩ := X0
  unfold wp_X2_owe_L19 at w
  refine lv_iconst (v := -1) hx hb dX2_owe_19 (by decide) ?_
  exact W.iret (v := (-1 : Int32)) hx hb hr (fun t ht hW => ⟨⟨(-1 : Int32), (z, g), rfl, w, by rw [ht]; exact hP, va_K.moved hW.alike hK, (hD _ _)⟩, hS.F ht⟩) hS.2.2 dX2_owe_20 hlk
set_option maxHeartbeats 4000000 in
set_option maxRecDepth 100000 in
theorem met_X2_owe (l : Launch) (dC : Nat → ClassId) (dI : Nat → Nat → Nat) (ct : Nat → ClassId) (a : Nat → Nat) (sz : Nat) {i1 : Int32} {i2 : Int32} {i3 : Int32} {z : V} {g : VL} {Post : Int32 → V → VL → Prop} (w : wp_X2_owe i1 i2 i3 z g Post) : Met l yX2_owe (ws_ yX2_owe cX2_owe 5 (some .int)) rm_X2_owe (va_Pc [.ref (a 0), .int i1, .int i2, .int i3] (fun U => WPre dC dI ct (MW a ct z g) sz U)) ((fun A => (va_Qi (fun (r : Int32) (u : V × VL) => Post r u.1 u.2) (fun (u : V × VL) t => WPos dC dI ct (MW a ct u.1 u.2) A t) A)) (va_A (MW a ct z g) sz)) 0 0 (va_A (MW a ct z g) sz) := by
  refine open_W (fun A => (va_Qi (fun (r : Int32) (u : V × VL) => Post r u.1 u.2) (fun (u : V × VL) t => WPos dC dI ct (MW a ct u.1 u.2) A t) A)) (by decide) (Nat.le_of_ble_eq_true rfl) ?_
  intro p e s m args below meth c ls A X hD0 hP hS hl
  have X0 := X
  obtain ⟨⟨hx, hb, hml, hr, hlk, hown, hts⟩, hA, hK, hN⟩ := X0
  have hD : ∀ (z' : V) (g' : VL), va_D A (MW a ct z' g') := fun z' g' => va_D_addr hD0 rfl
  have hl : lv_has ls 5 [(0, .ref (a 0)), (1, .int i1), (2, .int i2), (3, .int i3)] := hl
  unfold wp_X2_owe at w
  have hS0 := hS
  refine lv_iload_n hx hb dX2_owe_0 rfl (lv_at hl 1 rfl) ?_
  refine vp_callSi (W.runS (As := [.int i1]) (rest := []) ⟨hx, hb, hml, hown, hts⟩ (met_X2_isOne l w) (va_cwS 1 hts (lw_S q566 q567 q51 q568) rfl rfl rfl hd_X2_isOne ⟨Nat.le_of_ble_eq_true rfl, Nat.le_of_ble_eq_true rfl⟩) pre_S rfl rfl hl.1 rfl (lv_room (Nat.le_of_ble_eq_true rfl)) dX2_owe_1 ⟨Nat.le_refl _, Nat.le_refl _⟩) (fun r1 w => ?_)
  refine lv_if_eq (tgt := 19) hx hb dX2_owe_4 (by decide) (fun c => ?_) (fun c => ?_)
  · have w := And.left w c
    exact wk_X2_owe_L19 X hD  _ _ w _ _ _ hP hS (lv_sub hl [] rfl)
  · have w := And.right w c
    refine lv_iload_n hx hb dX2_owe_7 rfl (lv_at hl 2 rfl) ?_
    refine vp_callSi (W.runS (As := [.int i2]) (rest := []) ⟨hx, hb, hml, hown, hts⟩ (met_X2_isOne l w) (va_cwS 1 hts (lw_S q566 q567 q51 q568) rfl rfl rfl hd_X2_isOne ⟨Nat.le_of_ble_eq_true rfl, Nat.le_of_ble_eq_true rfl⟩) pre_S rfl rfl hl.1 rfl (lv_room (Nat.le_of_ble_eq_true rfl)) dX2_owe_8 ⟨Nat.le_refl _, Nat.le_refl _⟩) (fun r2 w => ?_)
    refine lv_if_eq (tgt := 19) hx hb dX2_owe_11 (by decide) (fun c => ?_) (fun c => ?_)
    · have w := And.left w c
      exact wk_X2_owe_L19 X hD  _ _ w _ _ _ hP hS (lv_sub hl [] rfl)
    · have w := And.right w c
      refine lv_iload_n hx hb dX2_owe_14 rfl (lv_at hl 1 rfl) ?_
      refine lv_iload_n hx hb dX2_owe_15 rfl (lv_at hl 2 rfl) ?_
      refine lv_icmp_ne (tgt := 21) hx hb dX2_owe_16 (by decide) (fun c => ?_) (fun c => ?_)
      · have w := And.right w c
        refine lv_iload_n hx hb dX2_owe_21 rfl (lv_at hl 3 rfl) ?_
        refine lv_i2l hx hb dX2_owe_22 rfl ?_
        refine lv_lconst (v := 0) hx hb dX2_owe_23 (by decide) ?_
        refine lv_ldc2 (v := 999) hx hb hown (hts _ q578) dX2_owe_24 ?_
        refine vp_callSi (W.runS (As := [.long i3.toInt64, .long (0 : Int64), .long (999 : Int64)]) (rest := []) ⟨hx, hb, hml, hown, hts⟩ (met_X2_in l w) (va_cwS 3 hts (lw_S q570 q571 q51 q572) rfl rfl rfl hd_X2_in ⟨Nat.le_of_ble_eq_true rfl, Nat.le_of_ble_eq_true rfl⟩) pre_S rfl rfl hl.1 rfl (lv_room (Nat.le_of_ble_eq_true rfl)) dX2_owe_27 ⟨Nat.le_refl _, Nat.le_refl _⟩) (fun r3 w => ?_)
        refine lv_if_ne (tgt := 36) hx hb dX2_owe_30 (by decide) (fun c => ?_) (fun c => ?_)
        · have w := And.right w c
          refine lv_aload_n hx hb dX2_owe_36 rfl (lv_at hl 0 rfl) ?_
          refine va_get (D := (dC, dI)) (ci := 2) (v := .ref (a 3)) (C := RX2) (T := TX2) (N := 34) hx hb hts in_X2 hown hK hP 0 rfl rfl 2 (by decide) (hts _ q460) (fun _ h9 => h9) rfl dX2_owe_37 ?_
          refine lv_bipush (v := 6) hx hb dX2_owe_40 (by decide) ?_
          refine lv_iload_n hx hb dX2_owe_42 rfl (lv_at hl 1 rfl) ?_
          refine lv_imul hx hb dX2_owe_43 ?_
          refine lv_iload_n hx hb dX2_owe_44 rfl (lv_at hl 2 rfl) ?_
          refine lv_iadd hx hb dX2_owe_45 ?_
          obtain ⟨gi, w⟩ := w
          refine va_iald hx hb hK hP 3 0 rfl rfl gi dX2_owe_46 ?_
          refine lv_istore (lv' := [(4, .int (z 2 (((6 : Int32) * i1) + i2).toNatClampNeg)), (0, .ref (a 0)), (1, .int i1), (2, .int i2), (3, .int i3)]) hx hb dX2_owe_47 hl (by decide) rfl (fun ls hl => ?_)
          refine lv_aload_n hx hb dX2_owe_49 rfl (lv_at hl 1 rfl) ?_
          refine va_get (D := (dC, dI)) (ci := 2) (v := .ref (a 3)) (C := RX2) (T := TX2) (N := 34) hx hb hts in_X2 hown hK hP 0 rfl rfl 2 (by decide) (hts _ q460) (fun _ h9 => h9) rfl dX2_owe_50 ?_
          refine lv_bipush (v := 6) hx hb dX2_owe_53 (by decide) ?_
          refine lv_iload_n hx hb dX2_owe_55 rfl (lv_at hl 2 rfl) ?_
          refine lv_imul hx hb dX2_owe_56 ?_
          refine lv_iload_n hx hb dX2_owe_57 rfl (lv_at hl 3 rfl) ?_
          refine lv_iadd hx hb dX2_owe_58 ?_
          refine lv_iload_n hx hb dX2_owe_59 rfl (lv_at hl 4 rfl) ?_
          obtain ⟨gi, w⟩ := w
          refine va_iast hx hb hK hP (hD _ _) hS 3 0 rfl rfl gi dX2_owe_60 (fun H locs hP _ hS => ?_)
          have hP : va_P (dC, dI) vwCl (MW a ct (up2 z 2 (((6 : Int32) * i1) + i2).toNatClampNeg i3) g) H := MW_u_z_2 hP
          refine lv_iload hx hb dX2_owe_61 (lv_at hl 0 rfl) ?_
          exact W.iret (v := (z 2 (((6 : Int32) * i1) + i2).toNatClampNeg)) hx hb hr (fun t ht hW => ⟨⟨(z 2 (((6 : Int32) * i1) + i2).toNatClampNeg), ((up2 z 2 (((6 : Int32) * i1) + i2).toNatClampNeg i3), g), rfl, w, by rw [ht]; exact hP, va_K.moved hW.alike hK, (hD _ _)⟩, hS.F ht⟩) hS.2.2 dX2_owe_63 hlk
        · have w := And.left w c
          refine lv_bipush (v := -2) hx hb dX2_owe_33 (by decide) ?_
          exact W.iret (v := (-2 : Int32)) hx hb hr (fun t ht hW => ⟨⟨(-2 : Int32), (z, g), rfl, w, by rw [ht]; exact hP, va_K.moved hW.alike hK, (hD _ _)⟩, hS.F ht⟩) hS.2.2 dX2_owe_35 hlk
      · have w := And.left w c
        exact wk_X2_owe_L19 X hD  _ _ w _ _ _ hP hS (lv_sub hl [] rfl)
abbrev rm_X2_lot : Room := { frames := 1, cells := 0, slots := 0, locals := 25 }
theorem hd_X2_lot : yX2_lot.cls = RX2 ∧ yX2_lot.cls ≠ "java/lang/invoke/MethodHandle" ∧ yX2_lot.cls ≠ "java/lang/invoke/VarHandle" ∧ (parseMethodDescriptor yX2_lot.desc).map (fun d => d.parameters.length) = some 3 := by decide +kernel
set_option maxHeartbeats 4000000 in
set_option maxRecDepth 100000 in
theorem wk_X2_lot_L26 {p : Program} {l : Launch} {e : Env} {s : State} {m : MethodId} {args : Array Value} {below : List Frame} {meth : Method} {c : Code} {dC : Nat → ClassId} {dI : Nat → Nat → Nat} {ct : Nat → ClassId} {A : Nat → Prop} {a : Nat → Nat} {Post : Int32 → V → VL → Prop}   (X : CxW p s m args meth c cX2_lot 5 (some .int) RX2 dC dI ct A) (hD : ∀ (z : V) (g : VL), va_D A (MW a ct z g))  (z : V) (g : VL) (w : wp_X2_lot_L26  Post  z g) : ∀ (H : Heap) (locs : List Loc) (ls : Array Slot), va_P (dC, dI) vwCl (MW a ct z g) H → va_S A s.heap H locs → lv_has ls 5 [] → W p l e rm_X2_lot s m args below meth c H locs 0 0 (MQ below (va_Qi (fun (r : Int32) (u : V × VL) => Post r u.1 u.2) (fun (u : V × VL) t => WPos dC dI ct (MW a ct u.1 u.2) A t) A) args s 0 0 A) (F0 m 26 ls []) := by
  intro H locs ls hP hS hl
  have X0 := X
  obtain ⟨⟨hx, hb, hml, hr, hlk, hown, hts⟩, hA, hK, hN⟩ := X0
  unfold wp_X2_lot_L26 at w
  refine lv_iconst (v := -1) hx hb dX2_lot_26 (by decide) ?_
  exact W.iret (v := (-1 : Int32)) hx hb hr (fun t ht hW => ⟨⟨(-1 : Int32), (z, g), rfl, w, by rw [ht]; exact hP, va_K.moved hW.alike hK, (hD _ _)⟩, hS.F ht⟩) hS.2.2 dX2_lot_27 hlk
set_option maxHeartbeats 4000000 in
set_option maxRecDepth 100000 in
theorem wk_X2_lot_L73 {p : Program} {l : Launch} {e : Env} {s : State} {m : MethodId} {args : Array Value} {below : List Frame} {meth : Method} {c : Code} {dC : Nat → ClassId} {dI : Nat → Nat → Nat} {ct : Nat → ClassId} {A : Nat → Prop} {a : Nat → Nat} {Post : Int32 → V → VL → Prop}   (X : CxW p s m args meth c cX2_lot 5 (some .int) RX2 dC dI ct A) (hD : ∀ (z : V) (g : VL), va_D A (MW a ct z g))  (i4 : Int32) (is0 : Int32) (is1 : Int32) (z : V) (g : VL) (w : wp_X2_lot_L73  Post  i4 is0 is1 z g) : ∀ (H : Heap) (locs : List Loc) (ls : Array Slot), va_P (dC, dI) vwCl (MW a ct z g) H → va_S A s.heap H locs → lv_has ls 5 [(4, .int i4)] → W p l e rm_X2_lot s m args below meth c H locs 0 0 (MQ below (va_Qi (fun (r : Int32) (u : V × VL) => Post r u.1 u.2) (fun (u : V × VL) t => WPos dC dI ct (MW a ct u.1 u.2) A t) A) args s 0 0 A) (F0 m 73 ls [.int is0, .int is1, .ref (a 5)]) := by
  intro H locs ls hP hS hl
  have X0 := X
  obtain ⟨⟨hx, hb, hml, hr, hlk, hown, hts⟩, hA, hK, hN⟩ := X0
  unfold wp_X2_lot_L73 at w
  obtain ⟨gi, w⟩ := w
  refine va_iast hx hb hK hP (hD _ _) hS 5 0 rfl rfl gi dX2_lot_73 (fun H locs hP _ hS => ?_)
  have hP : va_P (dC, dI) vwCl (MW a ct (up2 z 4 is1.toNatClampNeg is0) g) H := MW_u_z_4 hP
  refine lv_iload hx hb dX2_lot_74 (lv_at hl 0 rfl) ?_
  exact W.iret (v := i4) hx hb hr (fun t ht hW => ⟨⟨i4, ((up2 z 4 is1.toNatClampNeg is0), g), rfl, w, by rw [ht]; exact hP, va_K.moved hW.alike hK, (hD _ _)⟩, hS.F ht⟩) hS.2.2 dX2_lot_76 hlk
set_option maxHeartbeats 4000000 in
set_option maxRecDepth 100000 in
theorem met_X2_lot (l : Launch) (dC : Nat → ClassId) (dI : Nat → Nat → Nat) (ct : Nat → ClassId) (a : Nat → Nat) (sz : Nat) {i1 : Int32} {i2 : Int32} {i3 : Int32} {z : V} {g : VL} {Post : Int32 → V → VL → Prop} (w : wp_X2_lot i1 i2 i3 z g Post) : Met l yX2_lot (ws_ yX2_lot cX2_lot 5 (some .int)) rm_X2_lot (va_Pc [.ref (a 0), .int i1, .int i2, .int i3] (fun U => WPre dC dI ct (MW a ct z g) sz U)) ((fun A => (va_Qi (fun (r : Int32) (u : V × VL) => Post r u.1 u.2) (fun (u : V × VL) t => WPos dC dI ct (MW a ct u.1 u.2) A t) A)) (va_A (MW a ct z g) sz)) 0 0 (va_A (MW a ct z g) sz) := by
  refine open_W (fun A => (va_Qi (fun (r : Int32) (u : V × VL) => Post r u.1 u.2) (fun (u : V × VL) t => WPos dC dI ct (MW a ct u.1 u.2) A t) A)) (by decide) (Nat.le_of_ble_eq_true rfl) ?_
  intro p e s m args below meth c ls A X hD0 hP hS hl
  have X0 := X
  obtain ⟨⟨hx, hb, hml, hr, hlk, hown, hts⟩, hA, hK, hN⟩ := X0
  have hD : ∀ (z' : V) (g' : VL), va_D A (MW a ct z' g') := fun z' g' => va_D_addr hD0 rfl
  have hl : lv_has ls 5 [(0, .ref (a 0)), (1, .int i1), (2, .int i2), (3, .int i3)] := hl
  unfold wp_X2_lot at w
  have hS0 := hS
  refine lv_iload_n hx hb dX2_lot_0 rfl (lv_at hl 1 rfl) ?_
  refine lv_i2l hx hb dX2_lot_1 rfl ?_
  refine lv_lconst (v := 0) hx hb dX2_lot_2 (by decide) ?_
  refine lv_ldc2 (v := 7) hx hb hown (hts _ q583) dX2_lot_3 ?_
  refine vp_callSi (W.runS (As := [.long i1.toInt64, .long (0 : Int64), .long (7 : Int64)]) (rest := []) ⟨hx, hb, hml, hown, hts⟩ (met_X2_in l w) (va_cwS 3 hts (lw_S q570 q571 q51 q572) rfl rfl rfl hd_X2_in ⟨Nat.le_of_ble_eq_true rfl, Nat.le_of_ble_eq_true rfl⟩) pre_S rfl rfl hl.1 rfl (lv_room (Nat.le_of_ble_eq_true rfl)) dX2_lot_6 ⟨Nat.le_refl _, Nat.le_refl _⟩) (fun r1 w => ?_)
  refine lv_if_eq (tgt := 26) hx hb dX2_lot_9 (by decide) (fun c => ?_) (fun c => ?_)
  · have w := And.left w c
    exact wk_X2_lot_L26 X hD  _ _ w _ _ _ hP hS (lv_sub hl [] rfl)
  · have w := And.right w c
    refine lv_iload_n hx hb dX2_lot_12 rfl (lv_at hl 3 rfl) ?_
    refine lv_i2l hx hb dX2_lot_13 rfl ?_
    refine lv_ldc2 (v := -1) hx hb hown (hts _ q584) dX2_lot_14 ?_
    refine lv_ldc2 (v := 5) hx hb hown (hts _ q569) dX2_lot_17 ?_
    refine vp_callSi (W.runS (As := [.long i3.toInt64, .long (-1 : Int64), .long (5 : Int64)]) (rest := []) ⟨hx, hb, hml, hown, hts⟩ (met_X2_in l w) (va_cwS 3 hts (lw_S q570 q571 q51 q572) rfl rfl rfl hd_X2_in ⟨Nat.le_of_ble_eq_true rfl, Nat.le_of_ble_eq_true rfl⟩) pre_S rfl rfl hl.1 rfl (lv_room (Nat.le_of_ble_eq_true rfl)) dX2_lot_20 ⟨Nat.le_refl _, Nat.le_refl _⟩) (fun r2 w => ?_)
    refine lv_if_ne (tgt := 28) hx hb dX2_lot_23 (by decide) (fun c => ?_) (fun c => ?_)
    · have w := And.right w c
      refine lv_iload_n hx hb dX2_lot_28 rfl (lv_at hl 2 rfl) ?_
      refine lv_i2l hx hb dX2_lot_29 rfl ?_
      refine lv_lconst (v := 1) hx hb dX2_lot_30 (by decide) ?_
      refine lv_ldc2 (v := 999) hx hb hown (hts _ q578) dX2_lot_31 ?_
      refine vp_callSi (W.runS (As := [.long i2.toInt64, .long (1 : Int64), .long (999 : Int64)]) (rest := []) ⟨hx, hb, hml, hown, hts⟩ (met_X2_in l w) (va_cwS 3 hts (lw_S q570 q571 q51 q572) rfl rfl rfl hd_X2_in ⟨Nat.le_of_ble_eq_true rfl, Nat.le_of_ble_eq_true rfl⟩) pre_S rfl rfl hl.1 rfl (lv_room (Nat.le_of_ble_eq_true rfl)) dX2_lot_34 ⟨Nat.le_refl _, Nat.le_refl _⟩) (fun r3 w => ?_)
      refine lv_if_ne (tgt := 43) hx hb dX2_lot_37 (by decide) (fun c => ?_) (fun c => ?_)
      · have w := And.right w c
        refine lv_aload_n hx hb dX2_lot_43 rfl (lv_at hl 0 rfl) ?_
        refine va_get (D := (dC, dI)) (ci := 2) (v := .ref (a 4)) (C := RX2) (T := TX2) (N := 34) hx hb hts in_X2 hown hK hP 0 rfl rfl 3 (by decide) (hts _ q461) (fun _ h9 => h9) rfl dX2_lot_44 ?_
        refine lv_iload_n hx hb dX2_lot_47 rfl (lv_at hl 1 rfl) ?_
        obtain ⟨gi, w⟩ := w
        refine va_iald hx hb hK hP 4 0 rfl rfl gi dX2_lot_48 ?_
        refine lv_istore (lv' := [(4, .int (z 3 i1.toNatClampNeg)), (0, .ref (a 0)), (1, .int i1), (2, .int i2), (3, .int i3)]) hx hb dX2_lot_49 hl (by decide) rfl (fun ls hl => ?_)
        refine lv_aload_n hx hb dX2_lot_51 rfl (lv_at hl 1 rfl) ?_
        refine va_get (D := (dC, dI)) (ci := 2) (v := .ref (a 4)) (C := RX2) (T := TX2) (N := 34) hx hb hts in_X2 hown hK hP 0 rfl rfl 3 (by decide) (hts _ q461) (fun _ h9 => h9) rfl dX2_lot_52 ?_
        refine lv_iload_n hx hb dX2_lot_55 rfl (lv_at hl 2 rfl) ?_
        refine lv_iload_n hx hb dX2_lot_56 rfl (lv_at hl 3 rfl) ?_
        obtain ⟨gi, w⟩ := w
        refine va_iast hx hb hK hP (hD _ _) hS 4 0 rfl rfl gi dX2_lot_57 (fun H locs hP _ hS => ?_)
        have hP : va_P (dC, dI) vwCl (MW a ct (up2 z 3 i1.toNatClampNeg i2) g) H := MW_u_z_3 hP
        refine lv_aload_n hx hb dX2_lot_58 rfl (lv_at hl 1 rfl) ?_
        refine va_get (D := (dC, dI)) (ci := 2) (v := .ref (a 5)) (C := RX2) (T := TX2) (N := 34) hx hb hts in_X2 hown hK hP 0 rfl rfl 4 (by decide) (hts _ q462) (fun _ h9 => h9) rfl dX2_lot_59 ?_
        refine lv_iload_n hx hb dX2_lot_62 rfl (lv_at hl 2 rfl) ?_
        refine lv_iload_n hx hb dX2_lot_63 rfl (lv_at hl 4 rfl) ?_
        refine lv_if_ge (tgt := 72) hx hb dX2_lot_64 (by decide) (fun c => ?_) (fun c => ?_)
        · have w := And.left w c
          refine lv_iload_n hx hb dX2_lot_72 rfl (lv_at hl 4 rfl) ?_
          exact wk_X2_lot_L73 X hD  _ _ _ _ _ w _ _ _ hP hS (lv_sub hl [0] rfl)
        · have w := And.right w c
          refine lv_bipush (v := -6) hx hb dX2_lot_67 (by decide) ?_
          refine lv_goto (tgt := 73) hx hb dX2_lot_69 (by decide) ?_
          exact wk_X2_lot_L73 X hD  _ _ _ _ _ w _ _ _ hP hS (lv_sub hl [0] rfl)
      · have w := And.left w c
        refine lv_bipush (v := -2) hx hb dX2_lot_40 (by decide) ?_
        exact W.iret (v := (-2 : Int32)) hx hb hr (fun t ht hW => ⟨⟨(-2 : Int32), (z, g), rfl, w, by rw [ht]; exact hP, va_K.moved hW.alike hK, (hD _ _)⟩, hS.F ht⟩) hS.2.2 dX2_lot_42 hlk
    · have w := And.left w c
      exact wk_X2_lot_L26 X hD  _ _ w _ _ _ hP hS (lv_sub hl [] rfl)
abbrev rm_X2_set : Room := { frames := 1, cells := 0, slots := 0, locals := 25 }
theorem hd_X2_set : yX2_set.cls = RX2 ∧ yX2_set.cls ≠ "java/lang/invoke/MethodHandle" ∧ yX2_set.cls ≠ "java/lang/invoke/VarHandle" ∧ (parseMethodDescriptor yX2_set.desc).map (fun d => d.parameters.length) = some 2 := by decide +kernel
set_option maxHeartbeats 4000000 in
set_option maxRecDepth 100000 in
theorem wk_X2_set_L22 {p : Program} {l : Launch} {e : Env} {s : State} {m : MethodId} {args : Array Value} {below : List Frame} {meth : Method} {c : Code} {dC : Nat → ClassId} {dI : Nat → Nat → Nat} {ct : Nat → ClassId} {A : Nat → Prop} {a : Nat → Nat} {Post : Int32 → V → VL → Prop}   (X : CxW p s m args meth c cX2_set 4 (some .int) RX2 dC dI ct A) (hD : ∀ (z : V) (g : VL), va_D A (MW a ct z g))  (z : V) (g : VL) (w : wp_X2_set_L22  Post  z g) : ∀ (H : Heap) (locs : List Loc) (ls : Array Slot), va_P (dC, dI) vwCl (MW a ct z g) H → va_S A s.heap H locs → lv_has ls 4 [] → W p l e rm_X2_set s m args below meth c H locs 0 0 (MQ below (va_Qi (fun (r : Int32) (u : V × VL) => Post r u.1 u.2) (fun (u : V × VL) t => WPos dC dI ct (MW a ct u.1 u.2) A t) A) args s 0 0 A) (F0 m 22 ls []) := by
  intro H locs ls hP hS hl
  have X0 := X
  obtain ⟨⟨hx, hb, hml, hr, hlk, hown, hts⟩, hA, hK, hN⟩ := X0
  unfold wp_X2_set_L22 at w
  refine lv_bipush (v := -2) hx hb dX2_set_22 (by decide) ?_
  exact W.iret (v := (-2 : Int32)) hx hb hr (fun t ht hW => ⟨⟨(-2 : Int32), (z, g), rfl, w, by rw [ht]; exact hP, va_K.moved hW.alike hK, (hD _ _)⟩, hS.F ht⟩) hS.2.2 dX2_set_24 hlk
set_option maxHeartbeats 4000000 in
set_option maxRecDepth 100000 in
theorem wk_X2_set_L71 {p : Program} {l : Launch} {e : Env} {s : State} {m : MethodId} {args : Array Value} {below : List Frame} {meth : Method} {c : Code} {dC : Nat → ClassId} {dI : Nat → Nat → Nat} {ct : Nat → ClassId} {A : Nat → Prop} {a : Nat → Nat} {Post : Int32 → V → VL → Prop}   (X : CxW p s m args meth c cX2_set 4 (some .int) RX2 dC dI ct A) (hD : ∀ (z : V) (g : VL), va_D A (MW a ct z g))  (i3 : Int32) (is0 : Int32) (z : V) (g : VL) (w : wp_X2_set_L71  Post  i3 is0 z g) : ∀ (H : Heap) (locs : List Loc) (ls : Array Slot), va_P (dC, dI) vwCl (MW a ct z g) H → va_S A s.heap H locs → lv_has ls 4 [(3, .int i3)] → W p l e rm_X2_set s m args below meth c H locs 0 0 (MQ below (va_Qi (fun (r : Int32) (u : V × VL) => Post r u.1 u.2) (fun (u : V × VL) t => WPos dC dI ct (MW a ct u.1 u.2) A t) A) args s 0 0 A) (F0 m 71 ls [.int is0, .ref (a 0)]) := by
  intro H locs ls hP hS hl
  have X0 := X
  obtain ⟨⟨hx, hb, hml, hr, hlk, hown, hts⟩, hA, hK, hN⟩ := X0
  unfold wp_X2_set_L71 at w
  refine va_put (D := (dC, dI)) (ci := 2) (v := .int is0) (ty := .int) (C := RX2) (T := TX2) (N := 34) hx hb hts in_X2 tyX2 tyX2_ok nmX2 hown hK hP (hD _ _) hS 0 rfl rfl 6 (by decide) (hts _ q464) (fun _ h9 => h9) rfl (by decide +kernel) rfl rfl (Nat.le_of_ble_eq_true rfl) dX2_set_71 (fun H locs hP _ hS => ?_)
  have hP : va_P (dC, dI) vwCl (MW a ct (up2 z 19 1 is0) g) H := MW_s_z_1 hP
  refine lv_iload_n hx hb dX2_set_74 rfl (lv_at hl 0 rfl) ?_
  exact W.iret (v := i3) hx hb hr (fun t ht hW => ⟨⟨i3, ((up2 z 19 1 is0), g), rfl, w, by rw [ht]; exact hP, va_K.moved hW.alike hK, (hD _ _)⟩, hS.F ht⟩) hS.2.2 dX2_set_75 hlk
set_option maxHeartbeats 4000000 in
set_option maxRecDepth 100000 in
theorem wk_X2_set_L54 {p : Program} {l : Launch} {e : Env} {s : State} {m : MethodId} {args : Array Value} {below : List Frame} {meth : Method} {c : Code} {dC : Nat → ClassId} {dI : Nat → Nat → Nat} {ct : Nat → ClassId} {A : Nat → Prop} {a : Nat → Nat} {Post : Int32 → V → VL → Prop}   (X : CxW p s m args meth c cX2_set 4 (some .int) RX2 dC dI ct A) (hD : ∀ (z : V) (g : VL), va_D A (MW a ct z g))  (i1 : Int32) (i2 : Int32) (i3 : Int32) (is0 : Int32) (z : V) (g : VL) (w : wp_X2_set_L54  Post  i1 i2 i3 is0 z g) : ∀ (H : Heap) (locs : List Loc) (ls : Array Slot), va_P (dC, dI) vwCl (MW a ct z g) H → va_S A s.heap H locs → lv_has ls 4 [(0, .ref (a 0)), (1, .int i1), (2, .int i2), (3, .int i3)] → W p l e rm_X2_set s m args below meth c H locs 0 0 (MQ below (va_Qi (fun (r : Int32) (u : V × VL) => Post r u.1 u.2) (fun (u : V × VL) t => WPos dC dI ct (MW a ct u.1 u.2) A t) A) args s 0 0 A) (F0 m 54 ls [.int is0, .ref (a 0)]) := by
  intro H locs ls hP hS hl
  have X0 := X
  obtain ⟨⟨hx, hb, hml, hr, hlk, hown, hts⟩, hA, hK, hN⟩ := X0
  unfold wp_X2_set_L54 at w
  refine va_put (D := (dC, dI)) (ci := 2) (v := .int is0) (ty := .int) (C := RX2) (T := TX2) (N := 34) hx hb hts in_X2 tyX2 tyX2_ok nmX2 hown hK hP (hD _ _) hS 0 rfl rfl 5 (by decide) (hts _ q463) (fun _ h9 => h9) rfl (by decide +kernel) rfl rfl (Nat.le_of_ble_eq_true rfl) dX2_set_54 (fun H locs hP _ hS => ?_)
  have hP : va_P (dC, dI) vwCl (MW a ct (up2 z 19 0 is0) g) H := MW_s_z_0 hP
  refine lv_aload_n hx hb dX2_set_57 rfl (lv_at hl 0 rfl) ?_
  refine lv_iload_n hx hb dX2_set_58 rfl (lv_at hl 1 rfl) ?_
  refine lv_iconst (v := 1) hx hb dX2_set_59 (by decide) ?_
  refine lv_icmp_ne (tgt := 67) hx hb dX2_set_60 (by decide) (fun c => ?_) (fun c => ?_)
  · have w := And.right w c
    refine lv_aload_n hx hb dX2_set_67 rfl (lv_at hl 0 rfl) ?_
    refine va_get (D := (dC, dI)) (ci := 2) (v := .int (z 19 1)) (C := RX2) (T := TX2) (N := 34) hx hb hts in_X2 hown hK hP 0 rfl rfl 6 (by decide) (hts _ q464) (fun _ h9 => h9) rfl dX2_set_68 ?_
    exact wk_X2_set_L71 X hD  _ _ _ _ w _ _ _ hP hS (lv_sub hl [3] rfl)
  · have w := And.left w c
    refine lv_iload_n hx hb dX2_set_63 rfl (lv_at hl 2 rfl) ?_
    refine lv_goto (tgt := 71) hx hb dX2_set_64 (by decide) ?_
    exact wk_X2_set_L71 X hD  _ _ _ _ w _ _ _ hP hS (lv_sub hl [3] rfl)
set_option maxHeartbeats 4000000 in
set_option maxRecDepth 100000 in
theorem wk_X2_set_L40 {p : Program} {l : Launch} {e : Env} {s : State} {m : MethodId} {args : Array Value} {below : List Frame} {meth : Method} {c : Code} {dC : Nat → ClassId} {dI : Nat → Nat → Nat} {ct : Nat → ClassId} {A : Nat → Prop} {a : Nat → Nat} {Post : Int32 → V → VL → Prop}   (X : CxW p s m args meth c cX2_set 4 (some .int) RX2 dC dI ct A) (hD : ∀ (z : V) (g : VL), va_D A (MW a ct z g))  (i1 : Int32) (i2 : Int32) (is0 : Int32) (z : V) (g : VL) (w : wp_X2_set_L40  Post  i1 i2 is0 z g) : ∀ (H : Heap) (locs : List Loc) (ls : Array Slot), va_P (dC, dI) vwCl (MW a ct z g) H → va_S A s.heap H locs → lv_has ls 4 [(0, .ref (a 0)), (1, .int i1), (2, .int i2)] → W p l e rm_X2_set s m args below meth c H locs 0 0 (MQ below (va_Qi (fun (r : Int32) (u : V × VL) => Post r u.1 u.2) (fun (u : V × VL) t => WPos dC dI ct (MW a ct u.1 u.2) A t) A) args s 0 0 A) (F0 m 40 ls [.int is0]) := by
  intro H locs ls hP hS hl
  have X0 := X
  obtain ⟨⟨hx, hb, hml, hr, hlk, hown, hts⟩, hA, hK, hN⟩ := X0
  unfold wp_X2_set_L40 at w
  refine lv_istore_n (lv' := [(3, .int is0), (0, .ref (a 0)), (1, .int i1), (2, .int i2)]) hx hb dX2_set_40 rfl hl (by decide) rfl (fun ls hl => ?_)
  refine lv_aload_n hx hb dX2_set_41 rfl (lv_at hl 1 rfl) ?_
  refine lv_iload_n hx hb dX2_set_42 rfl (lv_at hl 2 rfl) ?_
  refine lv_if_ne (tgt := 50) hx hb dX2_set_43 (by decide) (fun c => ?_) (fun c => ?_)
  · have w := And.right w c
    refine lv_aload_n hx hb dX2_set_50 rfl (lv_at hl 1 rfl) ?_
    refine va_get (D := (dC, dI)) (ci := 2) (v := .int (z 19 0)) (C := RX2) (T := TX2) (N := 34) hx hb hts in_X2 hown hK hP 0 rfl rfl 5 (by decide) (hts _ q463) (fun _ h9 => h9) rfl dX2_set_51 ?_
    exact wk_X2_set_L54 X hD  _ _ _ _ _ _ w _ _ _ hP hS (lv_sub hl [1, 2, 3, 0] rfl)
  · have w := And.left w c
    refine lv_iload_n hx hb dX2_set_46 rfl (lv_at hl 3 rfl) ?_
    refine lv_goto (tgt := 54) hx hb dX2_set_47 (by decide) ?_
    exact wk_X2_set_L54 X hD  _ _ _ _ _ _ w _ _ _ hP hS (lv_sub hl [1, 2, 3, 0] rfl)
set_option maxHeartbeats 4000000 in
set_option maxRecDepth 100000 in
theorem met_X2_set (l : Launch) (dC : Nat → ClassId) (dI : Nat → Nat → Nat) (ct : Nat → ClassId) (a : Nat → Nat) (sz : Nat) {i1 : Int32} {i2 : Int32} {z : V} {g : VL} {Post : Int32 → V → VL → Prop} (w : wp_X2_set i1 i2 z g Post) : Met l yX2_set (ws_ yX2_set cX2_set 4 (some .int)) rm_X2_set (va_Pc [.ref (a 0), .int i1, .int i2] (fun U => WPre dC dI ct (MW a ct z g) sz U)) ((fun A => (va_Qi (fun (r : Int32) (u : V × VL) => Post r u.1 u.2) (fun (u : V × VL) t => WPos dC dI ct (MW a ct u.1 u.2) A t) A)) (va_A (MW a ct z g) sz)) 0 0 (va_A (MW a ct z g) sz) := by
  refine open_W (fun A => (va_Qi (fun (r : Int32) (u : V × VL) => Post r u.1 u.2) (fun (u : V × VL) t => WPos dC dI ct (MW a ct u.1 u.2) A t) A)) (by decide) (Nat.le_of_ble_eq_true rfl) ?_
  intro p e s m args below meth c ls A X hD0 hP hS hl
  have X0 := X
  obtain ⟨⟨hx, hb, hml, hr, hlk, hown, hts⟩, hA, hK, hN⟩ := X0
  have hD : ∀ (z' : V) (g' : VL), va_D A (MW a ct z' g') := fun z' g' => va_D_addr hD0 rfl
  have hl : lv_has ls 4 [(0, .ref (a 0)), (1, .int i1), (2, .int i2)] := hl
  unfold wp_X2_set at w
  have hS0 := hS
  refine lv_iload_n hx hb dX2_set_0 rfl (lv_at hl 1 rfl) ?_
  refine lv_i2l hx hb dX2_set_1 rfl ?_
  refine lv_lconst (v := 0) hx hb dX2_set_2 (by decide) ?_
  refine lv_lconst (v := 1) hx hb dX2_set_3 (by decide) ?_
  refine vp_callSi (W.runS (As := [.long i1.toInt64, .long (0 : Int64), .long (1 : Int64)]) (rest := []) ⟨hx, hb, hml, hown, hts⟩ (met_X2_in l w) (va_cwS 3 hts (lw_S q570 q571 q51 q572) rfl rfl rfl hd_X2_in ⟨Nat.le_of_ble_eq_true rfl, Nat.le_of_ble_eq_true rfl⟩) pre_S rfl rfl hl.1 rfl (lv_room (Nat.le_of_ble_eq_true rfl)) dX2_set_4 ⟨Nat.le_refl _, Nat.le_refl _⟩) (fun r1 w => ?_)
  refine lv_if_eq (tgt := 22) hx hb dX2_set_7 (by decide) (fun c => ?_) (fun c => ?_)
  · have w := And.left w c
    exact wk_X2_set_L22 X hD  _ _ w _ _ _ hP hS (lv_sub hl [] rfl)
  · have w := And.right w c
    refine lv_iload_n hx hb dX2_set_10 rfl (lv_at hl 2 rfl) ?_
    refine lv_i2l hx hb dX2_set_11 rfl ?_
    refine lv_lconst (v := 0) hx hb dX2_set_12 (by decide) ?_
    refine lv_ldc2 (v := 99999) hx hb hown (hts _ q589) dX2_set_13 ?_
    refine vp_callSi (W.runS (As := [.long i2.toInt64, .long (0 : Int64), .long (99999 : Int64)]) (rest := []) ⟨hx, hb, hml, hown, hts⟩ (met_X2_in l w) (va_cwS 3 hts (lw_S q570 q571 q51 q572) rfl rfl rfl hd_X2_in ⟨Nat.le_of_ble_eq_true rfl, Nat.le_of_ble_eq_true rfl⟩) pre_S rfl rfl hl.1 rfl (lv_room (Nat.le_of_ble_eq_true rfl)) dX2_set_16 ⟨Nat.le_refl _, Nat.le_refl _⟩) (fun r2 w => ?_)
    refine lv_if_ne (tgt := 25) hx hb dX2_set_19 (by decide) (fun c => ?_) (fun c => ?_)
    · have w := And.right w c
      refine lv_iload_n hx hb dX2_set_25 rfl (lv_at hl 1 rfl) ?_
      refine lv_if_ne (tgt := 36) hx hb dX2_set_26 (by decide) (fun c => ?_) (fun c => ?_)
      · have w := And.right w c
        refine lv_aload_n hx hb dX2_set_36 rfl (lv_at hl 0 rfl) ?_
        refine va_get (D := (dC, dI)) (ci := 2) (v := .int (z 19 1)) (C := RX2) (T := TX2) (N := 34) hx hb hts in_X2 hown hK hP 0 rfl rfl 6 (by decide) (hts _ q464) (fun _ h9 => h9) rfl dX2_set_37 ?_
        exact wk_X2_set_L40 X hD  _ _ _ _ _ w _ _ _ hP hS (lv_sub hl [0, 1, 2] rfl)
      · have w := And.left w c
        refine lv_aload_n hx hb dX2_set_29 rfl (lv_at hl 0 rfl) ?_
        refine va_get (D := (dC, dI)) (ci := 2) (v := .int (z 19 0)) (C := RX2) (T := TX2) (N := 34) hx hb hts in_X2 hown hK hP 0 rfl rfl 5 (by decide) (hts _ q463) (fun _ h9 => h9) rfl dX2_set_30 ?_
        refine lv_goto (tgt := 40) hx hb dX2_set_33 (by decide) ?_
        exact wk_X2_set_L40 X hD  _ _ _ _ _ w _ _ _ hP hS (lv_sub hl [0, 1, 2] rfl)
    · have w := And.left w c
      exact wk_X2_set_L22 X hD  _ _ w _ _ _ hP hS (lv_sub hl [] rfl)
abbrev rm_X2_say : Room := { frames := 1, cells := 0, slots := 0, locals := 25 }
theorem hd_X2_say : yX2_say.cls = RX2 ∧ yX2_say.cls ≠ "java/lang/invoke/MethodHandle" ∧ yX2_say.cls ≠ "java/lang/invoke/VarHandle" ∧ (parseMethodDescriptor yX2_say.desc).map (fun d => d.parameters.length) = some 1 := by decide +kernel
set_option maxHeartbeats 4000000 in
set_option maxRecDepth 100000 in
theorem met_X2_say (l : Launch) (dC : Nat → ClassId) (dI : Nat → Nat → Nat) (ct : Nat → ClassId) (a : Nat → Nat) (sz : Nat) {i1 : Int32} {z : V} {g : VL} {Post : Int32 → V → VL → Prop} (w : wp_X2_say i1 z g Post) : Met l yX2_say (ws_ yX2_say cX2_say 2 (some .int)) rm_X2_say (va_Pc [.ref (a 0), .int i1] (fun U => WPre dC dI ct (MW a ct z g) sz U)) ((fun A => (va_Qi (fun (r : Int32) (u : V × VL) => Post r u.1 u.2) (fun (u : V × VL) t => WPos dC dI ct (MW a ct u.1 u.2) A t) A)) (va_A (MW a ct z g) sz)) 0 0 (va_A (MW a ct z g) sz) := by
  refine open_W (fun A => (va_Qi (fun (r : Int32) (u : V × VL) => Post r u.1 u.2) (fun (u : V × VL) t => WPos dC dI ct (MW a ct u.1 u.2) A t) A)) (by decide) (Nat.le_of_ble_eq_true rfl) ?_
  intro p e s m args below meth c ls A X hD0 hP hS hl
  have X0 := X
  obtain ⟨⟨hx, hb, hml, hr, hlk, hown, hts⟩, hA, hK, hN⟩ := X0
  have hD : ∀ (z' : V) (g' : VL), va_D A (MW a ct z' g') := fun z' g' => va_D_addr hD0 rfl
  have hl : lv_has ls 2 [(0, .ref (a 0)), (1, .int i1)] := hl
  unfold wp_X2_say at w
  have hS0 := hS
  refine lv_iload_n hx hb dX2_say_0 rfl (lv_at hl 1 rfl) ?_
  refine lv_i2l hx hb dX2_say_1 rfl ?_
  refine lv_ldc2 (v := 33) hx hb hown (hts _ q594) dX2_say_2 ?_
  refine lv_ldc2 (v := 126) hx hb hown (hts _ q595) dX2_say_5 ?_
  refine vp_callSi (W.runS (As := [.long i1.toInt64, .long (33 : Int64), .long (126 : Int64)]) (rest := []) ⟨hx, hb, hml, hown, hts⟩ (met_X2_in l w) (va_cwS 3 hts (lw_S q570 q571 q51 q572) rfl rfl rfl hd_X2_in ⟨Nat.le_of_ble_eq_true rfl, Nat.le_of_ble_eq_true rfl⟩) pre_S rfl rfl hl.1 rfl (lv_room (Nat.le_of_ble_eq_true rfl)) dX2_say_8 ⟨Nat.le_refl _, Nat.le_refl _⟩) (fun r1 w => ?_)
  refine lv_if_ne (tgt := 17) hx hb dX2_say_11 (by decide) (fun c => ?_) (fun c => ?_)
  · have w := And.right w c
    refine lv_aload_n hx hb dX2_say_17 rfl (lv_at hl 0 rfl) ?_
    refine va_get (D := (dC, dI)) (ci := 2) (v := .int (z 19 5)) (C := RX2) (T := TX2) (N := 34) hx hb hts in_X2 hown hK hP 0 rfl rfl 14 (by decide) (hts _ q472) (fun _ h9 => h9) rfl dX2_say_18 ?_
    refine lv_bipush (v := 60) hx hb dX2_say_21 (by decide) ?_
    refine lv_icmp_ne (tgt := 29) hx hb dX2_say_23 (by decide) (fun c => ?_) (fun c => ?_)
    · have w := And.right w c
      refine lv_aload_n hx hb dX2_say_29 rfl (lv_at hl 0 rfl) ?_
      refine va_get (D := (dC, dI)) (ci := 2) (v := .ref (a 9)) (C := RX2) (T := TX2) (N := 34) hx hb hts in_X2 hown hK hP 0 rfl rfl 13 (by decide) (hts _ q471) (fun _ h9 => h9) rfl dX2_say_30 ?_
      refine lv_aload_n hx hb dX2_say_33 rfl (lv_at hl 0 rfl) ?_
      refine va_get (D := (dC, dI)) (ci := 2) (v := .int (z 19 5)) (C := RX2) (T := TX2) (N := 34) hx hb hts in_X2 hown hK hP 0 rfl rfl 14 (by decide) (hts _ q472) (fun _ h9 => h9) rfl dX2_say_34 ?_
      refine lv_iload_n hx hb dX2_say_37 rfl (lv_at hl 1 rfl) ?_
      obtain ⟨gi, w⟩ := w
      refine va_iast hx hb hK hP (hD _ _) hS 9 0 rfl rfl gi dX2_say_38 (fun H locs hP _ hS => ?_)
      have hP : va_P (dC, dI) vwCl (MW a ct (up2 z 8 (z 19 5).toNatClampNeg i1) g) H := MW_u_z_8 hP
      refine lv_aload_n hx hb dX2_say_39 rfl (lv_at hl 0 rfl) ?_
      refine lv_dup hx hb dX2_say_40 rfl ?_
      refine va_get (D := (dC, dI)) (ci := 2) (v := .int (z 19 5)) (C := RX2) (T := TX2) (N := 34) hx hb hts in_X2 hown hK hP 0 rfl rfl 14 (by decide) (hts _ q472) (fun _ h9 => h9) rfl dX2_say_41 ?_
      refine lv_iconst (v := 1) hx hb dX2_say_44 (by decide) ?_
      refine lv_iadd hx hb dX2_say_45 ?_
      refine va_put (D := (dC, dI)) (ci := 2) (v := .int ((z 19 5) + (1 : Int32))) (ty := .int) (C := RX2) (T := TX2) (N := 34) hx hb hts in_X2 tyX2 tyX2_ok nmX2 hown hK hP (hD _ _) hS 0 rfl rfl 14 (by decide) (hts _ q472) (fun _ h9 => h9) rfl (by decide +kernel) rfl rfl (Nat.le_of_ble_eq_true rfl) dX2_say_46 (fun H locs hP _ hS => ?_)
      have hP : va_P (dC, dI) vwCl (MW a ct (up2 (up2 z 8 (z 19 5).toNatClampNeg i1) 19 5 ((z 19 5) + (1 : Int32))) g) H := MW_s_z_5 hP
      refine lv_aload_n hx hb dX2_say_49 rfl (lv_at hl 0 rfl) ?_
      refine va_get (D := (dC, dI)) (ci := 2) (v := .int ((z 19 5) + (1 : Int32))) (C := RX2) (T := TX2) (N := 34) hx hb hts in_X2 hown hK hP 0 rfl rfl 14 (by decide) (hts _ q472) (fun _ h9 => h9) rfl dX2_say_50 ?_
      exact W.iret (v := ((z 19 5) + (1 : Int32))) hx hb hr (fun t ht hW => ⟨⟨((z 19 5) + (1 : Int32)), ((up2 (up2 z 8 (z 19 5).toNatClampNeg i1) 19 5 ((z 19 5) + (1 : Int32))), g), rfl, w, by rw [ht]; exact hP, va_K.moved hW.alike hK, (hD _ _)⟩, hS.F ht⟩) hS.2.2 dX2_say_53 hlk
    · have w := And.left w c
      refine lv_bipush (v := -4) hx hb dX2_say_26 (by decide) ?_
      exact W.iret (v := (-4 : Int32)) hx hb hr (fun t ht hW => ⟨⟨(-4 : Int32), (z, g), rfl, w, by rw [ht]; exact hP, va_K.moved hW.alike hK, (hD _ _)⟩, hS.F ht⟩) hS.2.2 dX2_say_28 hlk
  · have w := And.left w c
    refine lv_bipush (v := -2) hx hb dX2_say_14 (by decide) ?_
    exact W.iret (v := (-2 : Int32)) hx hb hr (fun t ht hW => ⟨⟨(-2 : Int32), (z, g), rfl, w, by rw [ht]; exact hP, va_K.moved hW.alike hK, (hD _ _)⟩, hS.F ht⟩) hS.2.2 dX2_say_16 hlk
abbrev rm_X2_wipe : Room := { frames := 0, cells := 0, slots := 0, locals := 0 }
theorem hd_X2_wipe : yX2_wipe.cls = RX2 ∧ yX2_wipe.cls ≠ "java/lang/invoke/MethodHandle" ∧ yX2_wipe.cls ≠ "java/lang/invoke/VarHandle" ∧ (parseMethodDescriptor yX2_wipe.desc).map (fun d => d.parameters.length) = some 0 := by decide +kernel
set_option maxHeartbeats 4000000 in
set_option maxRecDepth 100000 in
theorem met_X2_wipe (l : Launch) (dC : Nat → ClassId) (dI : Nat → Nat → Nat) (ct : Nat → ClassId) (a : Nat → Nat) (sz : Nat)  {z : V} {g : VL} {Post : Int32 → V → VL → Prop} (w : wp_X2_wipe z g Post) : Met l yX2_wipe (ws_ yX2_wipe cX2_wipe 2 (some .int)) rm_X2_wipe (va_Pc [.ref (a 0)] (fun U => WPre dC dI ct (MW a ct z g) sz U)) ((fun A => (va_Qi (fun (r : Int32) (u : V × VL) => Post r u.1 u.2) (fun (u : V × VL) t => WPos dC dI ct (MW a ct u.1 u.2) A t) A)) (va_A (MW a ct z g) sz)) 0 0 (va_A (MW a ct z g) sz) := by
  refine open_W (fun A => (va_Qi (fun (r : Int32) (u : V × VL) => Post r u.1 u.2) (fun (u : V × VL) t => WPos dC dI ct (MW a ct u.1 u.2) A t) A)) (by decide) (Nat.le_of_ble_eq_true rfl) ?_
  intro p e s m args below meth c ls A X hD0 hP hS hl
  have X0 := X
  obtain ⟨⟨hx, hb, hml, hr, hlk, hown, hts⟩, hA, hK, hN⟩ := X0
  have hD : ∀ (z' : V) (g' : VL), va_D A (MW a ct z' g') := fun z' g' => va_D_addr hD0 rfl
  have hl : lv_has ls 2 [(0, .ref (a 0))] := hl
  unfold wp_X2_wipe at w
  have hS0 := hS
  refine lv_aload_n hx hb dX2_wipe_0 rfl (lv_at hl 0 rfl) ?_
  refine va_get (D := (dC, dI)) (ci := 2) (v := .int (z 19 5)) (C := RX2) (T := TX2) (N := 34) hx hb hts in_X2 hown hK hP 0 rfl rfl 14 (by decide) (hts _ q472) (fun _ h9 => h9) rfl dX2_wipe_1 ?_
  refine lv_istore_n (lv' := [(1, .int (z 19 5)), (0, .ref (a 0))]) hx hb dX2_wipe_4 rfl hl (by decide) rfl (fun ls hl => ?_)
  refine lv_aload_n hx hb dX2_wipe_5 rfl (lv_at hl 1 rfl) ?_
  refine lv_iconst (v := 0) hx hb dX2_wipe_6 (by decide) ?_
  refine va_put (D := (dC, dI)) (ci := 2) (v := .int (0 : Int32)) (ty := .int) (C := RX2) (T := TX2) (N := 34) hx hb hts in_X2 tyX2 tyX2_ok nmX2 hown hK hP (hD _ _) hS 0 rfl rfl 14 (by decide) (hts _ q472) (fun _ h9 => h9) rfl (by decide +kernel) rfl rfl (Nat.le_of_ble_eq_true rfl) dX2_wipe_7 (fun H locs hP _ hS => ?_)
  have hP : va_P (dC, dI) vwCl (MW a ct (up2 z 19 5 (0 : Int32)) g) H := MW_s_z_5 hP
  refine lv_iload_n hx hb dX2_wipe_10 rfl (lv_at hl 0 rfl) ?_
  exact W.iret (v := (z 19 5)) hx hb hr (fun t ht hW => ⟨⟨(z 19 5), ((up2 z 19 5 (0 : Int32)), g), rfl, w, by rw [ht]; exact hP, va_K.moved hW.alike hK, (hD _ _)⟩, hS.F ht⟩) hS.2.2 dX2_wipe_11 hlk
abbrev rm_X2_close : Room := { frames := 0, cells := 0, slots := 0, locals := 0 }
theorem hd_X2_close : yX2_close.cls = RX2 ∧ yX2_close.cls ≠ "java/lang/invoke/MethodHandle" ∧ yX2_close.cls ≠ "java/lang/invoke/VarHandle" ∧ (parseMethodDescriptor yX2_close.desc).map (fun d => d.parameters.length) = some 2 := by decide +kernel
set_option maxHeartbeats 4000000 in
set_option maxRecDepth 100000 in
theorem met_X2_close (l : Launch) (dC : Nat → ClassId) (dI : Nat → Nat → Nat) (ct : Nat → ClassId) (a : Nat → Nat) (sz : Nat) {i1 : Int32} {i2 : Int32} {z : V} {g : VL} {Post : Int32 → V → VL → Prop} (w : wp_X2_close i1 i2 z g Post) : Met l yX2_close (ws_ yX2_close cX2_close 3 (some .int)) rm_X2_close (va_Pc [.ref (a 0), .int i1, .int i2] (fun U => WPre dC dI ct (MW a ct z g) sz U)) ((fun A => (va_Qi (fun (r : Int32) (u : V × VL) => Post r u.1 u.2) (fun (u : V × VL) t => WPos dC dI ct (MW a ct u.1 u.2) A t) A)) (va_A (MW a ct z g) sz)) 0 0 (va_A (MW a ct z g) sz) := by
  refine open_W (fun A => (va_Qi (fun (r : Int32) (u : V × VL) => Post r u.1 u.2) (fun (u : V × VL) t => WPos dC dI ct (MW a ct u.1 u.2) A t) A)) (by decide) (Nat.le_of_ble_eq_true rfl) ?_
  intro p e s m args below meth c ls A X hD0 hP hS hl
  have X0 := X
  obtain ⟨⟨hx, hb, hml, hr, hlk, hown, hts⟩, hA, hK, hN⟩ := X0
  have hD : ∀ (z' : V) (g' : VL), va_D A (MW a ct z' g') := fun z' g' => va_D_addr hD0 rfl
  have hl : lv_has ls 3 [(0, .ref (a 0)), (1, .int i1), (2, .int i2)] := hl
  unfold wp_X2_close at w
  have hS0 := hS
  refine lv_aload_n hx hb dX2_close_0 rfl (lv_at hl 0 rfl) ?_
  refine va_get (D := (dC, dI)) (ci := 2) (v := .ref (a 10)) (C := RX2) (T := TX2) (N := 34) hx hb hts in_X2 hown hK hP 0 rfl rfl 15 (by decide) (hts _ q473) (fun _ h9 => h9) rfl dX2_close_1 ?_
  refine lv_aload_n hx hb dX2_close_4 rfl (lv_at hl 0 rfl) ?_
  refine va_get (D := (dC, dI)) (ci := 2) (v := .int (z 19 6)) (C := RX2) (T := TX2) (N := 34) hx hb hts in_X2 hown hK hP 0 rfl rfl 18 (by decide) (hts _ q476) (fun _ h9 => h9) rfl dX2_close_5 ?_
  refine lv_iload_n hx hb dX2_close_8 rfl (lv_at hl 1 rfl) ?_
  obtain ⟨gi, w⟩ := w
  refine va_iast hx hb hK hP (hD _ _) hS 10 0 rfl rfl gi dX2_close_9 (fun H locs hP _ hS => ?_)
  have hP : va_P (dC, dI) vwCl (MW a ct (up2 z 9 (z 19 6).toNatClampNeg i1) g) H := MW_u_z_9 hP
  refine lv_aload_n hx hb dX2_close_10 rfl (lv_at hl 0 rfl) ?_
  refine va_get (D := (dC, dI)) (ci := 2) (v := .ref (a 12)) (C := RX2) (T := TX2) (N := 34) hx hb hts in_X2 hown hK hP 0 rfl rfl 17 (by decide) (hts _ q475) (fun _ h9 => h9) rfl dX2_close_11 ?_
  refine lv_aload_n hx hb dX2_close_14 rfl (lv_at hl 0 rfl) ?_
  refine va_get (D := (dC, dI)) (ci := 2) (v := .int (z 19 6)) (C := RX2) (T := TX2) (N := 34) hx hb hts in_X2 hown hK hP 0 rfl rfl 18 (by decide) (hts _ q476) (fun _ h9 => h9) rfl dX2_close_15 ?_
  refine lv_iload_n hx hb dX2_close_18 rfl (lv_at hl 2 rfl) ?_
  obtain ⟨gi, w⟩ := w
  refine va_iast hx hb hK hP (hD _ _) hS 12 0 rfl rfl gi dX2_close_19 (fun H locs hP _ hS => ?_)
  have hP : va_P (dC, dI) vwCl (MW a ct (up2 (up2 z 9 (z 19 6).toNatClampNeg i1) 11 (z 19 6).toNatClampNeg i2) g) H := MW_u_z_11 hP
  refine lv_aload_n hx hb dX2_close_20 rfl (lv_at hl 0 rfl) ?_
  refine lv_dup hx hb dX2_close_21 rfl ?_
  refine va_get (D := (dC, dI)) (ci := 2) (v := .int (z 19 6)) (C := RX2) (T := TX2) (N := 34) hx hb hts in_X2 hown hK hP 0 rfl rfl 18 (by decide) (hts _ q476) (fun _ h9 => h9) rfl dX2_close_22 ?_
  refine lv_iconst (v := 1) hx hb dX2_close_25 (by decide) ?_
  refine lv_iadd hx hb dX2_close_26 ?_
  refine va_put (D := (dC, dI)) (ci := 2) (v := .int ((z 19 6) + (1 : Int32))) (ty := .int) (C := RX2) (T := TX2) (N := 34) hx hb hts in_X2 tyX2 tyX2_ok nmX2 hown hK hP (hD _ _) hS 0 rfl rfl 18 (by decide) (hts _ q476) (fun _ h9 => h9) rfl (by decide +kernel) rfl rfl (Nat.le_of_ble_eq_true rfl) dX2_close_27 (fun H locs hP _ hS => ?_)
  have hP : va_P (dC, dI) vwCl (MW a ct (up2 (up2 (up2 z 9 (z 19 6).toNatClampNeg i1) 11 (z 19 6).toNatClampNeg i2) 19 6 ((z 19 6) + (1 : Int32))) g) H := MW_s_z_6 hP
  refine lv_iconst (v := 0) hx hb dX2_close_30 (by decide) ?_
  exact W.iret (v := (0 : Int32)) hx hb hr (fun t ht hW => ⟨⟨(0 : Int32), ((up2 (up2 (up2 z 9 (z 19 6).toNatClampNeg i1) 11 (z 19 6).toNatClampNeg i2) 19 6 ((z 19 6) + (1 : Int32))), g), rfl, w, by rw [ht]; exact hP, va_K.moved hW.alike hK, (hD _ _)⟩, hS.F ht⟩) hS.2.2 dX2_close_31 hlk
abbrev rm_X2_begin : Room := { frames := 2, cells := 0, slots := 0, locals := 45 }
theorem hd_X2_begin : yX2_begin.cls = RX2 ∧ yX2_begin.cls ≠ "java/lang/invoke/MethodHandle" ∧ yX2_begin.cls ≠ "java/lang/invoke/VarHandle" ∧ (parseMethodDescriptor yX2_begin.desc).map (fun d => d.parameters.length) = some 1 := by decide +kernel
set_option maxHeartbeats 4000000 in
set_option maxRecDepth 100000 in
theorem wk_X2_begin_L85 {p : Program} {l : Launch} {e : Env} {s : State} {m : MethodId} {args : Array Value} {below : List Frame} {meth : Method} {c : Code} {dC : Nat → ClassId} {dI : Nat → Nat → Nat} {ct : Nat → ClassId} {A : Nat → Prop} {a : Nat → Nat} {Post : Int32 → V → VL → Prop}   (X : CxW p s m args meth c cX2_begin 2 (some .int) RX2 dC dI ct A) (hD : ∀ (z : V) (g : VL), va_D A (MW a ct z g))  (is0 : Int32) (z : V) (g : VL) (w : wp_X2_begin_L85  Post  is0 z g) : ∀ (H : Heap) (locs : List Loc) (ls : Array Slot), va_P (dC, dI) vwCl (MW a ct z g) H → va_S A s.heap H locs → lv_has ls 2 [] → W p l e rm_X2_begin s m args below meth c H locs 0 0 (MQ below (va_Qi (fun (r : Int32) (u : V × VL) => Post r u.1 u.2) (fun (u : V × VL) t => WPos dC dI ct (MW a ct u.1 u.2) A t) A) args s 0 0 A) (F0 m 85 ls [.int is0]) := by
  intro H locs ls hP hS hl
  have X0 := X
  obtain ⟨⟨hx, hb, hml, hr, hlk, hown, hts⟩, hA, hK, hN⟩ := X0
  unfold wp_X2_begin_L85 at w
  exact W.iret (v := is0) hx hb hr (fun t ht hW => ⟨⟨is0, (z, g), rfl, w, by rw [ht]; exact hP, va_K.moved hW.alike hK, (hD _ _)⟩, hS.F ht⟩) hS.2.2 dX2_begin_85 hlk
set_option maxHeartbeats 4000000 in
set_option maxRecDepth 100000 in
theorem wk_X2_begin_L23 {p : Program} {l : Launch} {e : Env} {s : State} {m : MethodId} {args : Array Value} {below : List Frame} {meth : Method} {c : Code} {dC : Nat → ClassId} {dI : Nat → Nat → Nat} {ct : Nat → ClassId} {A : Nat → Prop} {a : Nat → Nat} {Post : Int32 → V → VL → Prop}   (X : CxW p s m args meth c cX2_begin 2 (some .int) RX2 dC dI ct A) (hD : ∀ (z : V) (g : VL), va_D A (MW a ct z g))  (i1 : Int32) (is0 : Int32) (is1 : Int32) (z : V) (g : VL) (w : wp_X2_begin_L23  Post  i1 is0 is1 z g) : ∀ (H : Heap) (locs : List Loc) (ls : Array Slot), va_P (dC, dI) vwCl (MW a ct z g) H → va_S A s.heap H locs → lv_has ls 2 [(0, .ref (a 0)), (1, .int i1)] → W p l e rm_X2_begin s m args below meth c H locs 0 0 (MQ below (va_Qi (fun (r : Int32) (u : V × VL) => Post r u.1 u.2) (fun (u : V × VL) t => WPos dC dI ct (MW a ct u.1 u.2) A t) A) args s 0 0 A) (F0 m 23 ls [.int is0, .int is1, .ref (a 11)]) := by
  intro H locs ls hP hS hl
  have X0 := X
  obtain ⟨⟨hx, hb, hml, hr, hlk, hown, hts⟩, hA, hK, hN⟩ := X0
  unfold wp_X2_begin_L23 at w
  obtain ⟨gi, w⟩ := w
  refine va_iast hx hb hK hP (hD _ _) hS 11 0 rfl rfl gi dX2_begin_23 (fun H locs hP _ hS => ?_)
  have hP : va_P (dC, dI) vwCl (MW a ct (up2 z 10 is1.toNatClampNeg is0) g) H := MW_u_z_10 hP
  refine lv_iload_n hx hb dX2_begin_24 rfl (lv_at hl 1 rfl) ?_
  by_cases c1_0 : i1 = 33
  · have w := And.left w c1_0
    refine lv_lookup (off := 37) (tgt := 62) hx hb dX2_begin_25 rfl (by rw [c1_0] <;> rfl) (by decide) ?_
    refine lv_iconst (v := 3) hx hb dX2_begin_62 (by decide) ?_
    exact W.iret (v := (3 : Int32)) hx hb hr (fun t ht hW => ⟨⟨(3 : Int32), ((up2 z 10 is1.toNatClampNeg is0), g), rfl, w, by rw [ht]; exact hP, va_K.moved hW.alike hK, (hD _ _)⟩, hS.F ht⟩) hS.2.2 dX2_begin_63 hlk
  have w := And.right w c1_0
  by_cases c1_1 : i1 = 43
  · have w := And.left w c1_1
    refine lv_lookup (off := 35) (tgt := 60) hx hb dX2_begin_25 rfl (by rw [c1_1] <;> rfl) (by decide) ?_
    refine lv_iconst (v := 2) hx hb dX2_begin_60 (by decide) ?_
    exact W.iret (v := (2 : Int32)) hx hb hr (fun t ht hW => ⟨⟨(2 : Int32), ((up2 z 10 is1.toNatClampNeg is0), g), rfl, w, by rw [ht]; exact hP, va_K.moved hW.alike hK, (hD _ _)⟩, hS.F ht⟩) hS.2.2 dX2_begin_61 hlk
  have w := And.right w c1_1
  by_cases c1_2 : i1 = 46
  · have w := And.left w c1_2
    refine lv_lookup (off := 39) (tgt := 64) hx hb dX2_begin_25 rfl (by rw [c1_2] <;> rfl) (by decide) ?_
    refine lv_aload_n hx hb dX2_begin_64 rfl (lv_at hl 0 rfl) ?_
    refine lv_bipush (v := 6) hx hb dX2_begin_65 (by decide) ?_
    refine lv_iconst (v := 0) hx hb dX2_begin_67 (by decide) ?_
    refine va_calli (va_runV (As := [.int (6 : Int32), .int (0 : Int32)]) (rest := []) ⟨hx, hb, hml, hown, hts⟩ (met_X2_close l dC dI ct a _ w) (cwV 2 hts (lw_V q617 q619 qs13 q51 q620) rfl rfl rfl hd_X2_close ⟨Nat.le_of_ble_eq_true rfl, Nat.le_of_ble_eq_true rfl⟩) (pre_V hK hP (hD _ _) hN (va_recv hK hP (ci := 2) (q0 := 0) rfl rfl)) rfl rfl hl.1 rfl (lv_room (Nat.le_of_ble_eq_true rfl)) dX2_begin_68 ⟨Nat.le_refl _, Nat.le_refl _⟩) hS (fun q _ h => x_free (hD _ _) hS hA q h) (x_free (hD _ _) hS hA) (fun r2 u t H locs ht hvm w hB hz hk hS => ?_)
    obtain ⟨z_2, g_2⟩ := u
    dsimp only at w
    have hP : va_P (dC, dI) vwCl (MW a ct z_2 g_2) H := post_P hB ht
    exact W.iret (v := r2) hx hb hr (fun t ht hW => ⟨⟨r2, (z_2, g_2), rfl, w, by rw [ht]; exact hP, va_K.moved hW.alike hK, (hD _ _)⟩, hS.F ht⟩) hS.2.2 dX2_begin_71 hlk
  have w := And.right w c1_2
  refine lv_lookup (off := 47) (tgt := 72) hx hb dX2_begin_25 rfl (by show Op.lookupswitch.offset [(33, 37), (43, 35), (46, 39)] (47) _ = _; rw [lv_osw (a := 33) (k := 33) c1_0 rfl, lv_osw (a := 43) (k := 43) c1_1 rfl, lv_osw (a := 46) (k := 46) c1_2 rfl] <;> rfl) (by decide) ?_
  refine lv_iload_n hx hb dX2_begin_72 rfl (lv_at hl 1 rfl) ?_
  refine vp_callSi (W.runS (As := [.int i1]) (rest := []) ⟨hx, hb, hml, hown, hts⟩ (met_X2_isLetter l w) (va_cwS 1 hts (lw_S q612 q613 q51 q614) rfl rfl rfl hd_X2_isLetter ⟨Nat.le_of_ble_eq_true rfl, Nat.le_of_ble_eq_true rfl⟩) pre_S rfl rfl hl.1 rfl (lv_room (Nat.le_of_ble_eq_true rfl)) dX2_begin_73 ⟨Nat.le_refl _, Nat.le_refl _⟩) (fun r3 w => ?_)
  refine lv_if_eq (tgt := 83) hx hb dX2_begin_76 (by decide) (fun c => ?_) (fun c => ?_)
  · have w := And.left w c
    refine lv_bipush (v := -6) hx hb dX2_begin_83 (by decide) ?_
    exact wk_X2_begin_L85 X hD  _ _ _ w _ _ _ hP hS (lv_sub hl [] rfl)
  · have w := And.right w c
    refine lv_iconst (v := 1) hx hb dX2_begin_79 (by decide) ?_
    refine lv_goto (tgt := 85) hx hb dX2_begin_80 (by decide) ?_
    exact wk_X2_begin_L85 X hD  _ _ _ w _ _ _ hP hS (lv_sub hl [] rfl)
set_option maxHeartbeats 4000000 in
set_option maxRecDepth 100000 in
theorem met_X2_begin (l : Launch) (dC : Nat → ClassId) (dI : Nat → Nat → Nat) (ct : Nat → ClassId) (a : Nat → Nat) (sz : Nat) {i1 : Int32} {z : V} {g : VL} {Post : Int32 → V → VL → Prop} (w : wp_X2_begin i1 z g Post) : Met l yX2_begin (ws_ yX2_begin cX2_begin 2 (some .int)) rm_X2_begin (va_Pc [.ref (a 0), .int i1] (fun U => WPre dC dI ct (MW a ct z g) sz U)) ((fun A => (va_Qi (fun (r : Int32) (u : V × VL) => Post r u.1 u.2) (fun (u : V × VL) t => WPos dC dI ct (MW a ct u.1 u.2) A t) A)) (va_A (MW a ct z g) sz)) 0 0 (va_A (MW a ct z g) sz) := by
  refine open_W (fun A => (va_Qi (fun (r : Int32) (u : V × VL) => Post r u.1 u.2) (fun (u : V × VL) t => WPos dC dI ct (MW a ct u.1 u.2) A t) A)) (by decide) (Nat.le_of_ble_eq_true rfl) ?_
  intro p e s m args below meth c ls A X hD0 hP hS hl
  have X0 := X
  obtain ⟨⟨hx, hb, hml, hr, hlk, hown, hts⟩, hA, hK, hN⟩ := X0
  have hD : ∀ (z' : V) (g' : VL), va_D A (MW a ct z' g') := fun z' g' => va_D_addr hD0 rfl
  have hl : lv_has ls 2 [(0, .ref (a 0)), (1, .int i1)] := hl
  unfold wp_X2_begin at w
  have hS0 := hS
  refine lv_aload_n hx hb dX2_begin_0 rfl (lv_at hl 0 rfl) ?_
  refine va_get (D := (dC, dI)) (ci := 2) (v := .ref (a 11)) (C := RX2) (T := TX2) (N := 34) hx hb hts in_X2 hown hK hP 0 rfl rfl 16 (by decide) (hts _ q474) (fun _ h9 => h9) rfl dX2_begin_1 ?_
  refine lv_aload_n hx hb dX2_begin_4 rfl (lv_at hl 0 rfl) ?_
  refine va_get (D := (dC, dI)) (ci := 2) (v := .int (z 19 6)) (C := RX2) (T := TX2) (N := 34) hx hb hts in_X2 hown hK hP 0 rfl rfl 18 (by decide) (hts _ q476) (fun _ h9 => h9) rfl dX2_begin_5 ?_
  refine lv_iload_n hx hb dX2_begin_8 rfl (lv_at hl 1 rfl) ?_
  refine vp_callSi (W.runS (As := [.int i1]) (rest := [.int (z 19 6), .ref (a 11)]) ⟨hx, hb, hml, hown, hts⟩ (met_X2_isLetter l w) (va_cwS 1 hts (lw_S q612 q613 q51 q614) rfl rfl rfl hd_X2_isLetter ⟨Nat.le_of_ble_eq_true rfl, Nat.le_of_ble_eq_true rfl⟩) pre_S rfl rfl hl.1 rfl (lv_room (Nat.le_of_ble_eq_true rfl)) dX2_begin_9 ⟨Nat.le_refl _, Nat.le_refl _⟩) (fun r1 w => ?_)
  refine lv_if_eq (tgt := 22) hx hb dX2_begin_12 (by decide) (fun c => ?_) (fun c => ?_)
  · have w := And.left w c
    refine lv_iconst (v := 0) hx hb dX2_begin_22 (by decide) ?_
    exact wk_X2_begin_L23 X hD  _ _ _ _ _ w _ _ _ hP hS (lv_sub hl [0, 1] rfl)
  · have w := And.right w c
    refine lv_iload_n hx hb dX2_begin_15 rfl (lv_at hl 1 rfl) ?_
    refine lv_bipush (v := 65) hx hb dX2_begin_16 (by decide) ?_
    refine lv_isub hx hb dX2_begin_18 ?_
    refine lv_goto (tgt := 23) hx hb dX2_begin_19 (by decide) ?_
    exact wk_X2_begin_L23 X hD  _ _ _ _ _ w _ _ _ hP hS (lv_sub hl [0, 1] rfl)
abbrev rm_X2_number : Room := { frames := 1, cells := 0, slots := 0, locals := 25 }
theorem hd_X2_number : yX2_number.cls = RX2 ∧ yX2_number.cls ≠ "java/lang/invoke/MethodHandle" ∧ yX2_number.cls ≠ "java/lang/invoke/VarHandle" ∧ (parseMethodDescriptor yX2_number.desc).map (fun d => d.parameters.length) = some 3 := by decide +kernel
set_option maxHeartbeats 4000000 in
set_option maxRecDepth 100000 in
theorem wk_X2_number_L30 {p : Program} {l : Launch} {e : Env} {s : State} {m : MethodId} {args : Array Value} {below : List Frame} {meth : Method} {c : Code} {dC : Nat → ClassId} {dI : Nat → Nat → Nat} {ct : Nat → ClassId} {A : Nat → Prop} {a : Nat → Nat} {Post : Int32 → V → VL → Prop}   (X : CxW p s m args meth c cX2_number 4 (some .int) RX2 dC dI ct A) (hD : ∀ (z : V) (g : VL), va_D A (MW a ct z g))  (is0 : Int32) (z : V) (g : VL) (w : wp_X2_number_L30  Post  is0 z g) : ∀ (H : Heap) (locs : List Loc) (ls : Array Slot), va_P (dC, dI) vwCl (MW a ct z g) H → va_S A s.heap H locs → lv_has ls 4 [] → W p l e rm_X2_number s m args below meth c H locs 0 0 (MQ below (va_Qi (fun (r : Int32) (u : V × VL) => Post r u.1 u.2) (fun (u : V × VL) t => WPos dC dI ct (MW a ct u.1 u.2) A t) A) args s 0 0 A) (F0 m 30 ls [.int is0]) := by
  intro H locs ls hP hS hl
  have X0 := X
  obtain ⟨⟨hx, hb, hml, hr, hlk, hown, hts⟩, hA, hK, hN⟩ := X0
  unfold wp_X2_number_L30 at w
  exact W.iret (v := is0) hx hb hr (fun t ht hW => ⟨⟨is0, (z, g), rfl, w, by rw [ht]; exact hP, va_K.moved hW.alike hK, (hD _ _)⟩, hS.F ht⟩) hS.2.2 dX2_number_30 hlk
set_option maxHeartbeats 4000000 in
set_option maxRecDepth 100000 in
theorem met_X2_number (l : Launch) (dC : Nat → ClassId) (dI : Nat → Nat → Nat) (ct : Nat → ClassId) (a : Nat → Nat) (sz : Nat) {i1 : Int32} {i2 : Int32} {i3 : Int32} {z : V} {g : VL} {Post : Int32 → V → VL → Prop} (w : wp_X2_number i1 i2 i3 z g Post) : Met l yX2_number (ws_ yX2_number cX2_number 4 (some .int)) rm_X2_number (va_Pc [.ref (a 0), .int i1, .int i2, .int i3] (fun U => WPre dC dI ct (MW a ct z g) sz U)) ((fun A => (va_Qi (fun (r : Int32) (u : V × VL) => Post r u.1 u.2) (fun (u : V × VL) t => WPos dC dI ct (MW a ct u.1 u.2) A t) A)) (va_A (MW a ct z g) sz)) 0 0 (va_A (MW a ct z g) sz) := by
  refine open_W (fun A => (va_Qi (fun (r : Int32) (u : V × VL) => Post r u.1 u.2) (fun (u : V × VL) t => WPos dC dI ct (MW a ct u.1 u.2) A t) A)) (by decide) (Nat.le_of_ble_eq_true rfl) ?_
  intro p e s m args below meth c ls A X hD0 hP hS hl
  have X0 := X
  obtain ⟨⟨hx, hb, hml, hr, hlk, hown, hts⟩, hA, hK, hN⟩ := X0
  have hD : ∀ (z' : V) (g' : VL), va_D A (MW a ct z' g') := fun z' g' => va_D_addr hD0 rfl
  have hl : lv_has ls 4 [(0, .ref (a 0)), (1, .int i1), (2, .int i2), (3, .int i3)] := hl
  unfold wp_X2_number at w
  have hS0 := hS
  refine lv_iload_n hx hb dX2_number_0 rfl (lv_at hl 2 rfl) ?_
  refine lv_i2l hx hb dX2_number_1 rfl ?_
  refine lv_ldc2 (v := 49) hx hb hown (hts _ q628) dX2_number_2 ?_
  refine lv_ldc2 (v := 57) hx hb hown (hts _ q629) dX2_number_5 ?_
  refine vp_callSi (W.runS (As := [.long i2.toInt64, .long (49 : Int64), .long (57 : Int64)]) (rest := []) ⟨hx, hb, hml, hown, hts⟩ (met_X2_in l w) (va_cwS 3 hts (lw_S q570 q571 q51 q572) rfl rfl rfl hd_X2_in ⟨Nat.le_of_ble_eq_true rfl, Nat.le_of_ble_eq_true rfl⟩) pre_S rfl rfl hl.1 rfl (lv_room (Nat.le_of_ble_eq_true rfl)) dX2_number_8 ⟨Nat.le_refl _, Nat.le_refl _⟩) (fun r1 w => ?_)
  refine lv_if_eq (tgt := 28) hx hb dX2_number_11 (by decide) (fun c => ?_) (fun c => ?_)
  · have w := And.left w c
    refine lv_bipush (v := -6) hx hb dX2_number_28 (by decide) ?_
    exact wk_X2_number_L30 X hD  _ _ _ w _ _ _ hP hS (lv_sub hl [] rfl)
  · have w := And.right w c
    refine lv_aload_n hx hb dX2_number_14 rfl (lv_at hl 0 rfl) ?_
    refine lv_iload_n hx hb dX2_number_15 rfl (lv_at hl 1 rfl) ?_
    refine lv_iload_n hx hb dX2_number_16 rfl (lv_at hl 3 rfl) ?_
    refine lv_iload_n hx hb dX2_number_17 rfl (lv_at hl 2 rfl) ?_
    refine lv_bipush (v := 48) hx hb dX2_number_18 (by decide) ?_
    refine lv_isub hx hb dX2_number_20 ?_
    refine lv_imul hx hb dX2_number_21 ?_
    refine va_calli (va_runV (As := [.int i1, .int (i3 * (i2 - (48 : Int32)))]) (rest := []) ⟨hx, hb, hml, hown, hts⟩ (met_X2_close l dC dI ct a _ w) (cwV 2 hts (lw_V q617 q619 qs13 q51 q620) rfl rfl rfl hd_X2_close ⟨Nat.le_of_ble_eq_true rfl, Nat.le_of_ble_eq_true rfl⟩) (pre_V hK hP (hD _ _) hN (va_recv hK hP (ci := 2) (q0 := 0) rfl rfl)) rfl rfl hl.1 rfl (lv_room (Nat.le_of_ble_eq_true rfl)) dX2_number_22 ⟨Nat.le_refl _, Nat.le_refl _⟩) hS (fun q _ h => x_free (hD _ _) hS hA q h) (x_free (hD _ _) hS hA) (fun r2 u t H locs ht hvm w hB hz hk hS => ?_)
    obtain ⟨z_2, g_2⟩ := u
    dsimp only at w
    have hP : va_P (dC, dI) vwCl (MW a ct z_2 g_2) H := post_P hB ht
    refine lv_goto (tgt := 30) hx hb dX2_number_25 (by decide) ?_
    exact wk_X2_number_L30 X hD  _ _ _ w _ _ _ hP hS (lv_sub hl [] rfl)
abbrev rm_X2_forWhom : Room := { frames := 2, cells := 0, slots := 0, locals := 45 }
theorem hd_X2_forWhom : yX2_forWhom.cls = RX2 ∧ yX2_forWhom.cls ≠ "java/lang/invoke/MethodHandle" ∧ yX2_forWhom.cls ≠ "java/lang/invoke/VarHandle" ∧ (parseMethodDescriptor yX2_forWhom.desc).map (fun d => d.parameters.length) = some 1 := by decide +kernel
set_option maxHeartbeats 4000000 in
set_option maxRecDepth 100000 in
theorem wk_X2_forWhom_L26 {p : Program} {l : Launch} {e : Env} {s : State} {m : MethodId} {args : Array Value} {below : List Frame} {meth : Method} {c : Code} {dC : Nat → ClassId} {dI : Nat → Nat → Nat} {ct : Nat → ClassId} {A : Nat → Prop} {a : Nat → Nat} {Post : Int32 → V → VL → Prop}   (X : CxW p s m args meth c cX2_forWhom 2 (some .int) RX2 dC dI ct A) (hD : ∀ (z : V) (g : VL), va_D A (MW a ct z g))  (is0 : Int32) (z : V) (g : VL) (w : wp_X2_forWhom_L26  Post  is0 z g) : ∀ (H : Heap) (locs : List Loc) (ls : Array Slot), va_P (dC, dI) vwCl (MW a ct z g) H → va_S A s.heap H locs → lv_has ls 2 [] → W p l e rm_X2_forWhom s m args below meth c H locs 0 0 (MQ below (va_Qi (fun (r : Int32) (u : V × VL) => Post r u.1 u.2) (fun (u : V × VL) t => WPos dC dI ct (MW a ct u.1 u.2) A t) A) args s 0 0 A) (F0 m 26 ls [.int is0]) := by
  intro H locs ls hP hS hl
  have X0 := X
  obtain ⟨⟨hx, hb, hml, hr, hlk, hown, hts⟩, hA, hK, hN⟩ := X0
  unfold wp_X2_forWhom_L26 at w
  exact W.iret (v := is0) hx hb hr (fun t ht hW => ⟨⟨is0, (z, g), rfl, w, by rw [ht]; exact hP, va_K.moved hW.alike hK, (hD _ _)⟩, hS.F ht⟩) hS.2.2 dX2_forWhom_26 hlk
set_option maxHeartbeats 4000000 in
set_option maxRecDepth 100000 in
theorem met_X2_forWhom (l : Launch) (dC : Nat → ClassId) (dI : Nat → Nat → Nat) (ct : Nat → ClassId) (a : Nat → Nat) (sz : Nat) {i1 : Int32} {z : V} {g : VL} {Post : Int32 → V → VL → Prop} (w : wp_X2_forWhom i1 z g Post) : Met l yX2_forWhom (ws_ yX2_forWhom cX2_forWhom 2 (some .int)) rm_X2_forWhom (va_Pc [.ref (a 0), .int i1] (fun U => WPre dC dI ct (MW a ct z g) sz U)) ((fun A => (va_Qi (fun (r : Int32) (u : V × VL) => Post r u.1 u.2) (fun (u : V × VL) t => WPos dC dI ct (MW a ct u.1 u.2) A t) A)) (va_A (MW a ct z g) sz)) 0 0 (va_A (MW a ct z g) sz) := by
  refine open_W (fun A => (va_Qi (fun (r : Int32) (u : V × VL) => Post r u.1 u.2) (fun (u : V × VL) t => WPos dC dI ct (MW a ct u.1 u.2) A t) A)) (by decide) (Nat.le_of_ble_eq_true rfl) ?_
  intro p e s m args below meth c ls A X hD0 hP hS hl
  have X0 := X
  obtain ⟨⟨hx, hb, hml, hr, hlk, hown, hts⟩, hA, hK, hN⟩ := X0
  have hD : ∀ (z' : V) (g' : VL), va_D A (MW a ct z' g') := fun z' g' => va_D_addr hD0 rfl
  have hl : lv_has ls 2 [(0, .ref (a 0)), (1, .int i1)] := hl
  unfold wp_X2_forWhom at w
  have hS0 := hS
  refine lv_aload_n hx hb dX2_forWhom_0 rfl (lv_at hl 0 rfl) ?_
  refine va_get (D := (dC, dI)) (ci := 2) (v := .ref (a 11)) (C := RX2) (T := TX2) (N := 34) hx hb hts in_X2 hown hK hP 0 rfl rfl 16 (by decide) (hts _ q474) (fun _ h9 => h9) rfl dX2_forWhom_1 ?_
  refine lv_aload_n hx hb dX2_forWhom_4 rfl (lv_at hl 0 rfl) ?_
  refine va_get (D := (dC, dI)) (ci := 2) (v := .int (z 19 6)) (C := RX2) (T := TX2) (N := 34) hx hb hts in_X2 hown hK hP 0 rfl rfl 18 (by decide) (hts _ q476) (fun _ h9 => h9) rfl dX2_forWhom_5 ?_
  refine lv_iload_n hx hb dX2_forWhom_8 rfl (lv_at hl 1 rfl) ?_
  refine lv_bipush (v := 65) hx hb dX2_forWhom_9 (by decide) ?_
  refine lv_isub hx hb dX2_forWhom_11 ?_
  obtain ⟨gi, w⟩ := w
  refine va_iast hx hb hK hP (hD _ _) hS 11 0 rfl rfl gi dX2_forWhom_12 (fun H locs hP _ hS => ?_)
  have hP : va_P (dC, dI) vwCl (MW a ct (up2 z 10 (z 19 6).toNatClampNeg (i1 - (65 : Int32))) g) H := MW_u_z_10 hP
  refine lv_iload_n hx hb dX2_forWhom_13 rfl (lv_at hl 1 rfl) ?_
  refine vp_callSi (W.runS (As := [.int i1]) (rest := []) ⟨hx, hb, hml, hown, hts⟩ (met_X2_isLetter l w) (va_cwS 1 hts (lw_S q612 q613 q51 q614) rfl rfl rfl hd_X2_isLetter ⟨Nat.le_of_ble_eq_true rfl, Nat.le_of_ble_eq_true rfl⟩) pre_S rfl rfl hl.1 rfl (lv_room (Nat.le_of_ble_eq_true rfl)) dX2_forWhom_14 ⟨Nat.le_refl _, Nat.le_refl _⟩) (fun r1 w => ?_)
  refine lv_if_eq (tgt := 24) hx hb dX2_forWhom_17 (by decide) (fun c => ?_) (fun c => ?_)
  · have w := And.left w c
    refine lv_bipush (v := -6) hx hb dX2_forWhom_24 (by decide) ?_
    exact wk_X2_forWhom_L26 X hD  _ _ _ w _ _ _ hP hS (lv_sub hl [] rfl)
  · have w := And.right w c
    refine lv_iconst (v := 4) hx hb dX2_forWhom_20 (by decide) ?_
    refine lv_goto (tgt := 26) hx hb dX2_forWhom_21 (by decide) ?_
    exact wk_X2_forWhom_L26 X hD  _ _ _ w _ _ _ hP hS (lv_sub hl [] rfl)
abbrev rm_X2_readOn : Room := { frames := 3, cells := 0, slots := 0, locals := 66 }
theorem hd_X2_readOn : yX2_readOn.cls = RX2 ∧ yX2_readOn.cls ≠ "java/lang/invoke/MethodHandle" ∧ yX2_readOn.cls ≠ "java/lang/invoke/VarHandle" ∧ (parseMethodDescriptor yX2_readOn.desc).map (fun d => d.parameters.length) = some 2 := by decide +kernel
set_option maxHeartbeats 4000000 in
set_option maxRecDepth 100000 in
theorem wk_X2_readOn_L111 {p : Program} {l : Launch} {e : Env} {s : State} {m : MethodId} {args : Array Value} {below : List Frame} {meth : Method} {c : Code} {dC : Nat → ClassId} {dI : Nat → Nat → Nat} {ct : Nat → ClassId} {A : Nat → Prop} {a : Nat → Nat} {Post : Int32 → V → VL → Prop}   (X : CxW p s m args meth c cX2_readOn 3 (some .int) RX2 dC dI ct A) (hD : ∀ (z : V) (g : VL), va_D A (MW a ct z g))  (is0 : Int32) (z : V) (g : VL) (w : wp_X2_readOn_L111  Post  is0 z g) : ∀ (H : Heap) (locs : List Loc) (ls : Array Slot), va_P (dC, dI) vwCl (MW a ct z g) H → va_S A s.heap H locs → lv_has ls 3 [] → W p l e rm_X2_readOn s m args below meth c H locs 0 0 (MQ below (va_Qi (fun (r : Int32) (u : V × VL) => Post r u.1 u.2) (fun (u : V × VL) t => WPos dC dI ct (MW a ct u.1 u.2) A t) A) args s 0 0 A) (F0 m 111 ls [.int is0]) := by
  intro H locs ls hP hS hl
  have X0 := X
  obtain ⟨⟨hx, hb, hml, hr, hlk, hown, hts⟩, hA, hK, hN⟩ := X0
  unfold wp_X2_readOn_L111 at w
  exact W.iret (v := is0) hx hb hr (fun t ht hW => ⟨⟨is0, (z, g), rfl, w, by rw [ht]; exact hP, va_K.moved hW.alike hK, (hD _ _)⟩, hS.F ht⟩) hS.2.2 dX2_readOn_111 hlk
set_option maxHeartbeats 4000000 in
set_option maxRecDepth 100000 in
theorem wk_X2_readOn_L142 {p : Program} {l : Launch} {e : Env} {s : State} {m : MethodId} {args : Array Value} {below : List Frame} {meth : Method} {c : Code} {dC : Nat → ClassId} {dI : Nat → Nat → Nat} {ct : Nat → ClassId} {A : Nat → Prop} {a : Nat → Nat} {Post : Int32 → V → VL → Prop}   (X : CxW p s m args meth c cX2_readOn 3 (some .int) RX2 dC dI ct A) (hD : ∀ (z : V) (g : VL), va_D A (MW a ct z g))  (is0 : Int32) (z : V) (g : VL) (w : wp_X2_readOn_L142  Post  is0 z g) : ∀ (H : Heap) (locs : List Loc) (ls : Array Slot), va_P (dC, dI) vwCl (MW a ct z g) H → va_S A s.heap H locs → lv_has ls 3 [] → W p l e rm_X2_readOn s m args below meth c H locs 0 0 (MQ below (va_Qi (fun (r : Int32) (u : V × VL) => Post r u.1 u.2) (fun (u : V × VL) t => WPos dC dI ct (MW a ct u.1 u.2) A t) A) args s 0 0 A) (F0 m 142 ls [.int is0]) := by
  intro H locs ls hP hS hl
  have X0 := X
  obtain ⟨⟨hx, hb, hml, hr, hlk, hown, hts⟩, hA, hK, hN⟩ := X0
  unfold wp_X2_readOn_L142 at w
  exact W.iret (v := is0) hx hb hr (fun t ht hW => ⟨⟨is0, (z, g), rfl, w, by rw [ht]; exact hP, va_K.moved hW.alike hK, (hD _ _)⟩, hS.F ht⟩) hS.2.2 dX2_readOn_142 hlk
set_option maxHeartbeats 4000000 in
set_option maxRecDepth 100000 in
theorem met_X2_readOn (l : Launch) (dC : Nat → ClassId) (dI : Nat → Nat → Nat) (ct : Nat → ClassId) (a : Nat → Nat) (sz : Nat) {i1 : Int32} {i2 : Int32} {z : V} {g : VL} {Post : Int32 → V → VL → Prop} (w : wp_X2_readOn i1 i2 z g Post) : Met l yX2_readOn (ws_ yX2_readOn cX2_readOn 3 (some .int)) rm_X2_readOn (va_Pc [.ref (a 0), .int i1, .int i2] (fun U => WPre dC dI ct (MW a ct z g) sz U)) ((fun A => (va_Qi (fun (r : Int32) (u : V × VL) => Post r u.1 u.2) (fun (u : V × VL) t => WPos dC dI ct (MW a ct u.1 u.2) A t) A)) (va_A (MW a ct z g) sz)) 0 0 (va_A (MW a ct z g) sz) := by
  refine open_W (fun A => (va_Qi (fun (r : Int32) (u : V × VL) => Post r u.1 u.2) (fun (u : V × VL) t => WPos dC dI ct (MW a ct u.1 u.2) A t) A)) (by decide) (Nat.le_of_ble_eq_true rfl) ?_
  intro p e s m args below meth c ls A X hD0 hP hS hl
  have X0 := X
  obtain ⟨⟨hx, hb, hml, hr, hlk, hown, hts⟩, hA, hK, hN⟩ := X0
  have hD : ∀ (z' : V) (g' : VL), va_D A (MW a ct z' g') := fun z' g' => va_D_addr hD0 rfl
  have hl : lv_has ls 3 [(0, .ref (a 0)), (1, .int i1), (2, .int i2)] := hl
  unfold wp_X2_readOn at w
  have hS0 := hS
  refine lv_iload_n hx hb dX2_readOn_0 rfl (lv_at hl 1 rfl) ?_
  by_cases c1_0 : i1 = 0
  · have w := And.left w c1_0
    refine lv_tableIn (tgt := 48) hx hb dX2_readOn_1 (by rw [c1_0]; decide) (by rw [c1_0]; decide) (by rw [c1_0]; rfl) (by decide) ?_
    refine lv_aload_n hx hb dX2_readOn_48 rfl (lv_at hl 0 rfl) ?_
    refine lv_iload_n hx hb dX2_readOn_49 rfl (lv_at hl 2 rfl) ?_
    refine va_calli (va_runV (As := [.int i2]) (rest := []) ⟨hx, hb, hml, hown, hts⟩ (met_X2_begin l dC dI ct a _ w) (cwV 1 hts (lw_V q608 q610 qs12 q51 q611) rfl rfl rfl hd_X2_begin ⟨Nat.le_of_ble_eq_true rfl, Nat.le_of_ble_eq_true rfl⟩) (pre_V hK hP (hD _ _) hN (va_recv hK hP (ci := 2) (q0 := 0) rfl rfl)) rfl rfl hl.1 rfl (lv_room (Nat.le_of_ble_eq_true rfl)) dX2_readOn_50 ⟨Nat.le_refl _, Nat.le_refl _⟩) hS (fun q _ h => x_free (hD _ _) hS hA q h) (x_free (hD _ _) hS hA) (fun r2 u t H locs ht hvm w hB hz hk hS => ?_)
    obtain ⟨z_2, g_2⟩ := u
    dsimp only at w
    have hP : va_P (dC, dI) vwCl (MW a ct z_2 g_2) H := post_P hB ht
    exact W.iret (v := r2) hx hb hr (fun t ht hW => ⟨⟨r2, (z_2, g_2), rfl, w, by rw [ht]; exact hP, va_K.moved hW.alike hK, (hD _ _)⟩, hS.F ht⟩) hS.2.2 dX2_readOn_53 hlk
  have w := And.right w c1_0
  by_cases c1_1 : i1 = 1
  · have w := And.left w c1_1
    refine lv_tableIn (tgt := 54) hx hb dX2_readOn_1 (by rw [c1_1]; decide) (by rw [c1_1]; decide) (by rw [c1_1]; rfl) (by decide) ?_
    refine lv_iload_n hx hb dX2_readOn_54 rfl (lv_at hl 2 rfl) ?_
    refine vp_callSi (W.runS (As := [.int i2]) (rest := []) ⟨hx, hb, hml, hown, hts⟩ (met_X2_deed l w) (va_cwS 1 hts (lw_S q621 q622 q51 q623) rfl rfl rfl hd_X2_deed ⟨Nat.le_of_ble_eq_true rfl, Nat.le_of_ble_eq_true rfl⟩) pre_S rfl rfl hl.1 rfl (lv_room (Nat.le_of_ble_eq_true rfl)) dX2_readOn_55 ⟨Nat.le_refl _, Nat.le_refl _⟩) (fun r3 w => ?_)
    exact W.iret (v := r3) hx hb hr (fun t ht hW => ⟨⟨r3, (z, g), rfl, w, by rw [ht]; exact hP, va_K.moved hW.alike hK, (hD _ _)⟩, hS.F ht⟩) hS.2.2 dX2_readOn_58 hlk
  have w := And.right w c1_1
  by_cases c1_2 : i1 = 2
  · have w := And.left w c1_2
    refine lv_tableIn (tgt := 59) hx hb dX2_readOn_1 (by rw [c1_2]; decide) (by rw [c1_2]; decide) (by rw [c1_2]; rfl) (by decide) ?_
    refine lv_aload_n hx hb dX2_readOn_59 rfl (lv_at hl 0 rfl) ?_
    refine lv_iconst (v := 0) hx hb dX2_readOn_60 (by decide) ?_
    refine lv_iload_n hx hb dX2_readOn_61 rfl (lv_at hl 2 rfl) ?_
    refine lv_bipush (v := 100) hx hb dX2_readOn_62 (by decide) ?_
    refine va_calli (va_runV (As := [.int (0 : Int32), .int i2, .int (100 : Int32)]) (rest := []) ⟨hx, hb, hml, hown, hts⟩ (met_X2_number l dC dI ct a _ w) (cwV 3 hts (lw_V q624 q626 qs14 q51 q627) rfl rfl rfl hd_X2_number ⟨Nat.le_of_ble_eq_true rfl, Nat.le_of_ble_eq_true rfl⟩) (pre_V hK hP (hD _ _) hN (va_recv hK hP (ci := 2) (q0 := 0) rfl rfl)) rfl rfl hl.1 rfl (lv_room (Nat.le_of_ble_eq_true rfl)) dX2_readOn_64 ⟨Nat.le_refl _, Nat.le_refl _⟩) hS (fun q _ h => x_free (hD _ _) hS hA q h) (x_free (hD _ _) hS hA) (fun r4 u t H locs ht hvm w hB hz hk hS => ?_)
    obtain ⟨z_4, g_4⟩ := u
    dsimp only at w
    have hP : va_P (dC, dI) vwCl (MW a ct z_4 g_4) H := post_P hB ht
    exact W.iret (v := r4) hx hb hr (fun t ht hW => ⟨⟨r4, (z_4, g_4), rfl, w, by rw [ht]; exact hP, va_K.moved hW.alike hK, (hD _ _)⟩, hS.F ht⟩) hS.2.2 dX2_readOn_67 hlk
  have w := And.right w c1_2
  by_cases c1_3 : i1 = 3
  · have w := And.left w c1_3
    refine lv_tableIn (tgt := 68) hx hb dX2_readOn_1 (by rw [c1_3]; decide) (by rw [c1_3]; decide) (by rw [c1_3]; rfl) (by decide) ?_
    refine lv_aload_n hx hb dX2_readOn_68 rfl (lv_at hl 0 rfl) ?_
    refine lv_iload_n hx hb dX2_readOn_69 rfl (lv_at hl 2 rfl) ?_
    refine va_calli (va_runV (As := [.int i2]) (rest := []) ⟨hx, hb, hml, hown, hts⟩ (met_X2_forWhom l dC dI ct a _ w) (cwV 1 hts (lw_V q630 q632 qs15 q51 q633) rfl rfl rfl hd_X2_forWhom ⟨Nat.le_of_ble_eq_true rfl, Nat.le_of_ble_eq_true rfl⟩) (pre_V hK hP (hD _ _) hN (va_recv hK hP (ci := 2) (q0 := 0) rfl rfl)) rfl rfl hl.1 rfl (lv_room (Nat.le_of_ble_eq_true rfl)) dX2_readOn_70 ⟨Nat.le_refl _, Nat.le_refl _⟩) hS (fun q _ h => x_free (hD _ _) hS hA q h) (x_free (hD _ _) hS hA) (fun r5 u t H locs ht hvm w hB hz hk hS => ?_)
    obtain ⟨z_5, g_5⟩ := u
    dsimp only at w
    have hP : va_P (dC, dI) vwCl (MW a ct z_5 g_5) H := post_P hB ht
    exact W.iret (v := r5) hx hb hr (fun t ht hW => ⟨⟨r5, (z_5, g_5), rfl, w, by rw [ht]; exact hP, va_K.moved hW.alike hK, (hD _ _)⟩, hS.F ht⟩) hS.2.2 dX2_readOn_73 hlk
  have w := And.right w c1_3
  by_cases c1_4 : i1 = 4
  · have w := And.left w c1_4
    refine lv_tableIn (tgt := 74) hx hb dX2_readOn_1 (by rw [c1_4]; decide) (by rw [c1_4]; decide) (by rw [c1_4]; rfl) (by decide) ?_
    refine lv_aload_n hx hb dX2_readOn_74 rfl (lv_at hl 0 rfl) ?_
    refine lv_iconst (v := 1) hx hb dX2_readOn_75 (by decide) ?_
    refine lv_iload_n hx hb dX2_readOn_76 rfl (lv_at hl 2 rfl) ?_
    refine lv_bipush (v := 100) hx hb dX2_readOn_77 (by decide) ?_
    refine va_calli (va_runV (As := [.int (1 : Int32), .int i2, .int (100 : Int32)]) (rest := []) ⟨hx, hb, hml, hown, hts⟩ (met_X2_number l dC dI ct a _ w) (cwV 3 hts (lw_V q624 q626 qs14 q51 q627) rfl rfl rfl hd_X2_number ⟨Nat.le_of_ble_eq_true rfl, Nat.le_of_ble_eq_true rfl⟩) (pre_V hK hP (hD _ _) hN (va_recv hK hP (ci := 2) (q0 := 0) rfl rfl)) rfl rfl hl.1 rfl (lv_room (Nat.le_of_ble_eq_true rfl)) dX2_readOn_79 ⟨Nat.le_refl _, Nat.le_refl _⟩) hS (fun q _ h => x_free (hD _ _) hS hA q h) (x_free (hD _ _) hS hA) (fun r6 u t H locs ht hvm w hB hz hk hS => ?_)
    obtain ⟨z_6, g_6⟩ := u
    dsimp only at w
    have hP : va_P (dC, dI) vwCl (MW a ct z_6 g_6) H := post_P hB ht
    exact W.iret (v := r6) hx hb hr (fun t ht hW => ⟨⟨r6, (z_6, g_6), rfl, w, by rw [ht]; exact hP, va_K.moved hW.alike hK, (hD _ _)⟩, hS.F ht⟩) hS.2.2 dX2_readOn_82 hlk
  have w := And.right w c1_4
  by_cases c1_5 : i1 = 5
  · have w := And.left w c1_5
    refine lv_tableIn (tgt := 83) hx hb dX2_readOn_1 (by rw [c1_5]; decide) (by rw [c1_5]; decide) (by rw [c1_5]; rfl) (by decide) ?_
    refine lv_iload_n hx hb dX2_readOn_83 rfl (lv_at hl 2 rfl) ?_
    refine lv_i2l hx hb dX2_readOn_84 rfl ?_
    refine lv_ldc2 (v := 48) hx hb hown (hts _ q634) dX2_readOn_85 ?_
    refine lv_ldc2 (v := 55) hx hb hown (hts _ q635) dX2_readOn_88 ?_
    refine vp_callSi (W.runS (As := [.long i2.toInt64, .long (48 : Int64), .long (55 : Int64)]) (rest := []) ⟨hx, hb, hml, hown, hts⟩ (met_X2_in l w) (va_cwS 3 hts (lw_S q570 q571 q51 q572) rfl rfl rfl hd_X2_in ⟨Nat.le_of_ble_eq_true rfl, Nat.le_of_ble_eq_true rfl⟩) pre_S rfl rfl hl.1 rfl (lv_room (Nat.le_of_ble_eq_true rfl)) dX2_readOn_91 ⟨Nat.le_refl _, Nat.le_refl _⟩) (fun r7 w => ?_)
    refine lv_if_eq (tgt := 109) hx hb dX2_readOn_94 (by decide) (fun c => ?_) (fun c => ?_)
    · have w := And.left w c
      refine lv_bipush (v := -6) hx hb dX2_readOn_109 (by decide) ?_
      exact wk_X2_readOn_L111 X hD  _ _ _ w _ _ _ hP hS (lv_sub hl [] rfl)
    · have w := And.right w c
      refine lv_aload_n hx hb dX2_readOn_97 rfl (lv_at hl 0 rfl) ?_
      refine lv_iconst (v := 2) hx hb dX2_readOn_98 (by decide) ?_
      refine lv_iload_n hx hb dX2_readOn_99 rfl (lv_at hl 2 rfl) ?_
      refine lv_bipush (v := 48) hx hb dX2_readOn_100 (by decide) ?_
      refine lv_isub hx hb dX2_readOn_102 ?_
      refine va_calli (va_runV (As := [.int (2 : Int32), .int (i2 - (48 : Int32))]) (rest := []) ⟨hx, hb, hml, hown, hts⟩ (met_X2_close l dC dI ct a _ w) (cwV 2 hts (lw_V q617 q619 qs13 q51 q620) rfl rfl rfl hd_X2_close ⟨Nat.le_of_ble_eq_true rfl, Nat.le_of_ble_eq_true rfl⟩) (pre_V hK hP (hD _ _) hN (va_recv hK hP (ci := 2) (q0 := 0) rfl rfl)) rfl rfl hl.1 rfl (lv_room (Nat.le_of_ble_eq_true rfl)) dX2_readOn_103 ⟨Nat.le_refl _, Nat.le_refl _⟩) hS (fun q _ h => x_free (hD _ _) hS hA q h) (x_free (hD _ _) hS hA) (fun r8 u t H locs ht hvm w hB hz hk hS => ?_)
      obtain ⟨z_8, g_8⟩ := u
      dsimp only at w
      have hP : va_P (dC, dI) vwCl (MW a ct z_8 g_8) H := post_P hB ht
      refine lv_goto (tgt := 111) hx hb dX2_readOn_106 (by decide) ?_
      exact wk_X2_readOn_L111 X hD  _ _ _ w _ _ _ hP hS (lv_sub hl [] rfl)
  have w := And.right w c1_5
  by_cases c1_6 : i1 = 6
  · have w := And.left w c1_6
    refine lv_tableIn (tgt := 112) hx hb dX2_readOn_1 (by rw [c1_6]; decide) (by rw [c1_6]; decide) (by rw [c1_6]; rfl) (by decide) ?_
    refine lv_aload_n hx hb dX2_readOn_112 rfl (lv_at hl 0 rfl) ?_
    refine lv_iconst (v := 3) hx hb dX2_readOn_113 (by decide) ?_
    refine lv_iload_n hx hb dX2_readOn_114 rfl (lv_at hl 2 rfl) ?_
    refine lv_bipush (v := 10) hx hb dX2_readOn_115 (by decide) ?_
    refine va_calli (va_runV (As := [.int (3 : Int32), .int i2, .int (10 : Int32)]) (rest := []) ⟨hx, hb, hml, hown, hts⟩ (met_X2_number l dC dI ct a _ w) (cwV 3 hts (lw_V q624 q626 qs14 q51 q627) rfl rfl rfl hd_X2_number ⟨Nat.le_of_ble_eq_true rfl, Nat.le_of_ble_eq_true rfl⟩) (pre_V hK hP (hD _ _) hN (va_recv hK hP (ci := 2) (q0 := 0) rfl rfl)) rfl rfl hl.1 rfl (lv_room (Nat.le_of_ble_eq_true rfl)) dX2_readOn_117 ⟨Nat.le_refl _, Nat.le_refl _⟩) hS (fun q _ h => x_free (hD _ _) hS hA q h) (x_free (hD _ _) hS hA) (fun r9 u t H locs ht hvm w hB hz hk hS => ?_)
    obtain ⟨z_9, g_9⟩ := u
    dsimp only at w
    have hP : va_P (dC, dI) vwCl (MW a ct z_9 g_9) H := post_P hB ht
    exact W.iret (v := r9) hx hb hr (fun t ht hW => ⟨⟨r9, (z_9, g_9), rfl, w, by rw [ht]; exact hP, va_K.moved hW.alike hK, (hD _ _)⟩, hS.F ht⟩) hS.2.2 dX2_readOn_120 hlk
  have w := And.right w c1_6
  by_cases c1_7 : i1 = 7
  · have w := And.left w c1_7
    refine lv_tableIn (tgt := 121) hx hb dX2_readOn_1 (by rw [c1_7]; decide) (by rw [c1_7]; decide) (by rw [c1_7]; rfl) (by decide) ?_
    refine lv_iload_n hx hb dX2_readOn_121 rfl (lv_at hl 2 rfl) ?_
    refine vp_callSi (W.runS (As := [.int i2]) (rest := []) ⟨hx, hb, hml, hown, hts⟩ (met_X2_isLetter l w) (va_cwS 1 hts (lw_S q612 q613 q51 q614) rfl rfl rfl hd_X2_isLetter ⟨Nat.le_of_ble_eq_true rfl, Nat.le_of_ble_eq_true rfl⟩) pre_S rfl rfl hl.1 rfl (lv_room (Nat.le_of_ble_eq_true rfl)) dX2_readOn_122 ⟨Nat.le_refl _, Nat.le_refl _⟩) (fun r10 w => ?_)
    refine lv_if_eq (tgt := 140) hx hb dX2_readOn_125 (by decide) (fun c => ?_) (fun c => ?_)
    · have w := And.left w c
      refine lv_bipush (v := -6) hx hb dX2_readOn_140 (by decide) ?_
      exact wk_X2_readOn_L142 X hD  _ _ _ w _ _ _ hP hS (lv_sub hl [] rfl)
    · have w := And.right w c
      refine lv_aload_n hx hb dX2_readOn_128 rfl (lv_at hl 0 rfl) ?_
      refine lv_iconst (v := 4) hx hb dX2_readOn_129 (by decide) ?_
      refine lv_iload_n hx hb dX2_readOn_130 rfl (lv_at hl 2 rfl) ?_
      refine lv_bipush (v := 65) hx hb dX2_readOn_131 (by decide) ?_
      refine lv_isub hx hb dX2_readOn_133 ?_
      refine va_calli (va_runV (As := [.int (4 : Int32), .int (i2 - (65 : Int32))]) (rest := []) ⟨hx, hb, hml, hown, hts⟩ (met_X2_close l dC dI ct a _ w) (cwV 2 hts (lw_V q617 q619 qs13 q51 q620) rfl rfl rfl hd_X2_close ⟨Nat.le_of_ble_eq_true rfl, Nat.le_of_ble_eq_true rfl⟩) (pre_V hK hP (hD _ _) hN (va_recv hK hP (ci := 2) (q0 := 0) rfl rfl)) rfl rfl hl.1 rfl (lv_room (Nat.le_of_ble_eq_true rfl)) dX2_readOn_134 ⟨Nat.le_refl _, Nat.le_refl _⟩) hS (fun q _ h => x_free (hD _ _) hS hA q h) (x_free (hD _ _) hS hA) (fun r11 u t H locs ht hvm w hB hz hk hS => ?_)
      obtain ⟨z_11, g_11⟩ := u
      dsimp only at w
      have hP : va_P (dC, dI) vwCl (MW a ct z_11 g_11) H := post_P hB ht
      refine lv_goto (tgt := 142) hx hb dX2_readOn_137 (by decide) ?_
      exact wk_X2_readOn_L142 X hD  _ _ _ w _ _ _ hP hS (lv_sub hl [] rfl)
  have w := And.right w c1_7
  refine lv_tableOut (tgt := 143) hx hb dX2_readOn_1 (by have h0 := lv_neT c1_0 (a := 0) (by decide); have h1 := lv_neT c1_1 (a := 1) (by decide); have h2 := lv_neT c1_2 (a := 2) (by decide); have h3 := lv_neT c1_3 (a := 3) (by decide); have h4 := lv_neT c1_4 (a := 4) (by decide); have h5 := lv_neT c1_5 (a := 5) (by decide); have h6 := lv_neT c1_6 (a := 6) (by decide); have h7 := lv_neT c1_7 (a := 7) (by decide); omega) (by decide) ?_
  refine lv_aload_n hx hb dX2_readOn_143 rfl (lv_at hl 0 rfl) ?_
  refine lv_iconst (v := 5) hx hb dX2_readOn_144 (by decide) ?_
  refine lv_iload_n hx hb dX2_readOn_145 rfl (lv_at hl 2 rfl) ?_
  refine lv_bipush (v := 100) hx hb dX2_readOn_146 (by decide) ?_
  refine va_calli (va_runV (As := [.int (5 : Int32), .int i2, .int (100 : Int32)]) (rest := []) ⟨hx, hb, hml, hown, hts⟩ (met_X2_number l dC dI ct a _ w) (cwV 3 hts (lw_V q624 q626 qs14 q51 q627) rfl rfl rfl hd_X2_number ⟨Nat.le_of_ble_eq_true rfl, Nat.le_of_ble_eq_true rfl⟩) (pre_V hK hP (hD _ _) hN (va_recv hK hP (ci := 2) (q0 := 0) rfl rfl)) rfl rfl hl.1 rfl (lv_room (Nat.le_of_ble_eq_true rfl)) dX2_readOn_148 ⟨Nat.le_refl _, Nat.le_refl _⟩) hS (fun q _ h => x_free (hD _ _) hS hA q h) (x_free (hD _ _) hS hA) (fun r12 u t H locs ht hvm w hB hz hk hS => ?_)
  obtain ⟨z_12, g_12⟩ := u
  dsimp only at w
  have hP : va_P (dC, dI) vwCl (MW a ct z_12 g_12) H := post_P hB ht
  exact W.iret (v := r12) hx hb hr (fun t ht hW => ⟨⟨r12, (z_12, g_12), rfl, w, by rw [ht]; exact hP, va_K.moved hW.alike hK, (hD _ _)⟩, hS.F ht⟩) hS.2.2 dX2_readOn_151 hlk
abbrev rm_X2_fault : Room := { frames := 4, cells := 0, slots := 0, locals := 88 }
theorem hd_X2_fault : yX2_fault.cls = RX2 ∧ yX2_fault.cls ≠ "java/lang/invoke/MethodHandle" ∧ yX2_fault.cls ≠ "java/lang/invoke/VarHandle" ∧ (parseMethodDescriptor yX2_fault.desc).map (fun d => d.parameters.length) = some 0 := by decide +kernel
set_option maxHeartbeats 4000000 in
set_option maxRecDepth 100000 in
theorem wk_X2_fault_L54 {p : Program} {l : Launch} {e : Env} {s : State} {m : MethodId} {args : Array Value} {below : List Frame} {meth : Method} {c : Code} {dC : Nat → ClassId} {dI : Nat → Nat → Nat} {ct : Nat → ClassId} {A : Nat → Prop} {a : Nat → Nat} {Post : Int32 → V → VL → Prop}   (X : CxW p s m args meth c cX2_fault 3 (some .int) RX2 dC dI ct A) (hD : ∀ (z : V) (g : VL), va_D A (MW a ct z g))  (is0 : Int32) (z : V) (g : VL) (w : wp_X2_fault_L54  Post  is0 z g) : ∀ (H : Heap) (locs : List Loc) (ls : Array Slot), va_P (dC, dI) vwCl (MW a ct z g) H → va_S A s.heap H locs → lv_has ls 3 [] → W p l e rm_X2_fault s m args below meth c H locs 0 0 (MQ below (va_Qi (fun (r : Int32) (u : V × VL) => Post r u.1 u.2) (fun (u : V × VL) t => WPos dC dI ct (MW a ct u.1 u.2) A t) A) args s 0 0 A) (F0 m 54 ls [.int is0]) := by
  intro H locs ls hP hS hl
  have X0 := X
  obtain ⟨⟨hx, hb, hml, hr, hlk, hown, hts⟩, hA, hK, hN⟩ := X0
  unfold wp_X2_fault_L54 at w
  exact W.iret (v := is0) hx hb hr (fun t ht hW => ⟨⟨is0, (z, g), rfl, w, by rw [ht]; exact hP, va_K.moved hW.alike hK, (hD _ _)⟩, hS.F ht⟩) hS.2.2 dX2_fault_54 hlk
set_option maxHeartbeats 4000000 in
set_option maxRecDepth 100000 in
theorem wk_X2_fault_S9 {p : Program} {l : Launch} {e : Env} {s : State} {m : MethodId} {args : Array Value} {below : List Frame} {meth : Method} {c : Code} {dC : Nat → ClassId} {dI : Nat → Nat → Nat} {ct : Nat → ClassId} {A : Nat → Prop} {a : Nat → Nat} {Post : Int32 → V → VL → Prop} {K9 : Int32 → Int32 → V → VL → Prop}  (X : CxW p s m args meth c cX2_fault 3 (some .int) RX2 dC dI ct A) (hD : ∀ (z : V) (g : VL), va_D A (MW a ct z g)) (hK9 : ∀ (i1 : Int32) (i2 : Int32) (z : V) (g : VL), K9 i1 i2 z g → ∀ (H : Heap) (locs : List Loc) (ls : Array Slot), va_P (dC, dI) vwCl (MW a ct z g) H → va_S A s.heap H locs → lv_has ls 3 [(0, .ref (a 0)), (1, .int i1), (2, .int i2)] → W p l e rm_X2_fault s m args below meth c H locs 0 0 (MQ below (va_Qi (fun (r : Int32) (u : V × VL) => Post r u.1 u.2) (fun (u : V × VL) t => WPos dC dI ct (MW a ct u.1 u.2) A t) A) args s 0 0 A) (F0 m 9 ls [])) (i1 : Int32) (i2 : Int32) (z : V) (g : VL) (w : wp_X2_fault_S9  Post K9 i1 i2 z g) : ∀ (H : Heap) (locs : List Loc) (ls : Array Slot), va_P (dC, dI) vwCl (MW a ct z g) H → va_S A s.heap H locs → lv_has ls 3 [(0, .ref (a 0)), (1, .int i1), (2, .int i2)] → W p l e rm_X2_fault s m args below meth c H locs 0 0 (MQ below (va_Qi (fun (r : Int32) (u : V × VL) => Post r u.1 u.2) (fun (u : V × VL) t => WPos dC dI ct (MW a ct u.1 u.2) A t) A) args s 0 0 A) (F0 m 9 ls []) := by
  intro H locs ls hP hS hl
  have X0 := X
  obtain ⟨⟨hx, hb, hml, hr, hlk, hown, hts⟩, hA, hK, hN⟩ := X0
  unfold wp_X2_fault_S9 at w
  refine lv_iload_n hx hb dX2_fault_9 rfl (lv_at hl 2 rfl) ?_
  refine lv_aload_n hx hb dX2_fault_10 rfl (lv_at hl 0 rfl) ?_
  refine va_get (D := (dC, dI)) (ci := 2) (v := .int (z 19 5)) (C := RX2) (T := TX2) (N := 34) hx hb hts in_X2 hown hK hP 0 rfl rfl 14 (by decide) (hts _ q472) (fun _ h9 => h9) rfl dX2_fault_11 ?_
  refine lv_icmp_ge (tgt := 41) hx hb dX2_fault_14 (by decide) (fun c => ?_) (fun c => ?_)
  · have w := And.left w c
    refine lv_iload_n hx hb dX2_fault_41 rfl (lv_at hl 1 rfl) ?_
    refine lv_if_ne (tgt := 50) hx hb dX2_fault_42 (by decide) (fun c => ?_) (fun c => ?_)
    · have w := And.right w c
      refine lv_aload_n hx hb dX2_fault_50 rfl (lv_at hl 0 rfl) ?_
      refine va_get (D := (dC, dI)) (ci := 2) (v := .int (z 19 5)) (C := RX2) (T := TX2) (N := 34) hx hb hts in_X2 hown hK hP 0 rfl rfl 14 (by decide) (hts _ q472) (fun _ h9 => h9) rfl dX2_fault_51 ?_
      exact wk_X2_fault_L54 X hD  _ _ _ w _ _ _ hP hS (lv_sub hl [] rfl)
    · have w := And.left w c
      refine lv_bipush (v := -6) hx hb dX2_fault_45 (by decide) ?_
      refine lv_goto (tgt := 54) hx hb dX2_fault_47 (by decide) ?_
      exact wk_X2_fault_L54 X hD  _ _ _ w _ _ _ hP hS (lv_sub hl [] rfl)
  · have w := And.right w c
    refine lv_aload_n hx hb dX2_fault_17 rfl (lv_at hl 0 rfl) ?_
    refine lv_iload_n hx hb dX2_fault_18 rfl (lv_at hl 1 rfl) ?_
    refine lv_aload_n hx hb dX2_fault_19 rfl (lv_at hl 0 rfl) ?_
    refine va_get (D := (dC, dI)) (ci := 2) (v := .ref (a 9)) (C := RX2) (T := TX2) (N := 34) hx hb hts in_X2 hown hK hP 0 rfl rfl 13 (by decide) (hts _ q471) (fun _ h9 => h9) rfl dX2_fault_20 ?_
    refine lv_iload_n hx hb dX2_fault_23 rfl (lv_at hl 2 rfl) ?_
    obtain ⟨gi, w⟩ := w
    refine va_iald hx hb hK hP 9 0 rfl rfl gi dX2_fault_24 ?_
    refine va_calli (va_runV (As := [.int i1, .int (z 8 i2.toNatClampNeg)]) (rest := []) ⟨hx, hb, hml, hown, hts⟩ (met_X2_readOn l dC dI ct a _ w) (cwV 2 hts (lw_V q604 q606 qs11 q51 q607) rfl rfl rfl hd_X2_readOn ⟨Nat.le_of_ble_eq_true rfl, Nat.le_of_ble_eq_true rfl⟩) (pre_V hK hP (hD _ _) hN (va_recv hK hP (ci := 2) (q0 := 0) rfl rfl)) rfl rfl hl.1 rfl (lv_room (Nat.le_of_ble_eq_true rfl)) dX2_fault_25 ⟨Nat.le_refl _, Nat.le_refl _⟩) hS (fun q _ h => x_free (hD _ _) hS hA q h) (x_free (hD _ _) hS hA) (fun r1 u t H locs ht hvm w hB hz hk hS => ?_)
    obtain ⟨z_1, g_1⟩ := u
    dsimp only at w
    have hP : va_P (dC, dI) vwCl (MW a ct z_1 g_1) H := post_P hB ht
    refine lv_istore_n (lv' := [(1, .int r1), (0, .ref (a 0)), (2, .int i2)]) hx hb dX2_fault_28 rfl hl (by decide) rfl (fun ls hl => ?_)
    refine lv_iload_n hx hb dX2_fault_29 rfl (lv_at hl 0 rfl) ?_
    refine lv_if_ge (tgt := 35) hx hb dX2_fault_30 (by decide) (fun c => ?_) (fun c => ?_)
    · have w := And.left w c
      refine lv_iinc (v := (i2 + 1)) (lv' := [(2, .int (i2 + 1)), (1, .int r1), (0, .ref (a 0))]) hx hb dX2_fault_35 hl (k := 2) rfl rfl (by decide) rfl (fun ls hl => ?_)
      refine lv_goto (tgt := 9) hx hb dX2_fault_38 (by decide) ?_
      exact hK9 _ _ _ _ w _ _ _ hP hS (lv_sub hl [2, 1, 0] rfl)
    · have w := And.right w c
      refine lv_iload_n hx hb dX2_fault_33 rfl (lv_at hl 2 rfl) ?_
      exact W.iret (v := i2) hx hb hr (fun t ht hW => ⟨⟨i2, (z_1, g_1), rfl, w, by rw [ht]; exact hP, va_K.moved hW.alike hK, (hD _ _)⟩, hS.F ht⟩) hS.2.2 dX2_fault_34 hlk
set_option maxHeartbeats 4000000 in
set_option maxRecDepth 100000 in
theorem wk_X2_fault_L9 {p : Program} {l : Launch} {e : Env} {s : State} {m : MethodId} {args : Array Value} {below : List Frame} {meth : Method} {c : Code} {dC : Nat → ClassId} {dI : Nat → Nat → Nat} {ct : Nat → ClassId} {A : Nat → Prop} {a : Nat → Nat} {Post : Int32 → V → VL → Prop}   (X : CxW p s m args meth c cX2_fault 3 (some .int) RX2 dC dI ct A) (hD : ∀ (z : V) (g : VL), va_D A (MW a ct z g))  : ∀ (n : Nat) (i1 : Int32) (i2 : Int32) (z : V) (g : VL), wp_X2_fault_L9  Post  n i1 i2 z g → ∀ (H : Heap) (locs : List Loc) (ls : Array Slot), va_P (dC, dI) vwCl (MW a ct z g) H → va_S A s.heap H locs → lv_has ls 3 [(0, .ref (a 0)), (1, .int i1), (2, .int i2)] → W p l e rm_X2_fault s m args below meth c H locs 0 0 (MQ below (va_Qi (fun (r : Int32) (u : V × VL) => Post r u.1 u.2) (fun (u : V × VL) t => WPos dC dI ct (MW a ct u.1 u.2) A t) A) args s 0 0 A) (F0 m 9 ls []) := by
  intro n
  induction n with
  | zero => intro i1 i2 z g w; exact False.elim w
  | succ n ih => intro i1 i2 z g w H locs ls hP hS hl; exact wk_X2_fault_S9 X hD  ih i1 i2 z g w H locs ls hP hS hl
set_option maxHeartbeats 4000000 in
set_option maxRecDepth 100000 in
theorem met_X2_fault (l : Launch) (dC : Nat → ClassId) (dI : Nat → Nat → Nat) (ct : Nat → ClassId) (a : Nat → Nat) (sz : Nat)  {z : V} {g : VL} {Post : Int32 → V → VL → Prop} (w : wp_X2_fault z g Post) : Met l yX2_fault (ws_ yX2_fault cX2_fault 3 (some .int)) rm_X2_fault (va_Pc [.ref (a 0)] (fun U => WPre dC dI ct (MW a ct z g) sz U)) ((fun A => (va_Qi (fun (r : Int32) (u : V × VL) => Post r u.1 u.2) (fun (u : V × VL) t => WPos dC dI ct (MW a ct u.1 u.2) A t) A)) (va_A (MW a ct z g) sz)) 0 0 (va_A (MW a ct z g) sz) := by
  refine open_W (fun A => (va_Qi (fun (r : Int32) (u : V × VL) => Post r u.1 u.2) (fun (u : V × VL) t => WPos dC dI ct (MW a ct u.1 u.2) A t) A)) (by decide) (Nat.le_of_ble_eq_true rfl) ?_
  intro p e s m args below meth c ls A X hD0 hP hS hl
  have X0 := X
  obtain ⟨⟨hx, hb, hml, hr, hlk, hown, hts⟩, hA, hK, hN⟩ := X0
  have hD : ∀ (z' : V) (g' : VL), va_D A (MW a ct z' g') := fun z' g' => va_D_addr hD0 rfl
  have hl : lv_has ls 3 [(0, .ref (a 0))] := hl
  unfold wp_X2_fault at w
  have hS0 := hS
  refine lv_aload_n hx hb dX2_fault_0 rfl (lv_at hl 0 rfl) ?_
  refine lv_iconst (v := 0) hx hb dX2_fault_1 (by decide) ?_
  refine va_put (D := (dC, dI)) (ci := 2) (v := .int (0 : Int32)) (ty := .int) (C := RX2) (T := TX2) (N := 34) hx hb hts in_X2 tyX2 tyX2_ok nmX2 hown hK hP (hD _ _) hS 0 rfl rfl 18 (by decide) (hts _ q476) (fun _ h9 => h9) rfl (by decide +kernel) rfl rfl (Nat.le_of_ble_eq_true rfl) dX2_fault_2 (fun H locs hP _ hS => ?_)
  have hP : va_P (dC, dI) vwCl (MW a ct (up2 z 19 6 (0 : Int32)) g) H := MW_s_z_6 hP
  refine lv_iconst (v := 0) hx hb dX2_fault_5 (by decide) ?_
  refine lv_istore_n (lv' := [(1, .int (0 : Int32)), (0, .ref (a 0))]) hx hb dX2_fault_6 rfl hl (by decide) rfl (fun ls hl => ?_)
  refine lv_iconst (v := 0) hx hb dX2_fault_7 (by decide) ?_
  refine lv_istore_n (lv' := [(2, .int (0 : Int32)), (1, .int (0 : Int32)), (0, .ref (a 0))]) hx hb dX2_fault_8 rfl hl (by decide) rfl (fun ls hl => ?_)
  obtain ⟨n, w⟩ := w
  exact wk_X2_fault_L9 X hD  n _ _ _ _ w _ _ _ hP hS (lv_sub hl [2, 1, 0] rfl)
abbrev rm_X2_keepNow : Room := { frames := 0, cells := 0, slots := 0, locals := 0 }
theorem hd_X2_keepNow : yX2_keepNow.cls = RX2 ∧ yX2_keepNow.cls ≠ "java/lang/invoke/MethodHandle" ∧ yX2_keepNow.cls ≠ "java/lang/invoke/VarHandle" ∧ (parseMethodDescriptor yX2_keepNow.desc).map (fun d => d.parameters.length) = some 0 := by decide +kernel
set_option maxHeartbeats 4000000 in
set_option maxRecDepth 100000 in
theorem wk_X2_keepNow_S72 {p : Program} {l : Launch} {e : Env} {s : State} {m : MethodId} {args : Array Value} {below : List Frame} {meth : Method} {c : Code} {dC : Nat → ClassId} {dI : Nat → Nat → Nat} {ct : Nat → ClassId} {A : Nat → Prop} {a : Nat → Nat} {Post : V → VL → Prop} {K72 : Int32 → V → VL → Prop}  (X : CxW p s m args meth c cX2_keepNow 2 none RX2 dC dI ct A) (hD : ∀ (z : V) (g : VL), va_D A (MW a ct z g)) (hK72 : ∀ (i1 : Int32) (z : V) (g : VL), K72 i1 z g → ∀ (H : Heap) (locs : List Loc) (ls : Array Slot), va_P (dC, dI) vwCl (MW a ct z g) H → va_S A s.heap H locs → lv_has ls 2 [(0, .ref (a 0)), (1, .int i1)] → W p l e rm_X2_keepNow s m args below meth c H locs 0 0 (MQ below (va_Qv (fun (u : V × VL) => Post u.1 u.2) (fun (u : V × VL) t => WPos dC dI ct (MW a ct u.1 u.2) A t) A) args s 0 0 A) (F0 m 72 ls [])) (i1 : Int32) (z : V) (g : VL) (w : wp_X2_keepNow_S72  Post K72 i1 z g) : ∀ (H : Heap) (locs : List Loc) (ls : Array Slot), va_P (dC, dI) vwCl (MW a ct z g) H → va_S A s.heap H locs → lv_has ls 2 [(0, .ref (a 0)), (1, .int i1)] → W p l e rm_X2_keepNow s m args below meth c H locs 0 0 (MQ below (va_Qv (fun (u : V × VL) => Post u.1 u.2) (fun (u : V × VL) t => WPos dC dI ct (MW a ct u.1 u.2) A t) A) args s 0 0 A) (F0 m 72 ls []) := by
  intro H locs ls hP hS hl
  have X0 := X
  obtain ⟨⟨hx, hb, hml, hr, hlk, hown, hts⟩, hA, hK, hN⟩ := X0
  unfold wp_X2_keepNow_S72 at w
  refine lv_iload_n hx hb dX2_keepNow_72 rfl (lv_at hl 1 rfl) ?_
  refine lv_bipush (v := 8) hx hb dX2_keepNow_73 (by decide) ?_
  refine lv_icmp_ge (tgt := 99) hx hb dX2_keepNow_75 (by decide) (fun c => ?_) (fun c => ?_)
  · have w := And.left w c
    refine lv_aload_n hx hb dX2_keepNow_99 rfl (lv_at hl 0 rfl) ?_
    refine va_get (D := (dC, dI)) (ci := 2) (v := .ref (a 13)) (C := RX2) (T := TX2) (N := 34) hx hb hts in_X2 hown hK hP 0 rfl rfl 19 (by decide) (hts _ q477) (fun _ h9 => h9) rfl dX2_keepNow_100 ?_
    refine lv_bipush (v := 56) hx hb dX2_keepNow_103 (by decide) ?_
    refine lv_aload_n hx hb dX2_keepNow_105 rfl (lv_at hl 0 rfl) ?_
    refine va_get (D := (dC, dI)) (ci := 2) (v := .int (z 19 0)) (C := RX2) (T := TX2) (N := 34) hx hb hts in_X2 hown hK hP 0 rfl rfl 5 (by decide) (hts _ q463) (fun _ h9 => h9) rfl dX2_keepNow_106 ?_
    refine va_iast hx hb hK hP (hD _ _) hS 13 0 rfl rfl (x_vin (by decide)) dX2_keepNow_109 (fun H locs hP _ hS => ?_)
    have hP : va_P (dC, dI) vwCl (MW a ct (up2 z 12 (56 : Int32).toNatClampNeg (z 19 0)) g) H := MW_u_z_12 hP
    refine lv_aload_n hx hb dX2_keepNow_110 rfl (lv_at hl 0 rfl) ?_
    refine va_get (D := (dC, dI)) (ci := 2) (v := .ref (a 13)) (C := RX2) (T := TX2) (N := 34) hx hb hts in_X2 hown hK hP 0 rfl rfl 19 (by decide) (hts _ q477) (fun _ h9 => h9) rfl dX2_keepNow_111 ?_
    refine lv_bipush (v := 57) hx hb dX2_keepNow_114 (by decide) ?_
    refine lv_aload_n hx hb dX2_keepNow_116 rfl (lv_at hl 0 rfl) ?_
    refine va_get (D := (dC, dI)) (ci := 2) (v := .int (z 19 1)) (C := RX2) (T := TX2) (N := 34) hx hb hts in_X2 hown hK hP 0 rfl rfl 6 (by decide) (hts _ q464) (fun _ h9 => h9) rfl dX2_keepNow_117 ?_
    refine va_iast hx hb hK hP (hD _ _) hS 13 0 rfl rfl (x_vin (by decide)) dX2_keepNow_120 (fun H locs hP _ hS => ?_)
    have hP : va_P (dC, dI) vwCl (MW a ct (up2 (up2 z 12 (56 : Int32).toNatClampNeg (z 19 0)) 12 (57 : Int32).toNatClampNeg (z 19 1)) g) H := MW_u_z_12 hP
    refine lv_aload_n hx hb dX2_keepNow_121 rfl (lv_at hl 0 rfl) ?_
    refine va_get (D := (dC, dI)) (ci := 2) (v := .ref (a 13)) (C := RX2) (T := TX2) (N := 34) hx hb hts in_X2 hown hK hP 0 rfl rfl 19 (by decide) (hts _ q477) (fun _ h9 => h9) rfl dX2_keepNow_122 ?_
    refine lv_bipush (v := 58) hx hb dX2_keepNow_125 (by decide) ?_
    refine lv_aload_n hx hb dX2_keepNow_127 rfl (lv_at hl 0 rfl) ?_
    refine va_get (D := (dC, dI)) (ci := 2) (v := .int (z 19 2)) (C := RX2) (T := TX2) (N := 34) hx hb hts in_X2 hown hK hP 0 rfl rfl 7 (by decide) (hts _ q465) (fun _ h9 => h9) rfl dX2_keepNow_128 ?_
    refine va_iast hx hb hK hP (hD _ _) hS 13 0 rfl rfl (x_vin (by decide)) dX2_keepNow_131 (fun H locs hP _ hS => ?_)
    have hP : va_P (dC, dI) vwCl (MW a ct (up2 (up2 (up2 z 12 (56 : Int32).toNatClampNeg (z 19 0)) 12 (57 : Int32).toNatClampNeg (z 19 1)) 12 (58 : Int32).toNatClampNeg (z 19 2)) g) H := MW_u_z_12 hP
    refine lv_aload_n hx hb dX2_keepNow_132 rfl (lv_at hl 0 rfl) ?_
    refine va_get (D := (dC, dI)) (ci := 2) (v := .ref (a 13)) (C := RX2) (T := TX2) (N := 34) hx hb hts in_X2 hown hK hP 0 rfl rfl 19 (by decide) (hts _ q477) (fun _ h9 => h9) rfl dX2_keepNow_133 ?_
    refine lv_bipush (v := 59) hx hb dX2_keepNow_136 (by decide) ?_
    refine lv_aload_n hx hb dX2_keepNow_138 rfl (lv_at hl 0 rfl) ?_
    refine va_get (D := (dC, dI)) (ci := 2) (v := .int (z 19 3)) (C := RX2) (T := TX2) (N := 34) hx hb hts in_X2 hown hK hP 0 rfl rfl 8 (by decide) (hts _ q466) (fun _ h9 => h9) rfl dX2_keepNow_139 ?_
    refine va_iast hx hb hK hP (hD _ _) hS 13 0 rfl rfl (x_vin (by decide)) dX2_keepNow_142 (fun H locs hP _ hS => ?_)
    have hP : va_P (dC, dI) vwCl (MW a ct (up2 (up2 (up2 (up2 z 12 (56 : Int32).toNatClampNeg (z 19 0)) 12 (57 : Int32).toNatClampNeg (z 19 1)) 12 (58 : Int32).toNatClampNeg (z 19 2)) 12 (59 : Int32).toNatClampNeg (z 19 3)) g) H := MW_u_z_12 hP
    exact W.vret hx hb hr (fun t ht hW => ⟨⟨((up2 (up2 (up2 (up2 z 12 (56 : Int32).toNatClampNeg (z 19 0)) 12 (57 : Int32).toNatClampNeg (z 19 1)) 12 (58 : Int32).toNatClampNeg (z 19 2)) 12 (59 : Int32).toNatClampNeg (z 19 3)), g), rfl, w, by rw [ht]; exact hP, va_K.moved hW.alike hK, (hD _ _)⟩, hS.F ht⟩) hS.2.2 dX2_keepNow_143 hlk
  · have w := And.right w c
    refine lv_aload_n hx hb dX2_keepNow_78 rfl (lv_at hl 0 rfl) ?_
    refine va_get (D := (dC, dI)) (ci := 2) (v := .ref (a 13)) (C := RX2) (T := TX2) (N := 34) hx hb hts in_X2 hown hK hP 0 rfl rfl 19 (by decide) (hts _ q477) (fun _ h9 => h9) rfl dX2_keepNow_79 ?_
    refine lv_bipush (v := 48) hx hb dX2_keepNow_82 (by decide) ?_
    refine lv_iload_n hx hb dX2_keepNow_84 rfl (lv_at hl 1 rfl) ?_
    refine lv_iadd hx hb dX2_keepNow_85 ?_
    refine lv_aload_n hx hb dX2_keepNow_86 rfl (lv_at hl 0 rfl) ?_
    refine va_get (D := (dC, dI)) (ci := 2) (v := .ref (a 5)) (C := RX2) (T := TX2) (N := 34) hx hb hts in_X2 hown hK hP 0 rfl rfl 4 (by decide) (hts _ q462) (fun _ h9 => h9) rfl dX2_keepNow_87 ?_
    refine lv_iload_n hx hb dX2_keepNow_90 rfl (lv_at hl 1 rfl) ?_
    obtain ⟨gi, w⟩ := w
    refine va_iald hx hb hK hP 5 0 rfl rfl gi dX2_keepNow_91 ?_
    obtain ⟨gi, w⟩ := w
    refine va_iast hx hb hK hP (hD _ _) hS 13 0 rfl rfl gi dX2_keepNow_92 (fun H locs hP _ hS => ?_)
    have hP : va_P (dC, dI) vwCl (MW a ct (up2 z 12 ((48 : Int32) + i1).toNatClampNeg (z 4 i1.toNatClampNeg)) g) H := MW_u_z_12 hP
    refine lv_iinc (v := (i1 + 1)) (lv' := [(1, .int (i1 + 1)), (0, .ref (a 0))]) hx hb dX2_keepNow_93 hl (k := 1) rfl rfl (by decide) rfl (fun ls hl => ?_)
    refine lv_goto (tgt := 72) hx hb dX2_keepNow_96 (by decide) ?_
    exact hK72 _ _ _ w _ _ _ hP hS (lv_sub hl [1, 0] rfl)
set_option maxHeartbeats 4000000 in
set_option maxRecDepth 100000 in
theorem wk_X2_keepNow_L72 {p : Program} {l : Launch} {e : Env} {s : State} {m : MethodId} {args : Array Value} {below : List Frame} {meth : Method} {c : Code} {dC : Nat → ClassId} {dI : Nat → Nat → Nat} {ct : Nat → ClassId} {A : Nat → Prop} {a : Nat → Nat} {Post : V → VL → Prop}   (X : CxW p s m args meth c cX2_keepNow 2 none RX2 dC dI ct A) (hD : ∀ (z : V) (g : VL), va_D A (MW a ct z g))  : ∀ (n : Nat) (i1 : Int32) (z : V) (g : VL), wp_X2_keepNow_L72  Post  n i1 z g → ∀ (H : Heap) (locs : List Loc) (ls : Array Slot), va_P (dC, dI) vwCl (MW a ct z g) H → va_S A s.heap H locs → lv_has ls 2 [(0, .ref (a 0)), (1, .int i1)] → W p l e rm_X2_keepNow s m args below meth c H locs 0 0 (MQ below (va_Qv (fun (u : V × VL) => Post u.1 u.2) (fun (u : V × VL) t => WPos dC dI ct (MW a ct u.1 u.2) A t) A) args s 0 0 A) (F0 m 72 ls []) := by
  intro n
  induction n with
  | zero => intro i1 z g w; exact False.elim w
  | succ n ih => intro i1 z g w H locs ls hP hS hl; exact wk_X2_keepNow_S72 X hD  ih i1 z g w H locs ls hP hS hl
set_option maxHeartbeats 4000000 in
set_option maxRecDepth 100000 in
theorem wk_X2_keepNow_S43 {p : Program} {l : Launch} {e : Env} {s : State} {m : MethodId} {args : Array Value} {below : List Frame} {meth : Method} {c : Code} {dC : Nat → ClassId} {dI : Nat → Nat → Nat} {ct : Nat → ClassId} {A : Nat → Prop} {a : Nat → Nat} {Post : V → VL → Prop} {K43 : Int32 → V → VL → Prop}  (X : CxW p s m args meth c cX2_keepNow 2 none RX2 dC dI ct A) (hD : ∀ (z : V) (g : VL), va_D A (MW a ct z g)) (hK43 : ∀ (i1 : Int32) (z : V) (g : VL), K43 i1 z g → ∀ (H : Heap) (locs : List Loc) (ls : Array Slot), va_P (dC, dI) vwCl (MW a ct z g) H → va_S A s.heap H locs → lv_has ls 2 [(0, .ref (a 0)), (1, .int i1)] → W p l e rm_X2_keepNow s m args below meth c H locs 0 0 (MQ below (va_Qv (fun (u : V × VL) => Post u.1 u.2) (fun (u : V × VL) t => WPos dC dI ct (MW a ct u.1 u.2) A t) A) args s 0 0 A) (F0 m 43 ls [])) (i1 : Int32) (z : V) (g : VL) (w : wp_X2_keepNow_S43  Post K43 i1 z g) : ∀ (H : Heap) (locs : List Loc) (ls : Array Slot), va_P (dC, dI) vwCl (MW a ct z g) H → va_S A s.heap H locs → lv_has ls 2 [(0, .ref (a 0)), (1, .int i1)] → W p l e rm_X2_keepNow s m args below meth c H locs 0 0 (MQ below (va_Qv (fun (u : V × VL) => Post u.1 u.2) (fun (u : V × VL) t => WPos dC dI ct (MW a ct u.1 u.2) A t) A) args s 0 0 A) (F0 m 43 ls []) := by
  intro H locs ls hP hS hl
  have X0 := X
  obtain ⟨⟨hx, hb, hml, hr, hlk, hown, hts⟩, hA, hK, hN⟩ := X0
  unfold wp_X2_keepNow_S43 at w
  refine lv_iload_n hx hb dX2_keepNow_43 rfl (lv_at hl 1 rfl) ?_
  refine lv_bipush (v := 36) hx hb dX2_keepNow_44 (by decide) ?_
  refine lv_icmp_ge (tgt := 70) hx hb dX2_keepNow_46 (by decide) (fun c => ?_) (fun c => ?_)
  · have w := And.left w c
    refine lv_iconst (v := 0) hx hb dX2_keepNow_70 (by decide) ?_
    refine lv_istore_n (lv' := [(1, .int (0 : Int32)), (0, .ref (a 0))]) hx hb dX2_keepNow_71 rfl hl (by decide) rfl (fun ls hl => ?_)
    obtain ⟨n, w⟩ := w
    exact wk_X2_keepNow_L72 X hD  n _ _ _ w _ _ _ hP hS (lv_sub hl [1, 0] rfl)
  · have w := And.right w c
    refine lv_aload_n hx hb dX2_keepNow_49 rfl (lv_at hl 0 rfl) ?_
    refine va_get (D := (dC, dI)) (ci := 2) (v := .ref (a 13)) (C := RX2) (T := TX2) (N := 34) hx hb hts in_X2 hown hK hP 0 rfl rfl 19 (by decide) (hts _ q477) (fun _ h9 => h9) rfl dX2_keepNow_50 ?_
    refine lv_bipush (v := 12) hx hb dX2_keepNow_53 (by decide) ?_
    refine lv_iload_n hx hb dX2_keepNow_55 rfl (lv_at hl 1 rfl) ?_
    refine lv_iadd hx hb dX2_keepNow_56 ?_
    refine lv_aload_n hx hb dX2_keepNow_57 rfl (lv_at hl 0 rfl) ?_
    refine va_get (D := (dC, dI)) (ci := 2) (v := .ref (a 3)) (C := RX2) (T := TX2) (N := 34) hx hb hts in_X2 hown hK hP 0 rfl rfl 2 (by decide) (hts _ q460) (fun _ h9 => h9) rfl dX2_keepNow_58 ?_
    refine lv_iload_n hx hb dX2_keepNow_61 rfl (lv_at hl 1 rfl) ?_
    obtain ⟨gi, w⟩ := w
    refine va_iald hx hb hK hP 3 0 rfl rfl gi dX2_keepNow_62 ?_
    obtain ⟨gi, w⟩ := w
    refine va_iast hx hb hK hP (hD _ _) hS 13 0 rfl rfl gi dX2_keepNow_63 (fun H locs hP _ hS => ?_)
    have hP : va_P (dC, dI) vwCl (MW a ct (up2 z 12 ((12 : Int32) + i1).toNatClampNeg (z 2 i1.toNatClampNeg)) g) H := MW_u_z_12 hP
    refine lv_iinc (v := (i1 + 1)) (lv' := [(1, .int (i1 + 1)), (0, .ref (a 0))]) hx hb dX2_keepNow_64 hl (k := 1) rfl rfl (by decide) rfl (fun ls hl => ?_)
    refine lv_goto (tgt := 43) hx hb dX2_keepNow_67 (by decide) ?_
    exact hK43 _ _ _ w _ _ _ hP hS (lv_sub hl [1, 0] rfl)
set_option maxHeartbeats 4000000 in
set_option maxRecDepth 100000 in
theorem wk_X2_keepNow_L43 {p : Program} {l : Launch} {e : Env} {s : State} {m : MethodId} {args : Array Value} {below : List Frame} {meth : Method} {c : Code} {dC : Nat → ClassId} {dI : Nat → Nat → Nat} {ct : Nat → ClassId} {A : Nat → Prop} {a : Nat → Nat} {Post : V → VL → Prop}   (X : CxW p s m args meth c cX2_keepNow 2 none RX2 dC dI ct A) (hD : ∀ (z : V) (g : VL), va_D A (MW a ct z g))  : ∀ (n : Nat) (i1 : Int32) (z : V) (g : VL), wp_X2_keepNow_L43  Post  n i1 z g → ∀ (H : Heap) (locs : List Loc) (ls : Array Slot), va_P (dC, dI) vwCl (MW a ct z g) H → va_S A s.heap H locs → lv_has ls 2 [(0, .ref (a 0)), (1, .int i1)] → W p l e rm_X2_keepNow s m args below meth c H locs 0 0 (MQ below (va_Qv (fun (u : V × VL) => Post u.1 u.2) (fun (u : V × VL) t => WPos dC dI ct (MW a ct u.1 u.2) A t) A) args s 0 0 A) (F0 m 43 ls []) := by
  intro n
  induction n with
  | zero => intro i1 z g w; exact False.elim w
  | succ n ih => intro i1 z g w H locs ls hP hS hl; exact wk_X2_keepNow_S43 X hD  ih i1 z g w H locs ls hP hS hl
set_option maxHeartbeats 4000000 in
set_option maxRecDepth 100000 in
theorem wk_X2_keepNow_S2 {p : Program} {l : Launch} {e : Env} {s : State} {m : MethodId} {args : Array Value} {below : List Frame} {meth : Method} {c : Code} {dC : Nat → ClassId} {dI : Nat → Nat → Nat} {ct : Nat → ClassId} {A : Nat → Prop} {a : Nat → Nat} {Post : V → VL → Prop} {K2 : Int32 → V → VL → Prop}  (X : CxW p s m args meth c cX2_keepNow 2 none RX2 dC dI ct A) (hD : ∀ (z : V) (g : VL), va_D A (MW a ct z g)) (hK2 : ∀ (i1 : Int32) (z : V) (g : VL), K2 i1 z g → ∀ (H : Heap) (locs : List Loc) (ls : Array Slot), va_P (dC, dI) vwCl (MW a ct z g) H → va_S A s.heap H locs → lv_has ls 2 [(0, .ref (a 0)), (1, .int i1)] → W p l e rm_X2_keepNow s m args below meth c H locs 0 0 (MQ below (va_Qv (fun (u : V × VL) => Post u.1 u.2) (fun (u : V × VL) t => WPos dC dI ct (MW a ct u.1 u.2) A t) A) args s 0 0 A) (F0 m 2 ls [])) (i1 : Int32) (z : V) (g : VL) (w : wp_X2_keepNow_S2  Post K2 i1 z g) : ∀ (H : Heap) (locs : List Loc) (ls : Array Slot), va_P (dC, dI) vwCl (MW a ct z g) H → va_S A s.heap H locs → lv_has ls 2 [(0, .ref (a 0)), (1, .int i1)] → W p l e rm_X2_keepNow s m args below meth c H locs 0 0 (MQ below (va_Qv (fun (u : V × VL) => Post u.1 u.2) (fun (u : V × VL) t => WPos dC dI ct (MW a ct u.1 u.2) A t) A) args s 0 0 A) (F0 m 2 ls []) := by
  intro H locs ls hP hS hl
  have X0 := X
  obtain ⟨⟨hx, hb, hml, hr, hlk, hown, hts⟩, hA, hK, hN⟩ := X0
  unfold wp_X2_keepNow_S2 at w
  refine lv_iload_n hx hb dX2_keepNow_2 rfl (lv_at hl 1 rfl) ?_
  refine lv_bipush (v := 6) hx hb dX2_keepNow_3 (by decide) ?_
  refine lv_icmp_ge (tgt := 41) hx hb dX2_keepNow_5 (by decide) (fun c => ?_) (fun c => ?_)
  · have w := And.left w c
    refine lv_iconst (v := 0) hx hb dX2_keepNow_41 (by decide) ?_
    refine lv_istore_n (lv' := [(1, .int (0 : Int32)), (0, .ref (a 0))]) hx hb dX2_keepNow_42 rfl hl (by decide) rfl (fun ls hl => ?_)
    obtain ⟨n, w⟩ := w
    exact wk_X2_keepNow_L43 X hD  n _ _ _ w _ _ _ hP hS (lv_sub hl [1, 0] rfl)
  · have w := And.right w c
    refine lv_aload_n hx hb dX2_keepNow_8 rfl (lv_at hl 0 rfl) ?_
    refine va_get (D := (dC, dI)) (ci := 2) (v := .ref (a 13)) (C := RX2) (T := TX2) (N := 34) hx hb hts in_X2 hown hK hP 0 rfl rfl 19 (by decide) (hts _ q477) (fun _ h9 => h9) rfl dX2_keepNow_9 ?_
    refine lv_iload_n hx hb dX2_keepNow_12 rfl (lv_at hl 1 rfl) ?_
    refine lv_aload_n hx hb dX2_keepNow_13 rfl (lv_at hl 0 rfl) ?_
    refine va_get (D := (dC, dI)) (ci := 2) (v := .ref (a 1)) (C := RX2) (T := TX2) (N := 34) hx hb hts in_X2 hown hK hP 0 rfl rfl 0 (by decide) (hts _ q458) (fun _ h9 => h9) rfl dX2_keepNow_14 ?_
    refine lv_iload_n hx hb dX2_keepNow_17 rfl (lv_at hl 1 rfl) ?_
    obtain ⟨gi, w⟩ := w
    refine va_iald hx hb hK hP 1 0 rfl rfl gi dX2_keepNow_18 ?_
    obtain ⟨gi, w⟩ := w
    refine va_iast hx hb hK hP (hD _ _) hS 13 0 rfl rfl gi dX2_keepNow_19 (fun H locs hP _ hS => ?_)
    have hP : va_P (dC, dI) vwCl (MW a ct (up2 z 12 i1.toNatClampNeg (z 0 i1.toNatClampNeg)) g) H := MW_u_z_12 hP
    refine lv_aload_n hx hb dX2_keepNow_20 rfl (lv_at hl 0 rfl) ?_
    refine va_get (D := (dC, dI)) (ci := 2) (v := .ref (a 13)) (C := RX2) (T := TX2) (N := 34) hx hb hts in_X2 hown hK hP 0 rfl rfl 19 (by decide) (hts _ q477) (fun _ h9 => h9) rfl dX2_keepNow_21 ?_
    refine lv_bipush (v := 6) hx hb dX2_keepNow_24 (by decide) ?_
    refine lv_iload_n hx hb dX2_keepNow_26 rfl (lv_at hl 1 rfl) ?_
    refine lv_iadd hx hb dX2_keepNow_27 ?_
    refine lv_aload_n hx hb dX2_keepNow_28 rfl (lv_at hl 0 rfl) ?_
    refine va_get (D := (dC, dI)) (ci := 2) (v := .ref (a 2)) (C := RX2) (T := TX2) (N := 34) hx hb hts in_X2 hown hK hP 0 rfl rfl 1 (by decide) (hts _ q459) (fun _ h9 => h9) rfl dX2_keepNow_29 ?_
    refine lv_iload_n hx hb dX2_keepNow_32 rfl (lv_at hl 1 rfl) ?_
    obtain ⟨gi, w⟩ := w
    refine va_iald hx hb hK hP 2 0 rfl rfl gi dX2_keepNow_33 ?_
    obtain ⟨gi, w⟩ := w
    refine va_iast hx hb hK hP (hD _ _) hS 13 0 rfl rfl gi dX2_keepNow_34 (fun H locs hP _ hS => ?_)
    have hP : va_P (dC, dI) vwCl (MW a ct (up2 (up2 z 12 i1.toNatClampNeg (z 0 i1.toNatClampNeg)) 12 ((6 : Int32) + i1).toNatClampNeg (z 1 i1.toNatClampNeg)) g) H := MW_u_z_12 hP
    refine lv_iinc (v := (i1 + 1)) (lv' := [(1, .int (i1 + 1)), (0, .ref (a 0))]) hx hb dX2_keepNow_35 hl (k := 1) rfl rfl (by decide) rfl (fun ls hl => ?_)
    refine lv_goto (tgt := 2) hx hb dX2_keepNow_38 (by decide) ?_
    exact hK2 _ _ _ w _ _ _ hP hS (lv_sub hl [1, 0] rfl)
set_option maxHeartbeats 4000000 in
set_option maxRecDepth 100000 in
theorem wk_X2_keepNow_L2 {p : Program} {l : Launch} {e : Env} {s : State} {m : MethodId} {args : Array Value} {below : List Frame} {meth : Method} {c : Code} {dC : Nat → ClassId} {dI : Nat → Nat → Nat} {ct : Nat → ClassId} {A : Nat → Prop} {a : Nat → Nat} {Post : V → VL → Prop}   (X : CxW p s m args meth c cX2_keepNow 2 none RX2 dC dI ct A) (hD : ∀ (z : V) (g : VL), va_D A (MW a ct z g))  : ∀ (n : Nat) (i1 : Int32) (z : V) (g : VL), wp_X2_keepNow_L2  Post  n i1 z g → ∀ (H : Heap) (locs : List Loc) (ls : Array Slot), va_P (dC, dI) vwCl (MW a ct z g) H → va_S A s.heap H locs → lv_has ls 2 [(0, .ref (a 0)), (1, .int i1)] → W p l e rm_X2_keepNow s m args below meth c H locs 0 0 (MQ below (va_Qv (fun (u : V × VL) => Post u.1 u.2) (fun (u : V × VL) t => WPos dC dI ct (MW a ct u.1 u.2) A t) A) args s 0 0 A) (F0 m 2 ls []) := by
  intro n
  induction n with
  | zero => intro i1 z g w; exact False.elim w
  | succ n ih => intro i1 z g w H locs ls hP hS hl; exact wk_X2_keepNow_S2 X hD  ih i1 z g w H locs ls hP hS hl
set_option maxHeartbeats 4000000 in
set_option maxRecDepth 100000 in
theorem met_X2_keepNow (l : Launch) (dC : Nat → ClassId) (dI : Nat → Nat → Nat) (ct : Nat → ClassId) (a : Nat → Nat) (sz : Nat)  {z : V} {g : VL} {Post : V → VL → Prop} (w : wp_X2_keepNow z g Post) : Met l yX2_keepNow (ws_ yX2_keepNow cX2_keepNow 2 none) rm_X2_keepNow (va_Pc [.ref (a 0)] (fun U => WPre dC dI ct (MW a ct z g) sz U)) ((fun A => (va_Qv (fun (u : V × VL) => Post u.1 u.2) (fun (u : V × VL) t => WPos dC dI ct (MW a ct u.1 u.2) A t) A)) (va_A (MW a ct z g) sz)) 0 0 (va_A (MW a ct z g) sz) := by
  refine open_W (fun A => (va_Qv (fun (u : V × VL) => Post u.1 u.2) (fun (u : V × VL) t => WPos dC dI ct (MW a ct u.1 u.2) A t) A)) (by decide) (Nat.le_of_ble_eq_true rfl) ?_
  intro p e s m args below meth c ls A X hD0 hP hS hl
  have X0 := X
  obtain ⟨⟨hx, hb, hml, hr, hlk, hown, hts⟩, hA, hK, hN⟩ := X0
  have hD : ∀ (z' : V) (g' : VL), va_D A (MW a ct z' g') := fun z' g' => va_D_addr hD0 rfl
  have hl : lv_has ls 2 [(0, .ref (a 0))] := hl
  unfold wp_X2_keepNow at w
  have hS0 := hS
  refine lv_iconst (v := 0) hx hb dX2_keepNow_0 (by decide) ?_
  refine lv_istore_n (lv' := [(1, .int (0 : Int32)), (0, .ref (a 0))]) hx hb dX2_keepNow_1 rfl hl (by decide) rfl (fun ls hl => ?_)
  obtain ⟨n, w⟩ := w
  exact wk_X2_keepNow_L2 X hD  n _ _ _ w _ _ _ hP hS (lv_sub hl [1, 0] rfl)
abbrev rm_X2_land : Room := { frames := 0, cells := 0, slots := 0, locals := 0 }
theorem hd_X2_land : yX2_land.cls = RX2 ∧ yX2_land.cls ≠ "java/lang/invoke/MethodHandle" ∧ yX2_land.cls ≠ "java/lang/invoke/VarHandle" ∧ (parseMethodDescriptor yX2_land.desc).map (fun d => d.parameters.length) = some 0 := by decide +kernel
set_option maxHeartbeats 4000000 in
set_option maxRecDepth 100000 in
theorem wk_X2_land_L30 {p : Program} {l : Launch} {e : Env} {s : State} {m : MethodId} {args : Array Value} {below : List Frame} {meth : Method} {c : Code} {dC : Nat → ClassId} {dI : Nat → Nat → Nat} {ct : Nat → ClassId} {A : Nat → Prop} {a : Nat → Nat} {Post : Int32 → V → VL → Prop} {K4 : Int32 → Int32 → V → VL → Prop}  (X : CxW p s m args meth c cX2_land 3 (some .int) RX2 dC dI ct A) (hD : ∀ (z : V) (g : VL), va_D A (MW a ct z g)) (hK4 : ∀ (i1 : Int32) (i2 : Int32) (z : V) (g : VL), K4 i1 i2 z g → ∀ (H : Heap) (locs : List Loc) (ls : Array Slot), va_P (dC, dI) vwCl (MW a ct z g) H → va_S A s.heap H locs → lv_has ls 3 [(0, .ref (a 0)), (1, .int i1), (2, .int i2)] → W p l e rm_X2_land s m args below meth c H locs 0 0 (MQ below (va_Qi (fun (r : Int32) (u : V × VL) => Post r u.1 u.2) (fun (u : V × VL) t => WPos dC dI ct (MW a ct u.1 u.2) A t) A) args s 0 0 A) (F0 m 4 ls [])) (i2 : Int32) (is0 : Int32) (is1 : Int32) (z : V) (g : VL) (w : wp_X2_land_L30  Post K4 i2 is0 is1 z g) : ∀ (H : Heap) (locs : List Loc) (ls : Array Slot), va_P (dC, dI) vwCl (MW a ct z g) H → va_S A s.heap H locs → lv_has ls 3 [(0, .ref (a 0)), (2, .int i2)] → W p l e rm_X2_land s m args below meth c H locs 0 0 (MQ below (va_Qi (fun (r : Int32) (u : V × VL) => Post r u.1 u.2) (fun (u : V × VL) t => WPos dC dI ct (MW a ct u.1 u.2) A t) A) args s 0 0 A) (F0 m 30 ls [.int is0, .int is1]) := by
  intro H locs ls hP hS hl
  have X0 := X
  obtain ⟨⟨hx, hb, hml, hr, hlk, hown, hts⟩, hA, hK, hN⟩ := X0
  unfold wp_X2_land_L30 at w
  refine lv_iadd hx hb dX2_land_30 ?_
  refine lv_istore_n (lv' := [(1, .int (is1 + is0)), (0, .ref (a 0)), (2, .int i2)]) hx hb dX2_land_31 rfl hl (by decide) rfl (fun ls hl => ?_)
  refine lv_iinc (v := (i2 + 1)) (lv' := [(2, .int (i2 + 1)), (1, .int (is1 + is0)), (0, .ref (a 0))]) hx hb dX2_land_32 hl (k := 2) rfl rfl (by decide) rfl (fun ls hl => ?_)
  refine lv_goto (tgt := 4) hx hb dX2_land_35 (by decide) ?_
  exact hK4 _ _ _ _ w _ _ _ hP hS (lv_sub hl [2, 1, 0] rfl)
set_option maxHeartbeats 4000000 in
set_option maxRecDepth 100000 in
theorem wk_X2_land_S4 {p : Program} {l : Launch} {e : Env} {s : State} {m : MethodId} {args : Array Value} {below : List Frame} {meth : Method} {c : Code} {dC : Nat → ClassId} {dI : Nat → Nat → Nat} {ct : Nat → ClassId} {A : Nat → Prop} {a : Nat → Nat} {Post : Int32 → V → VL → Prop} {K4 : Int32 → Int32 → V → VL → Prop}  (X : CxW p s m args meth c cX2_land 3 (some .int) RX2 dC dI ct A) (hD : ∀ (z : V) (g : VL), va_D A (MW a ct z g)) (hK4 : ∀ (i1 : Int32) (i2 : Int32) (z : V) (g : VL), K4 i1 i2 z g → ∀ (H : Heap) (locs : List Loc) (ls : Array Slot), va_P (dC, dI) vwCl (MW a ct z g) H → va_S A s.heap H locs → lv_has ls 3 [(0, .ref (a 0)), (1, .int i1), (2, .int i2)] → W p l e rm_X2_land s m args below meth c H locs 0 0 (MQ below (va_Qi (fun (r : Int32) (u : V × VL) => Post r u.1 u.2) (fun (u : V × VL) t => WPos dC dI ct (MW a ct u.1 u.2) A t) A) args s 0 0 A) (F0 m 4 ls [])) (i1 : Int32) (i2 : Int32) (z : V) (g : VL) (w : wp_X2_land_S4  Post K4 i1 i2 z g) : ∀ (H : Heap) (locs : List Loc) (ls : Array Slot), va_P (dC, dI) vwCl (MW a ct z g) H → va_S A s.heap H locs → lv_has ls 3 [(0, .ref (a 0)), (1, .int i1), (2, .int i2)] → W p l e rm_X2_land s m args below meth c H locs 0 0 (MQ below (va_Qi (fun (r : Int32) (u : V × VL) => Post r u.1 u.2) (fun (u : V × VL) t => WPos dC dI ct (MW a ct u.1 u.2) A t) A) args s 0 0 A) (F0 m 4 ls []) := by
  intro H locs ls hP hS hl
  have X0 := X
  obtain ⟨⟨hx, hb, hml, hr, hlk, hown, hts⟩, hA, hK, hN⟩ := X0
  unfold wp_X2_land_S4 at w
  refine lv_iload_n hx hb dX2_land_4 rfl (lv_at hl 2 rfl) ?_
  refine lv_bipush (v := 8) hx hb dX2_land_5 (by decide) ?_
  refine lv_icmp_ge (tgt := 38) hx hb dX2_land_7 (by decide) (fun c => ?_) (fun c => ?_)
  · have w := And.left w c
    refine lv_iload_n hx hb dX2_land_38 rfl (lv_at hl 1 rfl) ?_
    exact W.iret (v := i1) hx hb hr (fun t ht hW => ⟨⟨i1, (z, g), rfl, w, by rw [ht]; exact hP, va_K.moved hW.alike hK, (hD _ _)⟩, hS.F ht⟩) hS.2.2 dX2_land_39 hlk
  · have w := And.right w c
    refine lv_iload_n hx hb dX2_land_10 rfl (lv_at hl 1 rfl) ?_
    refine lv_aload_n hx hb dX2_land_11 rfl (lv_at hl 0 rfl) ?_
    refine va_get (D := (dC, dI)) (ci := 2) (v := .ref (a 5)) (C := RX2) (T := TX2) (N := 34) hx hb hts in_X2 hown hK hP 0 rfl rfl 4 (by decide) (hts _ q462) (fun _ h9 => h9) rfl dX2_land_12 ?_
    refine lv_iload_n hx hb dX2_land_15 rfl (lv_at hl 2 rfl) ?_
    obtain ⟨gi, w⟩ := w
    refine va_iald hx hb hK hP 5 0 rfl rfl gi dX2_land_16 ?_
    refine lv_if_ge (tgt := 29) hx hb dX2_land_17 (by decide) (fun c => ?_) (fun c => ?_)
    · have w := And.left w c
      refine lv_iconst (v := 0) hx hb dX2_land_29 (by decide) ?_
      exact wk_X2_land_L30 X hD hK4 _ _ _ _ _ w _ _ _ hP hS (lv_sub hl [0, 2] rfl)
    · have w := And.right w c
      refine lv_aload_n hx hb dX2_land_20 rfl (lv_at hl 0 rfl) ?_
      refine va_get (D := (dC, dI)) (ci := 2) (v := .ref (a 4)) (C := RX2) (T := TX2) (N := 34) hx hb hts in_X2 hown hK hP 0 rfl rfl 3 (by decide) (hts _ q461) (fun _ h9 => h9) rfl dX2_land_21 ?_
      refine lv_iload_n hx hb dX2_land_24 rfl (lv_at hl 2 rfl) ?_
      obtain ⟨gi, w⟩ := w
      refine va_iald hx hb hK hP 4 0 rfl rfl gi dX2_land_25 ?_
      refine lv_goto (tgt := 30) hx hb dX2_land_26 (by decide) ?_
      exact wk_X2_land_L30 X hD hK4 _ _ _ _ _ w _ _ _ hP hS (lv_sub hl [0, 2] rfl)
set_option maxHeartbeats 4000000 in
set_option maxRecDepth 100000 in
theorem wk_X2_land_L4 {p : Program} {l : Launch} {e : Env} {s : State} {m : MethodId} {args : Array Value} {below : List Frame} {meth : Method} {c : Code} {dC : Nat → ClassId} {dI : Nat → Nat → Nat} {ct : Nat → ClassId} {A : Nat → Prop} {a : Nat → Nat} {Post : Int32 → V → VL → Prop}   (X : CxW p s m args meth c cX2_land 3 (some .int) RX2 dC dI ct A) (hD : ∀ (z : V) (g : VL), va_D A (MW a ct z g))  : ∀ (n : Nat) (i1 : Int32) (i2 : Int32) (z : V) (g : VL), wp_X2_land_L4  Post  n i1 i2 z g → ∀ (H : Heap) (locs : List Loc) (ls : Array Slot), va_P (dC, dI) vwCl (MW a ct z g) H → va_S A s.heap H locs → lv_has ls 3 [(0, .ref (a 0)), (1, .int i1), (2, .int i2)] → W p l e rm_X2_land s m args below meth c H locs 0 0 (MQ below (va_Qi (fun (r : Int32) (u : V × VL) => Post r u.1 u.2) (fun (u : V × VL) t => WPos dC dI ct (MW a ct u.1 u.2) A t) A) args s 0 0 A) (F0 m 4 ls []) := by
  intro n
  induction n with
  | zero => intro i1 i2 z g w; exact False.elim w
  | succ n ih => intro i1 i2 z g w H locs ls hP hS hl; exact wk_X2_land_S4 X hD  ih i1 i2 z g w H locs ls hP hS hl
set_option maxHeartbeats 4000000 in
set_option maxRecDepth 100000 in
theorem met_X2_land (l : Launch) (dC : Nat → ClassId) (dI : Nat → Nat → Nat) (ct : Nat → ClassId) (a : Nat → Nat) (sz : Nat)  {z : V} {g : VL} {Post : Int32 → V → VL → Prop} (w : wp_X2_land z g Post) : Met l yX2_land (ws_ yX2_land cX2_land 3 (some .int)) rm_X2_land (va_Pc [.ref (a 0)] (fun U => WPre dC dI ct (MW a ct z g) sz U)) ((fun A => (va_Qi (fun (r : Int32) (u : V × VL) => Post r u.1 u.2) (fun (u : V × VL) t => WPos dC dI ct (MW a ct u.1 u.2) A t) A)) (va_A (MW a ct z g) sz)) 0 0 (va_A (MW a ct z g) sz) := by
  refine open_W (fun A => (va_Qi (fun (r : Int32) (u : V × VL) => Post r u.1 u.2) (fun (u : V × VL) t => WPos dC dI ct (MW a ct u.1 u.2) A t) A)) (by decide) (Nat.le_of_ble_eq_true rfl) ?_
  intro p e s m args below meth c ls A X hD0 hP hS hl
  have X0 := X
  obtain ⟨⟨hx, hb, hml, hr, hlk, hown, hts⟩, hA, hK, hN⟩ := X0
  have hD : ∀ (z' : V) (g' : VL), va_D A (MW a ct z' g') := fun z' g' => va_D_addr hD0 rfl
  have hl : lv_has ls 3 [(0, .ref (a 0))] := hl
  unfold wp_X2_land at w
  have hS0 := hS
  refine lv_iconst (v := 0) hx hb dX2_land_0 (by decide) ?_
  refine lv_istore_n (lv' := [(1, .int (0 : Int32)), (0, .ref (a 0))]) hx hb dX2_land_1 rfl hl (by decide) rfl (fun ls hl => ?_)
  refine lv_iconst (v := 0) hx hb dX2_land_2 (by decide) ?_
  refine lv_istore_n (lv' := [(2, .int (0 : Int32)), (1, .int (0 : Int32)), (0, .ref (a 0))]) hx hb dX2_land_3 rfl hl (by decide) rfl (fun ls hl => ?_)
  obtain ⟨n, w⟩ := w
  exact wk_X2_land_L4 X hD  n _ _ _ _ w _ _ _ hP hS (lv_sub hl [2, 1, 0] rfl)
abbrev rm_X2_notes : Room := { frames := 0, cells := 0, slots := 0, locals := 0 }
theorem hd_X2_notes : yX2_notes.cls = RX2 ∧ yX2_notes.cls ≠ "java/lang/invoke/MethodHandle" ∧ yX2_notes.cls ≠ "java/lang/invoke/VarHandle" ∧ (parseMethodDescriptor yX2_notes.desc).map (fun d => d.parameters.length) = some 0 := by decide +kernel
set_option maxHeartbeats 4000000 in
set_option maxRecDepth 100000 in
theorem wk_X2_notes_S7 {p : Program} {l : Launch} {e : Env} {s : State} {m : MethodId} {args : Array Value} {below : List Frame} {meth : Method} {c : Code} {dC : Nat → ClassId} {dI : Nat → Nat → Nat} {ct : Nat → ClassId} {A : Nat → Prop} {a : Nat → Nat} {Post : Int32 → V → VL → Prop} {K7 : Int32 → Int32 → V → VL → Prop}  (X : CxW p s m args meth c cX2_notes 3 (some .int) RX2 dC dI ct A) (hD : ∀ (z : V) (g : VL), va_D A (MW a ct z g)) (hK7 : ∀ (i1 : Int32) (i2 : Int32) (z : V) (g : VL), K7 i1 i2 z g → ∀ (H : Heap) (locs : List Loc) (ls : Array Slot), va_P (dC, dI) vwCl (MW a ct z g) H → va_S A s.heap H locs → lv_has ls 3 [(0, .ref (a 0)), (1, .int i1), (2, .int i2)] → W p l e rm_X2_notes s m args below meth c H locs 0 0 (MQ below (va_Qi (fun (r : Int32) (u : V × VL) => Post r u.1 u.2) (fun (u : V × VL) t => WPos dC dI ct (MW a ct u.1 u.2) A t) A) args s 0 0 A) (F0 m 7 ls [])) (i1 : Int32) (i2 : Int32) (z : V) (g : VL) (w : wp_X2_notes_S7  Post K7 i1 i2 z g) : ∀ (H : Heap) (locs : List Loc) (ls : Array Slot), va_P (dC, dI) vwCl (MW a ct z g) H → va_S A s.heap H locs → lv_has ls 3 [(0, .ref (a 0)), (1, .int i1), (2, .int i2)] → W p l e rm_X2_notes s m args below meth c H locs 0 0 (MQ below (va_Qi (fun (r : Int32) (u : V × VL) => Post r u.1 u.2) (fun (u : V × VL) t => WPos dC dI ct (MW a ct u.1 u.2) A t) A) args s 0 0 A) (F0 m 7 ls []) := by
  intro H locs ls hP hS hl
  have X0 := X
  obtain ⟨⟨hx, hb, hml, hr, hlk, hown, hts⟩, hA, hK, hN⟩ := X0
  unfold wp_X2_notes_S7 at w
  refine lv_iload_n hx hb dX2_notes_7 rfl (lv_at hl 2 rfl) ?_
  refine lv_bipush (v := 6) hx hb dX2_notes_8 (by decide) ?_
  refine lv_icmp_ge (tgt := 28) hx hb dX2_notes_10 (by decide) (fun c => ?_) (fun c => ?_)
  · have w := And.left w c
    refine lv_iload_n hx hb dX2_notes_28 rfl (lv_at hl 1 rfl) ?_
    exact W.iret (v := i1) hx hb hr (fun t ht hW => ⟨⟨i1, (z, g), rfl, w, by rw [ht]; exact hP, va_K.moved hW.alike hK, (hD _ _)⟩, hS.F ht⟩) hS.2.2 dX2_notes_29 hlk
  · have w := And.right w c
    refine lv_iload_n hx hb dX2_notes_13 rfl (lv_at hl 1 rfl) ?_
    refine lv_aload_n hx hb dX2_notes_14 rfl (lv_at hl 0 rfl) ?_
    refine va_get (D := (dC, dI)) (ci := 2) (v := .ref (a 1)) (C := RX2) (T := TX2) (N := 34) hx hb hts in_X2 hown hK hP 0 rfl rfl 0 (by decide) (hts _ q458) (fun _ h9 => h9) rfl dX2_notes_15 ?_
    refine lv_iload_n hx hb dX2_notes_18 rfl (lv_at hl 2 rfl) ?_
    obtain ⟨gi, w⟩ := w
    refine va_iald hx hb hK hP 1 0 rfl rfl gi dX2_notes_19 ?_
    refine lv_iadd hx hb dX2_notes_20 ?_
    refine lv_istore_n (lv' := [(1, .int (i1 + (z 0 i2.toNatClampNeg))), (0, .ref (a 0)), (2, .int i2)]) hx hb dX2_notes_21 rfl hl (by decide) rfl (fun ls hl => ?_)
    refine lv_iinc (v := (i2 + 1)) (lv' := [(2, .int (i2 + 1)), (1, .int (i1 + (z 0 i2.toNatClampNeg))), (0, .ref (a 0))]) hx hb dX2_notes_22 hl (k := 2) rfl rfl (by decide) rfl (fun ls hl => ?_)
    refine lv_goto (tgt := 7) hx hb dX2_notes_25 (by decide) ?_
    exact hK7 _ _ _ _ w _ _ _ hP hS (lv_sub hl [2, 1, 0] rfl)
set_option maxHeartbeats 4000000 in
set_option maxRecDepth 100000 in
theorem wk_X2_notes_L7 {p : Program} {l : Launch} {e : Env} {s : State} {m : MethodId} {args : Array Value} {below : List Frame} {meth : Method} {c : Code} {dC : Nat → ClassId} {dI : Nat → Nat → Nat} {ct : Nat → ClassId} {A : Nat → Prop} {a : Nat → Nat} {Post : Int32 → V → VL → Prop}   (X : CxW p s m args meth c cX2_notes 3 (some .int) RX2 dC dI ct A) (hD : ∀ (z : V) (g : VL), va_D A (MW a ct z g))  : ∀ (n : Nat) (i1 : Int32) (i2 : Int32) (z : V) (g : VL), wp_X2_notes_L7  Post  n i1 i2 z g → ∀ (H : Heap) (locs : List Loc) (ls : Array Slot), va_P (dC, dI) vwCl (MW a ct z g) H → va_S A s.heap H locs → lv_has ls 3 [(0, .ref (a 0)), (1, .int i1), (2, .int i2)] → W p l e rm_X2_notes s m args below meth c H locs 0 0 (MQ below (va_Qi (fun (r : Int32) (u : V × VL) => Post r u.1 u.2) (fun (u : V × VL) t => WPos dC dI ct (MW a ct u.1 u.2) A t) A) args s 0 0 A) (F0 m 7 ls []) := by
  intro n
  induction n with
  | zero => intro i1 i2 z g w; exact False.elim w
  | succ n ih => intro i1 i2 z g w H locs ls hP hS hl; exact wk_X2_notes_S7 X hD  ih i1 i2 z g w H locs ls hP hS hl
set_option maxHeartbeats 4000000 in
set_option maxRecDepth 100000 in
theorem met_X2_notes (l : Launch) (dC : Nat → ClassId) (dI : Nat → Nat → Nat) (ct : Nat → ClassId) (a : Nat → Nat) (sz : Nat)  {z : V} {g : VL} {Post : Int32 → V → VL → Prop} (w : wp_X2_notes z g Post) : Met l yX2_notes (ws_ yX2_notes cX2_notes 3 (some .int)) rm_X2_notes (va_Pc [.ref (a 0)] (fun U => WPre dC dI ct (MW a ct z g) sz U)) ((fun A => (va_Qi (fun (r : Int32) (u : V × VL) => Post r u.1 u.2) (fun (u : V × VL) t => WPos dC dI ct (MW a ct u.1 u.2) A t) A)) (va_A (MW a ct z g) sz)) 0 0 (va_A (MW a ct z g) sz) := by
  refine open_W (fun A => (va_Qi (fun (r : Int32) (u : V × VL) => Post r u.1 u.2) (fun (u : V × VL) t => WPos dC dI ct (MW a ct u.1 u.2) A t) A)) (by decide) (Nat.le_of_ble_eq_true rfl) ?_
  intro p e s m args below meth c ls A X hD0 hP hS hl
  have X0 := X
  obtain ⟨⟨hx, hb, hml, hr, hlk, hown, hts⟩, hA, hK, hN⟩ := X0
  have hD : ∀ (z' : V) (g' : VL), va_D A (MW a ct z' g') := fun z' g' => va_D_addr hD0 rfl
  have hl : lv_has ls 3 [(0, .ref (a 0))] := hl
  unfold wp_X2_notes at w
  have hS0 := hS
  refine lv_aload_n hx hb dX2_notes_0 rfl (lv_at hl 0 rfl) ?_
  refine va_get (D := (dC, dI)) (ci := 2) (v := .int (z 19 0)) (C := RX2) (T := TX2) (N := 34) hx hb hts in_X2 hown hK hP 0 rfl rfl 5 (by decide) (hts _ q463) (fun _ h9 => h9) rfl dX2_notes_1 ?_
  refine lv_istore_n (lv' := [(1, .int (z 19 0)), (0, .ref (a 0))]) hx hb dX2_notes_4 rfl hl (by decide) rfl (fun ls hl => ?_)
  refine lv_iconst (v := 0) hx hb dX2_notes_5 (by decide) ?_
  refine lv_istore_n (lv' := [(2, .int (0 : Int32)), (1, .int (z 19 0)), (0, .ref (a 0))]) hx hb dX2_notes_6 rfl hl (by decide) rfl (fun ls hl => ?_)
  obtain ⟨n, w⟩ := w
  exact wk_X2_notes_L7 X hD  n _ _ _ _ w _ _ _ hP hS (lv_sub hl [2, 1, 0] rfl)
abbrev rm_X2_rate : Room := { frames := 1, cells := 0, slots := 0, locals := 24 }
theorem hd_X2_rate : yX2_rate.cls = RX2 ∧ yX2_rate.cls ≠ "java/lang/invoke/MethodHandle" ∧ yX2_rate.cls ≠ "java/lang/invoke/VarHandle" ∧ (parseMethodDescriptor yX2_rate.desc).map (fun d => d.parameters.length) = some 0 := by decide +kernel
set_option maxHeartbeats 4000000 in
set_option maxRecDepth 100000 in
theorem met_X2_rate (l : Launch) (dC : Nat → ClassId) (dI : Nat → Nat → Nat) (ct : Nat → ClassId) (a : Nat → Nat) (sz : Nat)  {z : V} {g : VL} {Post : Int32 → V → VL → Prop} (w : wp_X2_rate z g Post) : Met l yX2_rate (ws_ yX2_rate cX2_rate 1 (some .int)) rm_X2_rate (va_Pc [.ref (a 0)] (fun U => WPre dC dI ct (MW a ct z g) sz U)) ((fun A => (va_Qi (fun (r : Int32) (u : V × VL) => Post r u.1 u.2) (fun (u : V × VL) t => WPos dC dI ct (MW a ct u.1 u.2) A t) A)) (va_A (MW a ct z g) sz)) 0 0 (va_A (MW a ct z g) sz) := by
  refine open_W (fun A => (va_Qi (fun (r : Int32) (u : V × VL) => Post r u.1 u.2) (fun (u : V × VL) t => WPos dC dI ct (MW a ct u.1 u.2) A t) A)) (by decide) (Nat.le_of_ble_eq_true rfl) ?_
  intro p e s m args below meth c ls A X hD0 hP hS hl
  have X0 := X
  obtain ⟨⟨hx, hb, hml, hr, hlk, hown, hts⟩, hA, hK, hN⟩ := X0
  have hD : ∀ (z' : V) (g' : VL), va_D A (MW a ct z' g') := fun z' g' => va_D_addr hD0 rfl
  have hl : lv_has ls 1 [(0, .ref (a 0))] := hl
  unfold wp_X2_rate at w
  have hS0 := hS
  refine lv_aload_n hx hb dX2_rate_0 rfl (lv_at hl 0 rfl) ?_
  refine va_calli (va_runV (As := []) (rest := []) ⟨hx, hb, hml, hown, hts⟩ (met_X2_land l dC dI ct a _ w) (cwV 0 hts (lw_V q671 q673 qs23 q51 q674) rfl rfl rfl hd_X2_land ⟨Nat.le_of_ble_eq_true rfl, Nat.le_of_ble_eq_true rfl⟩) (pre_V hK hP (hD _ _) hN (va_recv hK hP (ci := 2) (q0 := 0) rfl rfl)) rfl rfl hl.1 rfl (lv_room (Nat.le_of_ble_eq_true rfl)) dX2_rate_1 ⟨Nat.le_refl _, Nat.le_refl _⟩) hS (fun q _ h => x_free (hD _ _) hS hA q h) (x_free (hD _ _) hS hA) (fun r1 u t H locs ht hvm w hB hz hk hS => ?_)
  obtain ⟨z_1, g_1⟩ := u
  dsimp only at w
  have hP : va_P (dC, dI) vwCl (MW a ct z_1 g_1) H := post_P hB ht
  refine lv_aload_n hx hb dX2_rate_4 rfl (lv_at hl 0 rfl) ?_
  refine va_calli (va_runV (As := []) (rest := [.int r1]) ⟨hx, hb, hml, hown, hts⟩ (met_X2_notes l dC dI ct a _ w) (cwV 0 hts (lw_V q675 q677 qs24 q51 q678) rfl rfl rfl hd_X2_notes ⟨Nat.le_of_ble_eq_true rfl, Nat.le_of_ble_eq_true rfl⟩) (pre_V hK hP (hD _ _) hN (va_recv hK hP (ci := 2) (q0 := 0) rfl rfl)) rfl rfl hl.1 rfl (lv_room (Nat.le_of_ble_eq_true rfl)) dX2_rate_5 ⟨Nat.le_refl _, Nat.le_refl _⟩) hS (fun q _ h => x_free (hD _ _) hS hA q h) (x_free (hD _ _) hS hA) (fun r2 u t H locs ht hvm w hB hz hk hS => ?_)
  obtain ⟨z_2, g_2⟩ := u
  dsimp only at w
  have hP : va_P (dC, dI) vwCl (MW a ct z_2 g_2) H := post_P hB ht
  refine lv_i2l hx hb dX2_rate_8 rfl ?_
  refine vp_callSi (W.runS (As := [.int r1, .long r2.toInt64]) (rest := []) ⟨hx, hb, hml, hown, hts⟩ (met_X2_rateOf l w) (va_cwS 2 hts (lw_S q679 q680 q51 q681) rfl rfl rfl hd_X2_rateOf ⟨Nat.le_of_ble_eq_true rfl, Nat.le_of_ble_eq_true rfl⟩) pre_S rfl rfl hl.1 rfl (lv_room (Nat.le_of_ble_eq_true rfl)) dX2_rate_9 ⟨Nat.le_refl _, Nat.le_refl _⟩) (fun r3 w => ?_)
  exact W.iret (v := r3) hx hb hr (fun t ht hW => ⟨⟨r3, (z_2, g_2), rfl, w, by rw [ht]; exact hP, va_K.moved hW.alike hK, (hD _ _)⟩, hS.F ht⟩) hS.2.2 dX2_rate_12 hlk
abbrev rm_X2_worth : Room := { frames := 2, cells := 0, slots := 0, locals := 44 }
theorem hd_X2_worth : yX2_worth.cls = RX2 ∧ yX2_worth.cls ≠ "java/lang/invoke/MethodHandle" ∧ yX2_worth.cls ≠ "java/lang/invoke/VarHandle" ∧ (parseMethodDescriptor yX2_worth.desc).map (fun d => d.parameters.length) = some 1 := by decide +kernel
set_option maxHeartbeats 4000000 in
set_option maxRecDepth 100000 in
theorem met_X2_worth (l : Launch) (dC : Nat → ClassId) (dI : Nat → Nat → Nat) (ct : Nat → ClassId) (a : Nat → Nat) (sz : Nat) {i1 : Int32} {z : V} {g : VL} {Post : Int32 → V → VL → Prop} (w : wp_X2_worth i1 z g Post) : Met l yX2_worth (ws_ yX2_worth cX2_worth 2 (some .int)) rm_X2_worth (va_Pc [.ref (a 0), .int i1] (fun U => WPre dC dI ct (MW a ct z g) sz U)) ((fun A => (va_Qi (fun (r : Int32) (u : V × VL) => Post r u.1 u.2) (fun (u : V × VL) t => WPos dC dI ct (MW a ct u.1 u.2) A t) A)) (va_A (MW a ct z g) sz)) 0 0 (va_A (MW a ct z g) sz) := by
  refine open_W (fun A => (va_Qi (fun (r : Int32) (u : V × VL) => Post r u.1 u.2) (fun (u : V × VL) t => WPos dC dI ct (MW a ct u.1 u.2) A t) A)) (by decide) (Nat.le_of_ble_eq_true rfl) ?_
  intro p e s m args below meth c ls A X hD0 hP hS hl
  have X0 := X
  obtain ⟨⟨hx, hb, hml, hr, hlk, hown, hts⟩, hA, hK, hN⟩ := X0
  have hD : ∀ (z' : V) (g' : VL), va_D A (MW a ct z' g') := fun z' g' => va_D_addr hD0 rfl
  have hl : lv_has ls 2 [(0, .ref (a 0)), (1, .int i1)] := hl
  unfold wp_X2_worth at w
  have hS0 := hS
  refine lv_iload_n hx hb dX2_worth_0 rfl (lv_at hl 1 rfl) ?_
  refine lv_aload_n hx hb dX2_worth_1 rfl (lv_at hl 0 rfl) ?_
  refine va_calli (va_runV (As := []) (rest := [.int i1]) ⟨hx, hb, hml, hown, hts⟩ (met_X2_rate l dC dI ct a _ w) (cwV 0 hts (lw_V q667 q669 qs22 q51 q670) rfl rfl rfl hd_X2_rate ⟨Nat.le_of_ble_eq_true rfl, Nat.le_of_ble_eq_true rfl⟩) (pre_V hK hP (hD _ _) hN (va_recv hK hP (ci := 2) (q0 := 0) rfl rfl)) rfl rfl hl.1 rfl (lv_room (Nat.le_of_ble_eq_true rfl)) dX2_worth_2 ⟨Nat.le_refl _, Nat.le_refl _⟩) hS (fun q _ h => x_free (hD _ _) hS hA q h) (x_free (hD _ _) hS hA) (fun r1 u t H locs ht hvm w hB hz hk hS => ?_)
  obtain ⟨z_1, g_1⟩ := u
  dsimp only at w
  have hP : va_P (dC, dI) vwCl (MW a ct z_1 g_1) H := post_P hB ht
  refine lv_imul hx hb dX2_worth_5 ?_
  refine lv_bipush (v := 100) hx hb dX2_worth_6 (by decide) ?_
  refine lv_idiv hx hb dX2_worth_8 (by decide) ?_
  exact W.iret (v := ((i1 * r1) / (100 : Int32))) hx hb hr (fun t ht hW => ⟨⟨((i1 * r1) / (100 : Int32)), (z_1, g_1), rfl, w, by rw [ht]; exact hP, va_K.moved hW.alike hK, (hD _ _)⟩, hS.F ht⟩) hS.2.2 dX2_worth_9 hlk
abbrev rm_X2_whyNotChange : Room := { frames := 3, cells := 0, slots := 0, locals := 65 }
theorem hd_X2_whyNotChange : yX2_whyNotChange.cls = RX2 ∧ yX2_whyNotChange.cls ≠ "java/lang/invoke/MethodHandle" ∧ yX2_whyNotChange.cls ≠ "java/lang/invoke/VarHandle" ∧ (parseMethodDescriptor yX2_whyNotChange.desc).map (fun d => d.parameters.length) = some 2 := by decide +kernel
set_option maxHeartbeats 4000000 in
set_option maxRecDepth 100000 in
theorem wk_X2_whyNotChange_L46 {p : Program} {l : Launch} {e : Env} {s : State} {m : MethodId} {args : Array Value} {below : List Frame} {meth : Method} {c : Code} {dC : Nat → ClassId} {dI : Nat → Nat → Nat} {ct : Nat → ClassId} {A : Nat → Prop} {a : Nat → Nat} {Post : Int32 → V → VL → Prop}   (X : CxW p s m args meth c cX2_whyNotChange 3 (some .int) RX2 dC dI ct A) (hD : ∀ (z : V) (g : VL), va_D A (MW a ct z g))  (is0 : Int32) (z : V) (g : VL) (w : wp_X2_whyNotChange_L46  Post  is0 z g) : ∀ (H : Heap) (locs : List Loc) (ls : Array Slot), va_P (dC, dI) vwCl (MW a ct z g) H → va_S A s.heap H locs → lv_has ls 3 [] → W p l e rm_X2_whyNotChange s m args below meth c H locs 0 0 (MQ below (va_Qi (fun (r : Int32) (u : V × VL) => Post r u.1 u.2) (fun (u : V × VL) t => WPos dC dI ct (MW a ct u.1 u.2) A t) A) args s 0 0 A) (F0 m 46 ls [.int is0]) := by
  intro H locs ls hP hS hl
  have X0 := X
  obtain ⟨⟨hx, hb, hml, hr, hlk, hown, hts⟩, hA, hK, hN⟩ := X0
  unfold wp_X2_whyNotChange_L46 at w
  exact W.iret (v := is0) hx hb hr (fun t ht hW => ⟨⟨is0, (z, g), rfl, w, by rw [ht]; exact hP, va_K.moved hW.alike hK, (hD _ _)⟩, hS.F ht⟩) hS.2.2 dX2_whyNotChange_46 hlk
set_option maxHeartbeats 4000000 in
set_option maxRecDepth 100000 in
theorem wk_X2_whyNotChange_L41 {p : Program} {l : Launch} {e : Env} {s : State} {m : MethodId} {args : Array Value} {below : List Frame} {meth : Method} {c : Code} {dC : Nat → ClassId} {dI : Nat → Nat → Nat} {ct : Nat → ClassId} {A : Nat → Prop} {a : Nat → Nat} {Post : Int32 → V → VL → Prop}   (X : CxW p s m args meth c cX2_whyNotChange 3 (some .int) RX2 dC dI ct A) (hD : ∀ (z : V) (g : VL), va_D A (MW a ct z g))  (z : V) (g : VL) (w : wp_X2_whyNotChange_L41  Post  z g) : ∀ (H : Heap) (locs : List Loc) (ls : Array Slot), va_P (dC, dI) vwCl (MW a ct z g) H → va_S A s.heap H locs → lv_has ls 3 [] → W p l e rm_X2_whyNotChange s m args below meth c H locs 0 0 (MQ below (va_Qi (fun (r : Int32) (u : V × VL) => Post r u.1 u.2) (fun (u : V × VL) t => WPos dC dI ct (MW a ct u.1 u.2) A t) A) args s 0 0 A) (F0 m 41 ls []) := by
  intro H locs ls hP hS hl
  have X0 := X
  obtain ⟨⟨hx, hb, hml, hr, hlk, hown, hts⟩, hA, hK, hN⟩ := X0
  unfold wp_X2_whyNotChange_L41 at w
  refine lv_iconst (v := 5) hx hb dX2_whyNotChange_41 (by decide) ?_
  refine lv_goto (tgt := 46) hx hb dX2_whyNotChange_42 (by decide) ?_
  exact wk_X2_whyNotChange_L46 X hD  _ _ _ w _ _ _ hP hS (lv_sub hl [] rfl)
set_option maxHeartbeats 4000000 in
set_option maxRecDepth 100000 in
theorem met_X2_whyNotChange (l : Launch) (dC : Nat → ClassId) (dI : Nat → Nat → Nat) (ct : Nat → ClassId) (a : Nat → Nat) (sz : Nat) {i1 : Int32} {i2 : Int32} {z : V} {g : VL} {Post : Int32 → V → VL → Prop} (w : wp_X2_whyNotChange i1 i2 z g Post) : Met l yX2_whyNotChange (ws_ yX2_whyNotChange cX2_whyNotChange 3 (some .int)) rm_X2_whyNotChange (va_Pc [.ref (a 0), .int i1, .int i2] (fun U => WPre dC dI ct (MW a ct z g) sz U)) ((fun A => (va_Qi (fun (r : Int32) (u : V × VL) => Post r u.1 u.2) (fun (u : V × VL) t => WPos dC dI ct (MW a ct u.1 u.2) A t) A)) (va_A (MW a ct z g) sz)) 0 0 (va_A (MW a ct z g) sz) := by
  refine open_W (fun A => (va_Qi (fun (r : Int32) (u : V × VL) => Post r u.1 u.2) (fun (u : V × VL) t => WPos dC dI ct (MW a ct u.1 u.2) A t) A)) (by decide) (Nat.le_of_ble_eq_true rfl) ?_
  intro p e s m args below meth c ls A X hD0 hP hS hl
  have X0 := X
  obtain ⟨⟨hx, hb, hml, hr, hlk, hown, hts⟩, hA, hK, hN⟩ := X0
  have hD : ∀ (z' : V) (g' : VL), va_D A (MW a ct z' g') := fun z' g' => va_D_addr hD0 rfl
  have hl : lv_has ls 3 [(0, .ref (a 0)), (1, .int i1), (2, .int i2)] := hl
  unfold wp_X2_whyNotChange at w
  have hS0 := hS
  refine lv_aload_n hx hb dX2_whyNotChange_0 rfl (lv_at hl 0 rfl) ?_
  refine va_get (D := (dC, dI)) (ci := 2) (v := .ref (a 1)) (C := RX2) (T := TX2) (N := 34) hx hb hts in_X2 hown hK hP 0 rfl rfl 0 (by decide) (hts _ q458) (fun _ h9 => h9) rfl dX2_whyNotChange_1 ?_
  refine lv_iload_n hx hb dX2_whyNotChange_4 rfl (lv_at hl 1 rfl) ?_
  obtain ⟨gi, w⟩ := w
  refine va_iald hx hb hK hP 1 0 rfl rfl gi dX2_whyNotChange_5 ?_
  refine lv_iload_n hx hb dX2_whyNotChange_6 rfl (lv_at hl 2 rfl) ?_
  refine lv_icmp_ge (tgt := 12) hx hb dX2_whyNotChange_7 (by decide) (fun c => ?_) (fun c => ?_)
  · have w := And.left w c
    refine lv_aload_n hx hb dX2_whyNotChange_12 rfl (lv_at hl 0 rfl) ?_
    refine va_get (D := (dC, dI)) (ci := 2) (v := .ref (a 2)) (C := RX2) (T := TX2) (N := 34) hx hb hts in_X2 hown hK hP 0 rfl rfl 1 (by decide) (hts _ q459) (fun _ h9 => h9) rfl dX2_whyNotChange_13 ?_
    refine lv_iload_n hx hb dX2_whyNotChange_16 rfl (lv_at hl 1 rfl) ?_
    obtain ⟨gi, w⟩ := w
    refine va_iald hx hb hK hP 2 0 rfl rfl gi dX2_whyNotChange_17 ?_
    refine lv_aload_n hx hb dX2_whyNotChange_18 rfl (lv_at hl 0 rfl) ?_
    refine lv_iload_n hx hb dX2_whyNotChange_19 rfl (lv_at hl 2 rfl) ?_
    refine va_calli (va_runV (As := [.int i2]) (rest := [.int (z 1 i1.toNatClampNeg)]) ⟨hx, hb, hml, hown, hts⟩ (met_X2_worth l dC dI ct a _ w) (cwV 1 hts (lw_V q663 q665 qs21 q51 q666) rfl rfl rfl hd_X2_worth ⟨Nat.le_of_ble_eq_true rfl, Nat.le_of_ble_eq_true rfl⟩) (pre_V hK hP (hD _ _) hN (va_recv hK hP (ci := 2) (q0 := 0) rfl rfl)) rfl rfl hl.1 rfl (lv_room (Nat.le_of_ble_eq_true rfl)) dX2_whyNotChange_20 ⟨Nat.le_refl _, Nat.le_refl _⟩) hS (fun q _ h => x_free (hD _ _) hS hA q h) (x_free (hD _ _) hS hA) (fun r1 u t H locs ht hvm w hB hz hk hS => ?_)
    obtain ⟨z_1, g_1⟩ := u
    dsimp only at w
    have hP : va_P (dC, dI) vwCl (MW a ct z_1 g_1) H := post_P hB ht
    refine lv_iadd hx hb dX2_whyNotChange_23 ?_
    refine lv_sipush (v := 9999) hx hb dX2_whyNotChange_24 (by decide) ?_
    refine lv_icmp_gt (tgt := 41) hx hb dX2_whyNotChange_27 (by decide) (fun c => ?_) (fun c => ?_)
    · have w := And.left w c
      exact wk_X2_whyNotChange_L41 X hD  _ _ w _ _ _ hP hS (lv_sub hl [] rfl)
    · have w := And.right w c
      refine lv_aload_n hx hb dX2_whyNotChange_30 rfl (lv_at hl 0 rfl) ?_
      refine va_get (D := (dC, dI)) (ci := 2) (v := .int (z_1 19 0)) (C := RX2) (T := TX2) (N := 34) hx hb hts in_X2 hown hK hP 0 rfl rfl 5 (by decide) (hts _ q463) (fun _ h9 => h9) rfl dX2_whyNotChange_31 ?_
      refine lv_iload_n hx hb dX2_whyNotChange_34 rfl (lv_at hl 2 rfl) ?_
      refine lv_iadd hx hb dX2_whyNotChange_35 ?_
      refine lv_ldc (v := 99999) hx hb hown (hts _ q658) dX2_whyNotChange_36 ?_
      refine lv_icmp_le (tgt := 45) hx hb dX2_whyNotChange_38 (by decide) (fun c => ?_) (fun c => ?_)
      · have w := And.left w c
        refine lv_iconst (v := 0) hx hb dX2_whyNotChange_45 (by decide) ?_
        exact wk_X2_whyNotChange_L46 X hD  _ _ _ w _ _ _ hP hS (lv_sub hl [] rfl)
      · have w := And.right w c
        exact wk_X2_whyNotChange_L41 X hD  _ _ w _ _ _ hP hS (lv_sub hl [] rfl)
  · have w := And.right w c
    refine lv_iconst (v := 3) hx hb dX2_whyNotChange_10 (by decide) ?_
    exact W.iret (v := (3 : Int32)) hx hb hr (fun t ht hW => ⟨⟨(3 : Int32), (z, g), rfl, w, by rw [ht]; exact hP, va_K.moved hW.alike hK, (hD _ _)⟩, hS.F ht⟩) hS.2.2 dX2_whyNotChange_11 hlk
abbrev rm_X2_payment : Room := { frames := 0, cells := 0, slots := 0, locals := 0 }
theorem hd_X2_payment : yX2_payment.cls = RX2 ∧ yX2_payment.cls ≠ "java/lang/invoke/MethodHandle" ∧ yX2_payment.cls ≠ "java/lang/invoke/VarHandle" ∧ (parseMethodDescriptor yX2_payment.desc).map (fun d => d.parameters.length) = some 2 := by decide +kernel
set_option maxHeartbeats 4000000 in
set_option maxRecDepth 100000 in
theorem wk_X2_payment_L32 {p : Program} {l : Launch} {e : Env} {s : State} {m : MethodId} {args : Array Value} {below : List Frame} {meth : Method} {c : Code} {dC : Nat → ClassId} {dI : Nat → Nat → Nat} {ct : Nat → ClassId} {A : Nat → Prop} {a : Nat → Nat} {Post : Int32 → V → VL → Prop}   (X : CxW p s m args meth c cX2_payment 4 (some .int) RX2 dC dI ct A) (hD : ∀ (z : V) (g : VL), va_D A (MW a ct z g))  (is0 : Int32) (z : V) (g : VL) (w : wp_X2_payment_L32  Post  is0 z g) : ∀ (H : Heap) (locs : List Loc) (ls : Array Slot), va_P (dC, dI) vwCl (MW a ct z g) H → va_S A s.heap H locs → lv_has ls 4 [] → W p l e rm_X2_payment s m args below meth c H locs 0 0 (MQ below (va_Qi (fun (r : Int32) (u : V × VL) => Post r u.1 u.2) (fun (u : V × VL) t => WPos dC dI ct (MW a ct u.1 u.2) A t) A) args s 0 0 A) (F0 m 32 ls [.int is0]) := by
  intro H locs ls hP hS hl
  have X0 := X
  obtain ⟨⟨hx, hb, hml, hr, hlk, hown, hts⟩, hA, hK, hN⟩ := X0
  unfold wp_X2_payment_L32 at w
  exact W.iret (v := is0) hx hb hr (fun t ht hW => ⟨⟨is0, (z, g), rfl, w, by rw [ht]; exact hP, va_K.moved hW.alike hK, (hD _ _)⟩, hS.F ht⟩) hS.2.2 dX2_payment_32 hlk
set_option maxHeartbeats 4000000 in
set_option maxRecDepth 100000 in
theorem met_X2_payment (l : Launch) (dC : Nat → ClassId) (dI : Nat → Nat → Nat) (ct : Nat → ClassId) (a : Nat → Nat) (sz : Nat) {i1 : Int32} {i2 : Int32} {z : V} {g : VL} {Post : Int32 → V → VL → Prop} (w : wp_X2_payment i1 i2 z g Post) : Met l yX2_payment (ws_ yX2_payment cX2_payment 4 (some .int)) rm_X2_payment (va_Pc [.ref (a 0), .int i1, .int i2] (fun U => WPre dC dI ct (MW a ct z g) sz U)) ((fun A => (va_Qi (fun (r : Int32) (u : V × VL) => Post r u.1 u.2) (fun (u : V × VL) t => WPos dC dI ct (MW a ct u.1 u.2) A t) A)) (va_A (MW a ct z g) sz)) 0 0 (va_A (MW a ct z g) sz) := by
  refine open_W (fun A => (va_Qi (fun (r : Int32) (u : V × VL) => Post r u.1 u.2) (fun (u : V × VL) t => WPos dC dI ct (MW a ct u.1 u.2) A t) A)) (by decide) (Nat.le_of_ble_eq_true rfl) ?_
  intro p e s m args below meth c ls A X hD0 hP hS hl
  have X0 := X
  obtain ⟨⟨hx, hb, hml, hr, hlk, hown, hts⟩, hA, hK, hN⟩ := X0
  have hD : ∀ (z' : V) (g' : VL), va_D A (MW a ct z' g') := fun z' g' => va_D_addr hD0 rfl
  have hl : lv_has ls 4 [(0, .ref (a 0)), (1, .int i1), (2, .int i2)] := hl
  unfold wp_X2_payment at w
  have hS0 := hS
  refine lv_aload_n hx hb dX2_payment_0 rfl (lv_at hl 0 rfl) ?_
  refine va_get (D := (dC, dI)) (ci := 2) (v := .ref (a 3)) (C := RX2) (T := TX2) (N := 34) hx hb hts in_X2 hown hK hP 0 rfl rfl 2 (by decide) (hts _ q460) (fun _ h9 => h9) rfl dX2_payment_1 ?_
  refine lv_bipush (v := 6) hx hb dX2_payment_4 (by decide) ?_
  refine lv_iload_n hx hb dX2_payment_6 rfl (lv_at hl 1 rfl) ?_
  refine lv_imul hx hb dX2_payment_7 ?_
  refine lv_iload_n hx hb dX2_payment_8 rfl (lv_at hl 2 rfl) ?_
  refine lv_iadd hx hb dX2_payment_9 ?_
  obtain ⟨gi, w⟩ := w
  refine va_iald hx hb hK hP 3 0 rfl rfl gi dX2_payment_10 ?_
  refine lv_istore_n (lv' := [(3, .int (z 2 (((6 : Int32) * i1) + i2).toNatClampNeg)), (0, .ref (a 0)), (1, .int i1), (2, .int i2)]) hx hb dX2_payment_11 rfl hl (by decide) rfl (fun ls hl => ?_)
  refine lv_iload_n hx hb dX2_payment_12 rfl (lv_at hl 0 rfl) ?_
  refine lv_aload_n hx hb dX2_payment_13 rfl (lv_at hl 1 rfl) ?_
  refine va_get (D := (dC, dI)) (ci := 2) (v := .ref (a 1)) (C := RX2) (T := TX2) (N := 34) hx hb hts in_X2 hown hK hP 0 rfl rfl 0 (by decide) (hts _ q458) (fun _ h9 => h9) rfl dX2_payment_14 ?_
  refine lv_iload_n hx hb dX2_payment_17 rfl (lv_at hl 2 rfl) ?_
  obtain ⟨gi, w⟩ := w
  refine va_iald hx hb hK hP 1 0 rfl rfl gi dX2_payment_18 ?_
  refine lv_icmp_ge (tgt := 26) hx hb dX2_payment_19 (by decide) (fun c => ?_) (fun c => ?_)
  · have w := And.left w c
    refine lv_aload_n hx hb dX2_payment_26 rfl (lv_at hl 1 rfl) ?_
    refine va_get (D := (dC, dI)) (ci := 2) (v := .ref (a 1)) (C := RX2) (T := TX2) (N := 34) hx hb hts in_X2 hown hK hP 0 rfl rfl 0 (by decide) (hts _ q458) (fun _ h9 => h9) rfl dX2_payment_27 ?_
    refine lv_iload_n hx hb dX2_payment_30 rfl (lv_at hl 2 rfl) ?_
    obtain ⟨gi, w⟩ := w
    refine va_iald hx hb hK hP 1 0 rfl rfl gi dX2_payment_31 ?_
    exact wk_X2_payment_L32 X hD  _ _ _ w _ _ _ hP hS (lv_sub hl [] rfl)
  · have w := And.right w c
    refine lv_iload_n hx hb dX2_payment_22 rfl (lv_at hl 0 rfl) ?_
    refine lv_goto (tgt := 32) hx hb dX2_payment_23 (by decide) ?_
    exact wk_X2_payment_L32 X hD  _ _ _ w _ _ _ hP hS (lv_sub hl [] rfl)
abbrev rm_X2_whyNotPay : Room := { frames := 1, cells := 0, slots := 0, locals := 23 }
theorem hd_X2_whyNotPay : yX2_whyNotPay.cls = RX2 ∧ yX2_whyNotPay.cls ≠ "java/lang/invoke/MethodHandle" ∧ yX2_whyNotPay.cls ≠ "java/lang/invoke/VarHandle" ∧ (parseMethodDescriptor yX2_whyNotPay.desc).map (fun d => d.parameters.length) = some 2 := by decide +kernel
set_option maxHeartbeats 4000000 in
set_option maxRecDepth 100000 in
theorem wk_X2_whyNotPay_L41 {p : Program} {l : Launch} {e : Env} {s : State} {m : MethodId} {args : Array Value} {below : List Frame} {meth : Method} {c : Code} {dC : Nat → ClassId} {dI : Nat → Nat → Nat} {ct : Nat → ClassId} {A : Nat → Prop} {a : Nat → Nat} {Post : Int32 → V → VL → Prop}   (X : CxW p s m args meth c cX2_whyNotPay 4 (some .int) RX2 dC dI ct A) (hD : ∀ (z : V) (g : VL), va_D A (MW a ct z g))  (is0 : Int32) (z : V) (g : VL) (w : wp_X2_whyNotPay_L41  Post  is0 z g) : ∀ (H : Heap) (locs : List Loc) (ls : Array Slot), va_P (dC, dI) vwCl (MW a ct z g) H → va_S A s.heap H locs → lv_has ls 4 [] → W p l e rm_X2_whyNotPay s m args below meth c H locs 0 0 (MQ below (va_Qi (fun (r : Int32) (u : V × VL) => Post r u.1 u.2) (fun (u : V × VL) t => WPos dC dI ct (MW a ct u.1 u.2) A t) A) args s 0 0 A) (F0 m 41 ls [.int is0]) := by
  intro H locs ls hP hS hl
  have X0 := X
  obtain ⟨⟨hx, hb, hml, hr, hlk, hown, hts⟩, hA, hK, hN⟩ := X0
  unfold wp_X2_whyNotPay_L41 at w
  exact W.iret (v := is0) hx hb hr (fun t ht hW => ⟨⟨is0, (z, g), rfl, w, by rw [ht]; exact hP, va_K.moved hW.alike hK, (hD _ _)⟩, hS.F ht⟩) hS.2.2 dX2_whyNotPay_41 hlk
set_option maxHeartbeats 4000000 in
set_option maxRecDepth 100000 in
theorem met_X2_whyNotPay (l : Launch) (dC : Nat → ClassId) (dI : Nat → Nat → Nat) (ct : Nat → ClassId) (a : Nat → Nat) (sz : Nat) {i1 : Int32} {i2 : Int32} {z : V} {g : VL} {Post : Int32 → V → VL → Prop} (w : wp_X2_whyNotPay i1 i2 z g Post) : Met l yX2_whyNotPay (ws_ yX2_whyNotPay cX2_whyNotPay 4 (some .int)) rm_X2_whyNotPay (va_Pc [.ref (a 0), .int i1, .int i2] (fun U => WPre dC dI ct (MW a ct z g) sz U)) ((fun A => (va_Qi (fun (r : Int32) (u : V × VL) => Post r u.1 u.2) (fun (u : V × VL) t => WPos dC dI ct (MW a ct u.1 u.2) A t) A)) (va_A (MW a ct z g) sz)) 0 0 (va_A (MW a ct z g) sz) := by
  refine open_W (fun A => (va_Qi (fun (r : Int32) (u : V × VL) => Post r u.1 u.2) (fun (u : V × VL) t => WPos dC dI ct (MW a ct u.1 u.2) A t) A)) (by decide) (Nat.le_of_ble_eq_true rfl) ?_
  intro p e s m args below meth c ls A X hD0 hP hS hl
  have X0 := X
  obtain ⟨⟨hx, hb, hml, hr, hlk, hown, hts⟩, hA, hK, hN⟩ := X0
  have hD : ∀ (z' : V) (g' : VL), va_D A (MW a ct z' g') := fun z' g' => va_D_addr hD0 rfl
  have hl : lv_has ls 4 [(0, .ref (a 0)), (1, .int i1), (2, .int i2)] := hl
  unfold wp_X2_whyNotPay at w
  have hS0 := hS
  refine lv_iload_n hx hb dX2_whyNotPay_0 rfl (lv_at hl 1 rfl) ?_
  refine lv_iload_n hx hb dX2_whyNotPay_1 rfl (lv_at hl 2 rfl) ?_
  refine lv_icmp_ne (tgt := 7) hx hb dX2_whyNotPay_2 (by decide) (fun c => ?_) (fun c => ?_)
  · have w := And.right w c
    refine lv_aload_n hx hb dX2_whyNotPay_7 rfl (lv_at hl 0 rfl) ?_
    refine lv_iload_n hx hb dX2_whyNotPay_8 rfl (lv_at hl 1 rfl) ?_
    refine lv_iload_n hx hb dX2_whyNotPay_9 rfl (lv_at hl 2 rfl) ?_
    refine va_calli (va_runV (As := [.int i1, .int i2]) (rest := []) ⟨hx, hb, hml, hown, hts⟩ (met_X2_payment l dC dI ct a _ w) (cwV 2 hts (lw_V q687 q689 qs26 q51 q690) rfl rfl rfl hd_X2_payment ⟨Nat.le_of_ble_eq_true rfl, Nat.le_of_ble_eq_true rfl⟩) (pre_V hK hP (hD _ _) hN (va_recv hK hP (ci := 2) (q0 := 0) rfl rfl)) rfl rfl hl.1 rfl (lv_room (Nat.le_of_ble_eq_true rfl)) dX2_whyNotPay_10 ⟨Nat.le_refl _, Nat.le_refl _⟩) hS (fun q _ h => x_free (hD _ _) hS hA q h) (x_free (hD _ _) hS hA) (fun r1 u t H locs ht hvm w hB hz hk hS => ?_)
    obtain ⟨z_1, g_1⟩ := u
    dsimp only at w
    have hP : va_P (dC, dI) vwCl (MW a ct z_1 g_1) H := post_P hB ht
    refine lv_istore_n (lv' := [(3, .int r1), (0, .ref (a 0)), (1, .int i1), (2, .int i2)]) hx hb dX2_whyNotPay_13 rfl hl (by decide) rfl (fun ls hl => ?_)
    refine lv_iload_n hx hb dX2_whyNotPay_14 rfl (lv_at hl 0 rfl) ?_
    refine lv_if_ne (tgt := 22) hx hb dX2_whyNotPay_15 (by decide) (fun c => ?_) (fun c => ?_)
    · have w := And.right w c
      refine lv_aload_n hx hb dX2_whyNotPay_22 rfl (lv_at hl 1 rfl) ?_
      refine va_get (D := (dC, dI)) (ci := 2) (v := .ref (a 1)) (C := RX2) (T := TX2) (N := 34) hx hb hts in_X2 hown hK hP 0 rfl rfl 0 (by decide) (hts _ q458) (fun _ h9 => h9) rfl dX2_whyNotPay_23 ?_
      refine lv_iload_n hx hb dX2_whyNotPay_26 rfl (lv_at hl 3 rfl) ?_
      obtain ⟨gi, w⟩ := w
      refine va_iald hx hb hK hP 1 0 rfl rfl gi dX2_whyNotPay_27 ?_
      refine lv_iload_n hx hb dX2_whyNotPay_28 rfl (lv_at hl 0 rfl) ?_
      refine lv_iadd hx hb dX2_whyNotPay_29 ?_
      refine lv_sipush (v := 9999) hx hb dX2_whyNotPay_30 (by decide) ?_
      refine lv_icmp_le (tgt := 40) hx hb dX2_whyNotPay_33 (by decide) (fun c => ?_) (fun c => ?_)
      · have w := And.left w c
        refine lv_iconst (v := 0) hx hb dX2_whyNotPay_40 (by decide) ?_
        exact wk_X2_whyNotPay_L41 X hD  _ _ _ w _ _ _ hP hS (lv_sub hl [] rfl)
      · have w := And.right w c
        refine lv_iconst (v := 5) hx hb dX2_whyNotPay_36 (by decide) ?_
        refine lv_goto (tgt := 41) hx hb dX2_whyNotPay_37 (by decide) ?_
        exact wk_X2_whyNotPay_L41 X hD  _ _ _ w _ _ _ hP hS (lv_sub hl [] rfl)
    · have w := And.left w c
      refine lv_iconst (v := 4) hx hb dX2_whyNotPay_18 (by decide) ?_
      refine lv_goto (tgt := 41) hx hb dX2_whyNotPay_19 (by decide) ?_
      exact wk_X2_whyNotPay_L41 X hD  _ _ _ w _ _ _ hP hS (lv_sub hl [] rfl)
  · have w := And.left w c
    refine lv_iconst (v := 1) hx hb dX2_whyNotPay_5 (by decide) ?_
    exact W.iret (v := (1 : Int32)) hx hb hr (fun t ht hW => ⟨⟨(1 : Int32), (z, g), rfl, w, by rw [ht]; exact hP, va_K.moved hW.alike hK, (hD _ _)⟩, hS.F ht⟩) hS.2.2 dX2_whyNotPay_6 hlk
abbrev rm_X2_whyNot : Room := { frames := 4, cells := 0, slots := 0, locals := 87 }
theorem hd_X2_whyNot : yX2_whyNot.cls = RX2 ∧ yX2_whyNot.cls ≠ "java/lang/invoke/MethodHandle" ∧ yX2_whyNot.cls ≠ "java/lang/invoke/VarHandle" ∧ (parseMethodDescriptor yX2_whyNot.desc).map (fun d => d.parameters.length) = some 3 := by decide +kernel
set_option maxHeartbeats 4000000 in
set_option maxRecDepth 100000 in
theorem wk_X2_whyNot_L56 {p : Program} {l : Launch} {e : Env} {s : State} {m : MethodId} {args : Array Value} {below : List Frame} {meth : Method} {c : Code} {dC : Nat → ClassId} {dI : Nat → Nat → Nat} {ct : Nat → ClassId} {A : Nat → Prop} {a : Nat → Nat} {Post : Int32 → V → VL → Prop}   (X : CxW p s m args meth c cX2_whyNot 4 (some .int) RX2 dC dI ct A) (hD : ∀ (z : V) (g : VL), va_D A (MW a ct z g))  (is0 : Int32) (z : V) (g : VL) (w : wp_X2_whyNot_L56  Post  is0 z g) : ∀ (H : Heap) (locs : List Loc) (ls : Array Slot), va_P (dC, dI) vwCl (MW a ct z g) H → va_S A s.heap H locs → lv_has ls 4 [] → W p l e rm_X2_whyNot s m args below meth c H locs 0 0 (MQ below (va_Qi (fun (r : Int32) (u : V × VL) => Post r u.1 u.2) (fun (u : V × VL) t => WPos dC dI ct (MW a ct u.1 u.2) A t) A) args s 0 0 A) (F0 m 56 ls [.int is0]) := by
  intro H locs ls hP hS hl
  have X0 := X
  obtain ⟨⟨hx, hb, hml, hr, hlk, hown, hts⟩, hA, hK, hN⟩ := X0
  unfold wp_X2_whyNot_L56 at w
  exact W.iret (v := is0) hx hb hr (fun t ht hW => ⟨⟨is0, (z, g), rfl, w, by rw [ht]; exact hP, va_K.moved hW.alike hK, (hD _ _)⟩, hS.F ht⟩) hS.2.2 dX2_whyNot_56 hlk
set_option maxHeartbeats 4000000 in
set_option maxRecDepth 100000 in
theorem wk_X2_whyNot_L87 {p : Program} {l : Launch} {e : Env} {s : State} {m : MethodId} {args : Array Value} {below : List Frame} {meth : Method} {c : Code} {dC : Nat → ClassId} {dI : Nat → Nat → Nat} {ct : Nat → ClassId} {A : Nat → Prop} {a : Nat → Nat} {Post : Int32 → V → VL → Prop}   (X : CxW p s m args meth c cX2_whyNot 4 (some .int) RX2 dC dI ct A) (hD : ∀ (z : V) (g : VL), va_D A (MW a ct z g))  (is0 : Int32) (z : V) (g : VL) (w : wp_X2_whyNot_L87  Post  is0 z g) : ∀ (H : Heap) (locs : List Loc) (ls : Array Slot), va_P (dC, dI) vwCl (MW a ct z g) H → va_S A s.heap H locs → lv_has ls 4 [] → W p l e rm_X2_whyNot s m args below meth c H locs 0 0 (MQ below (va_Qi (fun (r : Int32) (u : V × VL) => Post r u.1 u.2) (fun (u : V × VL) t => WPos dC dI ct (MW a ct u.1 u.2) A t) A) args s 0 0 A) (F0 m 87 ls [.int is0]) := by
  intro H locs ls hP hS hl
  have X0 := X
  obtain ⟨⟨hx, hb, hml, hr, hlk, hown, hts⟩, hA, hK, hN⟩ := X0
  unfold wp_X2_whyNot_L87 at w
  exact W.iret (v := is0) hx hb hr (fun t ht hW => ⟨⟨is0, (z, g), rfl, w, by rw [ht]; exact hP, va_K.moved hW.alike hK, (hD _ _)⟩, hS.F ht⟩) hS.2.2 dX2_whyNot_87 hlk
set_option maxHeartbeats 4000000 in
set_option maxRecDepth 100000 in
theorem wk_X2_whyNot_L82 {p : Program} {l : Launch} {e : Env} {s : State} {m : MethodId} {args : Array Value} {below : List Frame} {meth : Method} {c : Code} {dC : Nat → ClassId} {dI : Nat → Nat → Nat} {ct : Nat → ClassId} {A : Nat → Prop} {a : Nat → Nat} {Post : Int32 → V → VL → Prop}   (X : CxW p s m args meth c cX2_whyNot 4 (some .int) RX2 dC dI ct A) (hD : ∀ (z : V) (g : VL), va_D A (MW a ct z g))  (z : V) (g : VL) (w : wp_X2_whyNot_L82  Post  z g) : ∀ (H : Heap) (locs : List Loc) (ls : Array Slot), va_P (dC, dI) vwCl (MW a ct z g) H → va_S A s.heap H locs → lv_has ls 4 [] → W p l e rm_X2_whyNot s m args below meth c H locs 0 0 (MQ below (va_Qi (fun (r : Int32) (u : V × VL) => Post r u.1 u.2) (fun (u : V × VL) t => WPos dC dI ct (MW a ct u.1 u.2) A t) A) args s 0 0 A) (F0 m 82 ls []) := by
  intro H locs ls hP hS hl
  have X0 := X
  obtain ⟨⟨hx, hb, hml, hr, hlk, hown, hts⟩, hA, hK, hN⟩ := X0
  unfold wp_X2_whyNot_L82 at w
  refine lv_iconst (v := 5) hx hb dX2_whyNot_82 (by decide) ?_
  refine lv_goto (tgt := 87) hx hb dX2_whyNot_83 (by decide) ?_
  exact wk_X2_whyNot_L87 X hD  _ _ _ w _ _ _ hP hS (lv_sub hl [] rfl)
set_option maxHeartbeats 4000000 in
set_option maxRecDepth 100000 in
theorem wk_X2_whyNot_L121 {p : Program} {l : Launch} {e : Env} {s : State} {m : MethodId} {args : Array Value} {below : List Frame} {meth : Method} {c : Code} {dC : Nat → ClassId} {dI : Nat → Nat → Nat} {ct : Nat → ClassId} {A : Nat → Prop} {a : Nat → Nat} {Post : Int32 → V → VL → Prop}   (X : CxW p s m args meth c cX2_whyNot 4 (some .int) RX2 dC dI ct A) (hD : ∀ (z : V) (g : VL), va_D A (MW a ct z g))  (is0 : Int32) (z : V) (g : VL) (w : wp_X2_whyNot_L121  Post  is0 z g) : ∀ (H : Heap) (locs : List Loc) (ls : Array Slot), va_P (dC, dI) vwCl (MW a ct z g) H → va_S A s.heap H locs → lv_has ls 4 [] → W p l e rm_X2_whyNot s m args below meth c H locs 0 0 (MQ below (va_Qi (fun (r : Int32) (u : V × VL) => Post r u.1 u.2) (fun (u : V × VL) t => WPos dC dI ct (MW a ct u.1 u.2) A t) A) args s 0 0 A) (F0 m 121 ls [.int is0]) := by
  intro H locs ls hP hS hl
  have X0 := X
  obtain ⟨⟨hx, hb, hml, hr, hlk, hown, hts⟩, hA, hK, hN⟩ := X0
  unfold wp_X2_whyNot_L121 at w
  exact W.iret (v := is0) hx hb hr (fun t ht hW => ⟨⟨is0, (z, g), rfl, w, by rw [ht]; exact hP, va_K.moved hW.alike hK, (hD _ _)⟩, hS.F ht⟩) hS.2.2 dX2_whyNot_121 hlk
set_option maxHeartbeats 4000000 in
set_option maxRecDepth 100000 in
theorem wk_X2_whyNot_L167 {p : Program} {l : Launch} {e : Env} {s : State} {m : MethodId} {args : Array Value} {below : List Frame} {meth : Method} {c : Code} {dC : Nat → ClassId} {dI : Nat → Nat → Nat} {ct : Nat → ClassId} {A : Nat → Prop} {a : Nat → Nat} {Post : Int32 → V → VL → Prop}   (X : CxW p s m args meth c cX2_whyNot 4 (some .int) RX2 dC dI ct A) (hD : ∀ (z : V) (g : VL), va_D A (MW a ct z g))  (is0 : Int32) (z : V) (g : VL) (w : wp_X2_whyNot_L167  Post  is0 z g) : ∀ (H : Heap) (locs : List Loc) (ls : Array Slot), va_P (dC, dI) vwCl (MW a ct z g) H → va_S A s.heap H locs → lv_has ls 4 [] → W p l e rm_X2_whyNot s m args below meth c H locs 0 0 (MQ below (va_Qi (fun (r : Int32) (u : V × VL) => Post r u.1 u.2) (fun (u : V × VL) t => WPos dC dI ct (MW a ct u.1 u.2) A t) A) args s 0 0 A) (F0 m 167 ls [.int is0]) := by
  intro H locs ls hP hS hl
  have X0 := X
  obtain ⟨⟨hx, hb, hml, hr, hlk, hown, hts⟩, hA, hK, hN⟩ := X0
  unfold wp_X2_whyNot_L167 at w
  exact W.iret (v := is0) hx hb hr (fun t ht hW => ⟨⟨is0, (z, g), rfl, w, by rw [ht]; exact hP, va_K.moved hW.alike hK, (hD _ _)⟩, hS.F ht⟩) hS.2.2 dX2_whyNot_167 hlk
set_option maxHeartbeats 4000000 in
set_option maxRecDepth 100000 in
theorem wk_X2_whyNot_L183 {p : Program} {l : Launch} {e : Env} {s : State} {m : MethodId} {args : Array Value} {below : List Frame} {meth : Method} {c : Code} {dC : Nat → ClassId} {dI : Nat → Nat → Nat} {ct : Nat → ClassId} {A : Nat → Prop} {a : Nat → Nat} {Post : Int32 → V → VL → Prop}   (X : CxW p s m args meth c cX2_whyNot 4 (some .int) RX2 dC dI ct A) (hD : ∀ (z : V) (g : VL), va_D A (MW a ct z g))  (is0 : Int32) (z : V) (g : VL) (w : wp_X2_whyNot_L183  Post  is0 z g) : ∀ (H : Heap) (locs : List Loc) (ls : Array Slot), va_P (dC, dI) vwCl (MW a ct z g) H → va_S A s.heap H locs → lv_has ls 4 [] → W p l e rm_X2_whyNot s m args below meth c H locs 0 0 (MQ below (va_Qi (fun (r : Int32) (u : V × VL) => Post r u.1 u.2) (fun (u : V × VL) t => WPos dC dI ct (MW a ct u.1 u.2) A t) A) args s 0 0 A) (F0 m 183 ls [.int is0]) := by
  intro H locs ls hP hS hl
  have X0 := X
  obtain ⟨⟨hx, hb, hml, hr, hlk, hown, hts⟩, hA, hK, hN⟩ := X0
  unfold wp_X2_whyNot_L183 at w
  exact W.iret (v := is0) hx hb hr (fun t ht hW => ⟨⟨is0, (z, g), rfl, w, by rw [ht]; exact hP, va_K.moved hW.alike hK, (hD _ _)⟩, hS.F ht⟩) hS.2.2 dX2_whyNot_183 hlk
set_option maxHeartbeats 4000000 in
set_option maxRecDepth 100000 in
theorem met_X2_whyNot (l : Launch) (dC : Nat → ClassId) (dI : Nat → Nat → Nat) (ct : Nat → ClassId) (a : Nat → Nat) (sz : Nat) {i1 : Int32} {i2 : Int32} {i3 : Int32} {z : V} {g : VL} {Post : Int32 → V → VL → Prop} (w : wp_X2_whyNot i1 i2 i3 z g Post) : Met l yX2_whyNot (ws_ yX2_whyNot cX2_whyNot 4 (some .int)) rm_X2_whyNot (va_Pc [.ref (a 0), .int i1, .int i2, .int i3] (fun U => WPre dC dI ct (MW a ct z g) sz U)) ((fun A => (va_Qi (fun (r : Int32) (u : V × VL) => Post r u.1 u.2) (fun (u : V × VL) t => WPos dC dI ct (MW a ct u.1 u.2) A t) A)) (va_A (MW a ct z g) sz)) 0 0 (va_A (MW a ct z g) sz) := by
  refine open_W (fun A => (va_Qi (fun (r : Int32) (u : V × VL) => Post r u.1 u.2) (fun (u : V × VL) t => WPos dC dI ct (MW a ct u.1 u.2) A t) A)) (by decide) (Nat.le_of_ble_eq_true rfl) ?_
  intro p e s m args below meth c ls A X hD0 hP hS hl
  have X0 := X
  obtain ⟨⟨hx, hb, hml, hr, hlk, hown, hts⟩, hA, hK, hN⟩ := X0
  have hD : ∀ (z' : V) (g' : VL), va_D A (MW a ct z' g') := fun z' g' => va_D_addr hD0 rfl
  have hl : lv_has ls 4 [(0, .ref (a 0)), (1, .int i1), (2, .int i2), (3, .int i3)] := hl
  unfold wp_X2_whyNot at w
  have hS0 := hS
  refine lv_iload_n hx hb dX2_whyNot_0 rfl (lv_at hl 1 rfl) ?_
  by_cases c1_0 : i1 = 0
  · have w := And.left w c1_0
    refine lv_tableIn (tgt := 40) hx hb dX2_whyNot_1 (by rw [c1_0]; decide) (by rw [c1_0]; decide) (by rw [c1_0]; rfl) (by decide) ?_
    refine lv_aload_n hx hb dX2_whyNot_40 rfl (lv_at hl 0 rfl) ?_
    refine va_get (D := (dC, dI)) (ci := 2) (v := .int (z 19 0)) (C := RX2) (T := TX2) (N := 34) hx hb hts in_X2 hown hK hP 0 rfl rfl 5 (by decide) (hts _ q463) (fun _ h9 => h9) rfl dX2_whyNot_41 ?_
    refine lv_iload_n hx hb dX2_whyNot_44 rfl (lv_at hl 3 rfl) ?_
    refine lv_iadd hx hb dX2_whyNot_45 ?_
    refine lv_ldc (v := 99999) hx hb hown (hts _ q658) dX2_whyNot_46 ?_
    refine lv_icmp_le (tgt := 55) hx hb dX2_whyNot_48 (by decide) (fun c => ?_) (fun c => ?_)
    · have w := And.left w c
      refine lv_iconst (v := 0) hx hb dX2_whyNot_55 (by decide) ?_
      exact wk_X2_whyNot_L56 X hD  _ _ _ w _ _ _ hP hS (lv_sub hl [] rfl)
    · have w := And.right w c
      refine lv_iconst (v := 5) hx hb dX2_whyNot_51 (by decide) ?_
      refine lv_goto (tgt := 56) hx hb dX2_whyNot_52 (by decide) ?_
      exact wk_X2_whyNot_L56 X hD  _ _ _ w _ _ _ hP hS (lv_sub hl [] rfl)
  have w := And.right w c1_0
  by_cases c1_1 : i1 = 1
  · have w := And.left w c1_1
    refine lv_tableIn (tgt := 57) hx hb dX2_whyNot_1 (by rw [c1_1]; decide) (by rw [c1_1]; decide) (by rw [c1_1]; rfl) (by decide) ?_
    refine lv_aload_n hx hb dX2_whyNot_57 rfl (lv_at hl 0 rfl) ?_
    refine va_get (D := (dC, dI)) (ci := 2) (v := .ref (a 1)) (C := RX2) (T := TX2) (N := 34) hx hb hts in_X2 hown hK hP 0 rfl rfl 0 (by decide) (hts _ q458) (fun _ h9 => h9) rfl dX2_whyNot_58 ?_
    refine lv_iload_n hx hb dX2_whyNot_61 rfl (lv_at hl 2 rfl) ?_
    obtain ⟨gi, w⟩ := w
    refine va_iald hx hb hK hP 1 0 rfl rfl gi dX2_whyNot_62 ?_
    refine lv_iload_n hx hb dX2_whyNot_63 rfl (lv_at hl 3 rfl) ?_
    refine lv_iadd hx hb dX2_whyNot_64 ?_
    refine lv_sipush (v := 9999) hx hb dX2_whyNot_65 (by decide) ?_
    refine lv_icmp_gt (tgt := 82) hx hb dX2_whyNot_68 (by decide) (fun c => ?_) (fun c => ?_)
    · have w := And.left w c
      exact wk_X2_whyNot_L82 X hD  _ _ w _ _ _ hP hS (lv_sub hl [] rfl)
    · have w := And.right w c
      refine lv_aload_n hx hb dX2_whyNot_71 rfl (lv_at hl 0 rfl) ?_
      refine va_get (D := (dC, dI)) (ci := 2) (v := .int (z 19 1)) (C := RX2) (T := TX2) (N := 34) hx hb hts in_X2 hown hK hP 0 rfl rfl 6 (by decide) (hts _ q464) (fun _ h9 => h9) rfl dX2_whyNot_72 ?_
      refine lv_iload_n hx hb dX2_whyNot_75 rfl (lv_at hl 3 rfl) ?_
      refine lv_iadd hx hb dX2_whyNot_76 ?_
      refine lv_ldc (v := 99999) hx hb hown (hts _ q658) dX2_whyNot_77 ?_
      refine lv_icmp_le (tgt := 86) hx hb dX2_whyNot_79 (by decide) (fun c => ?_) (fun c => ?_)
      · have w := And.left w c
        refine lv_iconst (v := 0) hx hb dX2_whyNot_86 (by decide) ?_
        exact wk_X2_whyNot_L87 X hD  _ _ _ w _ _ _ hP hS (lv_sub hl [] rfl)
      · have w := And.right w c
        exact wk_X2_whyNot_L82 X hD  _ _ w _ _ _ hP hS (lv_sub hl [] rfl)
  have w := And.right w c1_1
  by_cases c1_2 : i1 = 2
  · have w := And.left w c1_2
    refine lv_tableIn (tgt := 88) hx hb dX2_whyNot_1 (by rw [c1_2]; decide) (by rw [c1_2]; decide) (by rw [c1_2]; rfl) (by decide) ?_
    refine lv_aload_n hx hb dX2_whyNot_88 rfl (lv_at hl 0 rfl) ?_
    refine va_get (D := (dC, dI)) (ci := 2) (v := .ref (a 5)) (C := RX2) (T := TX2) (N := 34) hx hb hts in_X2 hown hK hP 0 rfl rfl 4 (by decide) (hts _ q462) (fun _ h9 => h9) rfl dX2_whyNot_89 ?_
    refine lv_iload_n hx hb dX2_whyNot_92 rfl (lv_at hl 3 rfl) ?_
    obtain ⟨gi, w⟩ := w
    refine va_iald hx hb hK hP 5 0 rfl rfl gi dX2_whyNot_93 ?_
    refine lv_if_lt (tgt := 101) hx hb dX2_whyNot_94 (by decide) (fun c => ?_) (fun c => ?_)
    · have w := And.left w c
      refine lv_aload_n hx hb dX2_whyNot_101 rfl (lv_at hl 0 rfl) ?_
      refine va_get (D := (dC, dI)) (ci := 2) (v := .ref (a 1)) (C := RX2) (T := TX2) (N := 34) hx hb hts in_X2 hown hK hP 0 rfl rfl 0 (by decide) (hts _ q458) (fun _ h9 => h9) rfl dX2_whyNot_102 ?_
      refine lv_iload_n hx hb dX2_whyNot_105 rfl (lv_at hl 2 rfl) ?_
      obtain ⟨gi, w⟩ := w
      refine va_iald hx hb hK hP 1 0 rfl rfl gi dX2_whyNot_106 ?_
      refine lv_aload_n hx hb dX2_whyNot_107 rfl (lv_at hl 0 rfl) ?_
      refine va_get (D := (dC, dI)) (ci := 2) (v := .ref (a 4)) (C := RX2) (T := TX2) (N := 34) hx hb hts in_X2 hown hK hP 0 rfl rfl 3 (by decide) (hts _ q461) (fun _ h9 => h9) rfl dX2_whyNot_108 ?_
      refine lv_iload_n hx hb dX2_whyNot_111 rfl (lv_at hl 3 rfl) ?_
      obtain ⟨gi, w⟩ := w
      refine va_iald hx hb hK hP 4 0 rfl rfl gi dX2_whyNot_112 ?_
      refine lv_icmp_ge (tgt := 120) hx hb dX2_whyNot_113 (by decide) (fun c => ?_) (fun c => ?_)
      · have w := And.left w c
        refine lv_iconst (v := 0) hx hb dX2_whyNot_120 (by decide) ?_
        exact wk_X2_whyNot_L121 X hD  _ _ _ w _ _ _ hP hS (lv_sub hl [] rfl)
      · have w := And.right w c
        refine lv_iconst (v := 3) hx hb dX2_whyNot_116 (by decide) ?_
        refine lv_goto (tgt := 121) hx hb dX2_whyNot_117 (by decide) ?_
        exact wk_X2_whyNot_L121 X hD  _ _ _ w _ _ _ hP hS (lv_sub hl [] rfl)
    · have w := And.right w c
      refine lv_iconst (v := 2) hx hb dX2_whyNot_97 (by decide) ?_
      refine lv_goto (tgt := 121) hx hb dX2_whyNot_98 (by decide) ?_
      exact wk_X2_whyNot_L121 X hD  _ _ _ w _ _ _ hP hS (lv_sub hl [] rfl)
  have w := And.right w c1_2
  by_cases c1_3 : i1 = 3
  · have w := And.left w c1_3
    refine lv_tableIn (tgt := 122) hx hb dX2_whyNot_1 (by rw [c1_3]; decide) (by rw [c1_3]; decide) (by rw [c1_3]; rfl) (by decide) ?_
    refine lv_aload_n hx hb dX2_whyNot_122 rfl (lv_at hl 0 rfl) ?_
    refine lv_iload_n hx hb dX2_whyNot_123 rfl (lv_at hl 2 rfl) ?_
    refine lv_iload_n hx hb dX2_whyNot_124 rfl (lv_at hl 3 rfl) ?_
    refine va_calli (va_runV (As := [.int i2, .int i3]) (rest := []) ⟨hx, hb, hml, hown, hts⟩ (met_X2_whyNotChange l dC dI ct a _ w) (cwV 2 hts (lw_V q659 q661 qs20 q51 q662) rfl rfl rfl hd_X2_whyNotChange ⟨Nat.le_of_ble_eq_true rfl, Nat.le_of_ble_eq_true rfl⟩) (pre_V hK hP (hD _ _) hN (va_recv hK hP (ci := 2) (q0 := 0) rfl rfl)) rfl rfl hl.1 rfl (lv_room (Nat.le_of_ble_eq_true rfl)) dX2_whyNot_125 ⟨Nat.le_refl _, Nat.le_refl _⟩) hS (fun q _ h => x_free (hD _ _) hS hA q h) (x_free (hD _ _) hS hA) (fun r2 u t H locs ht hvm w hB hz hk hS => ?_)
    obtain ⟨z_2, g_2⟩ := u
    dsimp only at w
    have hP : va_P (dC, dI) vwCl (MW a ct z_2 g_2) H := post_P hB ht
    exact W.iret (v := r2) hx hb hr (fun t ht hW => ⟨⟨r2, (z_2, g_2), rfl, w, by rw [ht]; exact hP, va_K.moved hW.alike hK, (hD _ _)⟩, hS.F ht⟩) hS.2.2 dX2_whyNot_128 hlk
  have w := And.right w c1_3
  by_cases c1_4 : i1 = 4
  · have w := And.left w c1_4
    refine lv_tableIn (tgt := 129) hx hb dX2_whyNot_1 (by rw [c1_4]; decide) (by rw [c1_4]; decide) (by rw [c1_4]; rfl) (by decide) ?_
    refine lv_aload_n hx hb dX2_whyNot_129 rfl (lv_at hl 0 rfl) ?_
    refine lv_iload_n hx hb dX2_whyNot_130 rfl (lv_at hl 2 rfl) ?_
    refine lv_iload_n hx hb dX2_whyNot_131 rfl (lv_at hl 3 rfl) ?_
    refine va_calli (va_runV (As := [.int i2, .int i3]) (rest := []) ⟨hx, hb, hml, hown, hts⟩ (met_X2_whyNotPay l dC dI ct a _ w) (cwV 2 hts (lw_V q683 q685 qs25 q51 q686) rfl rfl rfl hd_X2_whyNotPay ⟨Nat.le_of_ble_eq_true rfl, Nat.le_of_ble_eq_true rfl⟩) (pre_V hK hP (hD _ _) hN (va_recv hK hP (ci := 2) (q0 := 0) rfl rfl)) rfl rfl hl.1 rfl (lv_room (Nat.le_of_ble_eq_true rfl)) dX2_whyNot_132 ⟨Nat.le_refl _, Nat.le_refl _⟩) hS (fun q _ h => x_free (hD _ _) hS hA q h) (x_free (hD _ _) hS hA) (fun r3 u t H locs ht hvm w hB hz hk hS => ?_)
    obtain ⟨z_3, g_3⟩ := u
    dsimp only at w
    have hP : va_P (dC, dI) vwCl (MW a ct z_3 g_3) H := post_P hB ht
    exact W.iret (v := r3) hx hb hr (fun t ht hW => ⟨⟨r3, (z_3, g_3), rfl, w, by rw [ht]; exact hP, va_K.moved hW.alike hK, (hD _ _)⟩, hS.F ht⟩) hS.2.2 dX2_whyNot_135 hlk
  have w := And.right w c1_4
  by_cases c1_5 : i1 = 5
  · have w := And.left w c1_5
    refine lv_tableIn (tgt := 136) hx hb dX2_whyNot_1 (by rw [c1_5]; decide) (by rw [c1_5]; decide) (by rw [c1_5]; rfl) (by decide) ?_
    refine lv_aload_n hx hb dX2_whyNot_136 rfl (lv_at hl 0 rfl) ?_
    refine va_get (D := (dC, dI)) (ci := 2) (v := .int (z 19 0)) (C := RX2) (T := TX2) (N := 34) hx hb hts in_X2 hown hK hP 0 rfl rfl 5 (by decide) (hts _ q463) (fun _ h9 => h9) rfl dX2_whyNot_137 ?_
    refine lv_iload_n hx hb dX2_whyNot_140 rfl (lv_at hl 3 rfl) ?_
    refine lv_icmp_ge (tgt := 148) hx hb dX2_whyNot_141 (by decide) (fun c => ?_) (fun c => ?_)
    · have w := And.left w c
      refine lv_aload_n hx hb dX2_whyNot_148 rfl (lv_at hl 0 rfl) ?_
      refine va_get (D := (dC, dI)) (ci := 2) (v := .ref (a 1)) (C := RX2) (T := TX2) (N := 34) hx hb hts in_X2 hown hK hP 0 rfl rfl 0 (by decide) (hts _ q458) (fun _ h9 => h9) rfl dX2_whyNot_149 ?_
      refine lv_iload_n hx hb dX2_whyNot_152 rfl (lv_at hl 2 rfl) ?_
      obtain ⟨gi, w⟩ := w
      refine va_iald hx hb hK hP 1 0 rfl rfl gi dX2_whyNot_153 ?_
      refine lv_iload_n hx hb dX2_whyNot_154 rfl (lv_at hl 3 rfl) ?_
      refine lv_iadd hx hb dX2_whyNot_155 ?_
      refine lv_sipush (v := 9999) hx hb dX2_whyNot_156 (by decide) ?_
      refine lv_icmp_le (tgt := 166) hx hb dX2_whyNot_159 (by decide) (fun c => ?_) (fun c => ?_)
      · have w := And.left w c
        refine lv_iconst (v := 0) hx hb dX2_whyNot_166 (by decide) ?_
        exact wk_X2_whyNot_L167 X hD  _ _ _ w _ _ _ hP hS (lv_sub hl [] rfl)
      · have w := And.right w c
        refine lv_iconst (v := 5) hx hb dX2_whyNot_162 (by decide) ?_
        refine lv_goto (tgt := 167) hx hb dX2_whyNot_163 (by decide) ?_
        exact wk_X2_whyNot_L167 X hD  _ _ _ w _ _ _ hP hS (lv_sub hl [] rfl)
    · have w := And.right w c
      refine lv_iconst (v := 3) hx hb dX2_whyNot_144 (by decide) ?_
      refine lv_goto (tgt := 167) hx hb dX2_whyNot_145 (by decide) ?_
      exact wk_X2_whyNot_L167 X hD  _ _ _ w _ _ _ hP hS (lv_sub hl [] rfl)
  have w := And.right w c1_5
  refine lv_tableOut (tgt := 168) hx hb dX2_whyNot_1 (by have h0 := lv_neT c1_0 (a := 0) (by decide); have h1 := lv_neT c1_1 (a := 1) (by decide); have h2 := lv_neT c1_2 (a := 2) (by decide); have h3 := lv_neT c1_3 (a := 3) (by decide); have h4 := lv_neT c1_4 (a := 4) (by decide); have h5 := lv_neT c1_5 (a := 5) (by decide); omega) (by decide) ?_
  refine lv_aload_n hx hb dX2_whyNot_168 rfl (lv_at hl 0 rfl) ?_
  refine va_get (D := (dC, dI)) (ci := 2) (v := .int (z 19 3)) (C := RX2) (T := TX2) (N := 34) hx hb hts in_X2 hown hK hP 0 rfl rfl 8 (by decide) (hts _ q466) (fun _ h9 => h9) rfl dX2_whyNot_169 ?_
  refine lv_bipush (v := 99) hx hb dX2_whyNot_172 (by decide) ?_
  refine lv_icmp_ne (tgt := 182) hx hb dX2_whyNot_174 (by decide) (fun c => ?_) (fun c => ?_)
  · have w := And.right w c
    refine lv_iconst (v := 0) hx hb dX2_whyNot_182 (by decide) ?_
    exact wk_X2_whyNot_L183 X hD  _ _ _ w _ _ _ hP hS (lv_sub hl [] rfl)
  · have w := And.left w c
    refine lv_bipush (v := 6) hx hb dX2_whyNot_177 (by decide) ?_
    refine lv_goto (tgt := 183) hx hb dX2_whyNot_179 (by decide) ?_
    exact wk_X2_whyNot_L183 X hD  _ _ _ w _ _ _ hP hS (lv_sub hl [] rfl)
abbrev rm_X2_buy : Room := { frames := 0, cells := 0, slots := 0, locals := 0 }
theorem hd_X2_buy : yX2_buy.cls = RX2 ∧ yX2_buy.cls ≠ "java/lang/invoke/MethodHandle" ∧ yX2_buy.cls ≠ "java/lang/invoke/VarHandle" ∧ (parseMethodDescriptor yX2_buy.desc).map (fun d => d.parameters.length) = some 2 := by decide +kernel
set_option maxHeartbeats 4000000 in
set_option maxRecDepth 100000 in
theorem met_X2_buy (l : Launch) (dC : Nat → ClassId) (dI : Nat → Nat → Nat) (ct : Nat → ClassId) (a : Nat → Nat) (sz : Nat) {i1 : Int32} {i2 : Int32} {z : V} {g : VL} {Post : V → VL → Prop} (w : wp_X2_buy i1 i2 z g Post) : Met l yX2_buy (ws_ yX2_buy cX2_buy 3 none) rm_X2_buy (va_Pc [.ref (a 0), .int i1, .int i2] (fun U => WPre dC dI ct (MW a ct z g) sz U)) ((fun A => (va_Qv (fun (u : V × VL) => Post u.1 u.2) (fun (u : V × VL) t => WPos dC dI ct (MW a ct u.1 u.2) A t) A)) (va_A (MW a ct z g) sz)) 0 0 (va_A (MW a ct z g) sz) := by
  refine open_W (fun A => (va_Qv (fun (u : V × VL) => Post u.1 u.2) (fun (u : V × VL) t => WPos dC dI ct (MW a ct u.1 u.2) A t) A)) (by decide) (Nat.le_of_ble_eq_true rfl) ?_
  intro p e s m args below meth c ls A X hD0 hP hS hl
  have X0 := X
  obtain ⟨⟨hx, hb, hml, hr, hlk, hown, hts⟩, hA, hK, hN⟩ := X0
  have hD : ∀ (z' : V) (g' : VL), va_D A (MW a ct z' g') := fun z' g' => va_D_addr hD0 rfl
  have hl : lv_has ls 3 [(0, .ref (a 0)), (1, .int i1), (2, .int i2)] := hl
  unfold wp_X2_buy at w
  have hS0 := hS
  refine lv_aload_n hx hb dX2_buy_0 rfl (lv_at hl 0 rfl) ?_
  refine va_get (D := (dC, dI)) (ci := 2) (v := .ref (a 5)) (C := RX2) (T := TX2) (N := 34) hx hb hts in_X2 hown hK hP 0 rfl rfl 4 (by decide) (hts _ q462) (fun _ h9 => h9) rfl dX2_buy_1 ?_
  refine lv_iload_n hx hb dX2_buy_4 rfl (lv_at hl 2 rfl) ?_
  refine lv_iload_n hx hb dX2_buy_5 rfl (lv_at hl 1 rfl) ?_
  obtain ⟨gi, w⟩ := w
  refine va_iast hx hb hK hP (hD _ _) hS 5 0 rfl rfl gi dX2_buy_6 (fun H locs hP _ hS => ?_)
  have hP : va_P (dC, dI) vwCl (MW a ct (up2 z 4 i2.toNatClampNeg i1) g) H := MW_u_z_4 hP
  refine lv_aload_n hx hb dX2_buy_7 rfl (lv_at hl 0 rfl) ?_
  refine va_get (D := (dC, dI)) (ci := 2) (v := .ref (a 1)) (C := RX2) (T := TX2) (N := 34) hx hb hts in_X2 hown hK hP 0 rfl rfl 0 (by decide) (hts _ q458) (fun _ h9 => h9) rfl dX2_buy_8 ?_
  refine lv_iload_n hx hb dX2_buy_11 rfl (lv_at hl 1 rfl) ?_
  refine lv_dup2_11 hx hb dX2_buy_12 rfl rfl ?_
  obtain ⟨gi, w⟩ := w
  refine va_iald hx hb hK hP 1 0 rfl rfl gi dX2_buy_13 ?_
  refine lv_aload_n hx hb dX2_buy_14 rfl (lv_at hl 0 rfl) ?_
  refine va_get (D := (dC, dI)) (ci := 2) (v := .ref (a 4)) (C := RX2) (T := TX2) (N := 34) hx hb hts in_X2 hown hK hP 0 rfl rfl 3 (by decide) (hts _ q461) (fun _ h9 => h9) rfl dX2_buy_15 ?_
  refine lv_iload_n hx hb dX2_buy_18 rfl (lv_at hl 2 rfl) ?_
  obtain ⟨gi, w⟩ := w
  refine va_iald hx hb hK hP 4 0 rfl rfl gi dX2_buy_19 ?_
  refine lv_isub hx hb dX2_buy_20 ?_
  obtain ⟨gi, w⟩ := w
  refine va_iast hx hb hK hP (hD _ _) hS 1 0 rfl rfl gi dX2_buy_21 (fun H locs hP _ hS => ?_)
  have hP : va_P (dC, dI) vwCl (MW a ct (up2 (up2 z 4 i2.toNatClampNeg i1) 0 i1.toNatClampNeg ((z 0 i1.toNatClampNeg) - (z 3 i2.toNatClampNeg))) g) H := MW_u_z_0 hP
  refine lv_aload_n hx hb dX2_buy_22 rfl (lv_at hl 0 rfl) ?_
  refine lv_dup hx hb dX2_buy_23 rfl ?_
  refine va_get (D := (dC, dI)) (ci := 2) (v := .int (z 19 2)) (C := RX2) (T := TX2) (N := 34) hx hb hts in_X2 hown hK hP 0 rfl rfl 7 (by decide) (hts _ q465) (fun _ h9 => h9) rfl dX2_buy_24 ?_
  refine lv_aload_n hx hb dX2_buy_27 rfl (lv_at hl 0 rfl) ?_
  refine va_get (D := (dC, dI)) (ci := 2) (v := .ref (a 4)) (C := RX2) (T := TX2) (N := 34) hx hb hts in_X2 hown hK hP 0 rfl rfl 3 (by decide) (hts _ q461) (fun _ h9 => h9) rfl dX2_buy_28 ?_
  refine lv_iload_n hx hb dX2_buy_31 rfl (lv_at hl 2 rfl) ?_
  obtain ⟨gi, w⟩ := w
  refine va_iald hx hb hK hP 4 0 rfl rfl gi dX2_buy_32 ?_
  refine lv_iadd hx hb dX2_buy_33 ?_
  refine va_put (D := (dC, dI)) (ci := 2) (v := .int ((z 19 2) + (z 3 i2.toNatClampNeg))) (ty := .int) (C := RX2) (T := TX2) (N := 34) hx hb hts in_X2 tyX2 tyX2_ok nmX2 hown hK hP (hD _ _) hS 0 rfl rfl 7 (by decide) (hts _ q465) (fun _ h9 => h9) rfl (by decide +kernel) rfl rfl (Nat.le_of_ble_eq_true rfl) dX2_buy_34 (fun H locs hP _ hS => ?_)
  have hP : va_P (dC, dI) vwCl (MW a ct (up2 (up2 (up2 z 4 i2.toNatClampNeg i1) 0 i1.toNatClampNeg ((z 0 i1.toNatClampNeg) - (z 3 i2.toNatClampNeg))) 19 2 ((z 19 2) + (z 3 i2.toNatClampNeg))) g) H := MW_s_z_2 hP
  exact W.vret hx hb hr (fun t ht hW => ⟨⟨((up2 (up2 (up2 z 4 i2.toNatClampNeg i1) 0 i1.toNatClampNeg ((z 0 i1.toNatClampNeg) - (z 3 i2.toNatClampNeg))) 19 2 ((z 19 2) + (z 3 i2.toNatClampNeg))), g), rfl, w, by rw [ht]; exact hP, va_K.moved hW.alike hK, (hD _ _)⟩, hS.F ht⟩) hS.2.2 dX2_buy_37 hlk
abbrev rm_X2_swap : Room := { frames := 3, cells := 0, slots := 0, locals := 65 }
theorem hd_X2_swap : yX2_swap.cls = RX2 ∧ yX2_swap.cls ≠ "java/lang/invoke/MethodHandle" ∧ yX2_swap.cls ≠ "java/lang/invoke/VarHandle" ∧ (parseMethodDescriptor yX2_swap.desc).map (fun d => d.parameters.length) = some 2 := by decide +kernel
set_option maxHeartbeats 4000000 in
set_option maxRecDepth 100000 in
theorem met_X2_swap (l : Launch) (dC : Nat → ClassId) (dI : Nat → Nat → Nat) (ct : Nat → ClassId) (a : Nat → Nat) (sz : Nat) {i1 : Int32} {i2 : Int32} {z : V} {g : VL} {Post : V → VL → Prop} (w : wp_X2_swap i1 i2 z g Post) : Met l yX2_swap (ws_ yX2_swap cX2_swap 3 none) rm_X2_swap (va_Pc [.ref (a 0), .int i1, .int i2] (fun U => WPre dC dI ct (MW a ct z g) sz U)) ((fun A => (va_Qv (fun (u : V × VL) => Post u.1 u.2) (fun (u : V × VL) t => WPos dC dI ct (MW a ct u.1 u.2) A t) A)) (va_A (MW a ct z g) sz)) 0 0 (va_A (MW a ct z g) sz) := by
  refine open_W (fun A => (va_Qv (fun (u : V × VL) => Post u.1 u.2) (fun (u : V × VL) t => WPos dC dI ct (MW a ct u.1 u.2) A t) A)) (by decide) (Nat.le_of_ble_eq_true rfl) ?_
  intro p e s m args below meth c ls A X hD0 hP hS hl
  have X0 := X
  obtain ⟨⟨hx, hb, hml, hr, hlk, hown, hts⟩, hA, hK, hN⟩ := X0
  have hD : ∀ (z' : V) (g' : VL), va_D A (MW a ct z' g') := fun z' g' => va_D_addr hD0 rfl
  have hl : lv_has ls 3 [(0, .ref (a 0)), (1, .int i1), (2, .int i2)] := hl
  unfold wp_X2_swap at w
  have hS0 := hS
  refine lv_aload_n hx hb dX2_swap_0 rfl (lv_at hl 0 rfl) ?_
  refine va_get (D := (dC, dI)) (ci := 2) (v := .ref (a 2)) (C := RX2) (T := TX2) (N := 34) hx hb hts in_X2 hown hK hP 0 rfl rfl 1 (by decide) (hts _ q459) (fun _ h9 => h9) rfl dX2_swap_1 ?_
  refine lv_iload_n hx hb dX2_swap_4 rfl (lv_at hl 1 rfl) ?_
  refine lv_dup2_11 hx hb dX2_swap_5 rfl rfl ?_
  obtain ⟨gi, w⟩ := w
  refine va_iald hx hb hK hP 2 0 rfl rfl gi dX2_swap_6 ?_
  refine lv_aload_n hx hb dX2_swap_7 rfl (lv_at hl 0 rfl) ?_
  refine lv_iload_n hx hb dX2_swap_8 rfl (lv_at hl 2 rfl) ?_
  refine va_calli (va_runV (As := [.int i2]) (rest := [.int (z 1 i1.toNatClampNeg), .int i1, .ref (a 2)]) ⟨hx, hb, hml, hown, hts⟩ (met_X2_worth l dC dI ct a _ w) (cwV 1 hts (lw_V q663 q665 qs21 q51 q666) rfl rfl rfl hd_X2_worth ⟨Nat.le_of_ble_eq_true rfl, Nat.le_of_ble_eq_true rfl⟩) (pre_V hK hP (hD _ _) hN (va_recv hK hP (ci := 2) (q0 := 0) rfl rfl)) rfl rfl hl.1 rfl (lv_room (Nat.le_of_ble_eq_true rfl)) dX2_swap_9 ⟨Nat.le_refl _, Nat.le_refl _⟩) hS (fun q _ h => x_free (hD _ _) hS hA q h) (x_free (hD _ _) hS hA) (fun r1 u t H locs ht hvm w hB hz hk hS => ?_)
  obtain ⟨z_1, g_1⟩ := u
  dsimp only at w
  have hP : va_P (dC, dI) vwCl (MW a ct z_1 g_1) H := post_P hB ht
  refine lv_iadd hx hb dX2_swap_12 ?_
  obtain ⟨gi, w⟩ := w
  refine va_iast hx hb hK hP (hD _ _) hS 2 0 rfl rfl gi dX2_swap_13 (fun H locs hP _ hS => ?_)
  have hP : va_P (dC, dI) vwCl (MW a ct (up2 z_1 1 i1.toNatClampNeg ((z 1 i1.toNatClampNeg) + r1)) g_1) H := MW_u_z_1 hP
  refine lv_aload_n hx hb dX2_swap_14 rfl (lv_at hl 0 rfl) ?_
  refine va_get (D := (dC, dI)) (ci := 2) (v := .ref (a 1)) (C := RX2) (T := TX2) (N := 34) hx hb hts in_X2 hown hK hP 0 rfl rfl 0 (by decide) (hts _ q458) (fun _ h9 => h9) rfl dX2_swap_15 ?_
  refine lv_iload_n hx hb dX2_swap_18 rfl (lv_at hl 1 rfl) ?_
  refine lv_dup2_11 hx hb dX2_swap_19 rfl rfl ?_
  obtain ⟨gi, w⟩ := w
  refine va_iald hx hb hK hP 1 0 rfl rfl gi dX2_swap_20 ?_
  refine lv_iload_n hx hb dX2_swap_21 rfl (lv_at hl 2 rfl) ?_
  refine lv_isub hx hb dX2_swap_22 ?_
  obtain ⟨gi, w⟩ := w
  refine va_iast hx hb hK hP (hD _ _) hS 1 0 rfl rfl gi dX2_swap_23 (fun H locs hP _ hS => ?_)
  have hP : va_P (dC, dI) vwCl (MW a ct (up2 (up2 z_1 1 i1.toNatClampNeg ((z 1 i1.toNatClampNeg) + r1)) 0 i1.toNatClampNeg ((z_1 0 i1.toNatClampNeg) - i2)) g_1) H := MW_u_z_0 hP
  refine lv_aload_n hx hb dX2_swap_24 rfl (lv_at hl 0 rfl) ?_
  refine lv_dup hx hb dX2_swap_25 rfl ?_
  refine va_get (D := (dC, dI)) (ci := 2) (v := .int (z_1 19 0)) (C := RX2) (T := TX2) (N := 34) hx hb hts in_X2 hown hK hP 0 rfl rfl 5 (by decide) (hts _ q463) (fun _ h9 => h9) rfl dX2_swap_26 ?_
  refine lv_iload_n hx hb dX2_swap_29 rfl (lv_at hl 2 rfl) ?_
  refine lv_iadd hx hb dX2_swap_30 ?_
  refine va_put (D := (dC, dI)) (ci := 2) (v := .int ((z_1 19 0) + i2)) (ty := .int) (C := RX2) (T := TX2) (N := 34) hx hb hts in_X2 tyX2 tyX2_ok nmX2 hown hK hP (hD _ _) hS 0 rfl rfl 5 (by decide) (hts _ q463) (fun _ h9 => h9) rfl (by decide +kernel) rfl rfl (Nat.le_of_ble_eq_true rfl) dX2_swap_31 (fun H locs hP _ hS => ?_)
  have hP : va_P (dC, dI) vwCl (MW a ct (up2 (up2 (up2 z_1 1 i1.toNatClampNeg ((z 1 i1.toNatClampNeg) + r1)) 0 i1.toNatClampNeg ((z_1 0 i1.toNatClampNeg) - i2)) 19 0 ((z_1 19 0) + i2)) g_1) H := MW_s_z_0 hP
  exact W.vret hx hb hr (fun t ht hW => ⟨⟨((up2 (up2 (up2 z_1 1 i1.toNatClampNeg ((z 1 i1.toNatClampNeg) + r1)) 0 i1.toNatClampNeg ((z_1 0 i1.toNatClampNeg) - i2)) 19 0 ((z_1 19 0) + i2)), g_1), rfl, w, by rw [ht]; exact hP, va_K.moved hW.alike hK, (hD _ _)⟩, hS.F ht⟩) hS.2.2 dX2_swap_34 hlk
abbrev rm_X2_pay : Room := { frames := 1, cells := 0, slots := 0, locals := 23 }
theorem hd_X2_pay : yX2_pay.cls = RX2 ∧ yX2_pay.cls ≠ "java/lang/invoke/MethodHandle" ∧ yX2_pay.cls ≠ "java/lang/invoke/VarHandle" ∧ (parseMethodDescriptor yX2_pay.desc).map (fun d => d.parameters.length) = some 2 := by decide +kernel
set_option maxHeartbeats 4000000 in
set_option maxRecDepth 100000 in
theorem met_X2_pay (l : Launch) (dC : Nat → ClassId) (dI : Nat → Nat → Nat) (ct : Nat → ClassId) (a : Nat → Nat) (sz : Nat) {i1 : Int32} {i2 : Int32} {z : V} {g : VL} {Post : V → VL → Prop} (w : wp_X2_pay i1 i2 z g Post) : Met l yX2_pay (ws_ yX2_pay cX2_pay 4 none) rm_X2_pay (va_Pc [.ref (a 0), .int i1, .int i2] (fun U => WPre dC dI ct (MW a ct z g) sz U)) ((fun A => (va_Qv (fun (u : V × VL) => Post u.1 u.2) (fun (u : V × VL) t => WPos dC dI ct (MW a ct u.1 u.2) A t) A)) (va_A (MW a ct z g) sz)) 0 0 (va_A (MW a ct z g) sz) := by
  refine open_W (fun A => (va_Qv (fun (u : V × VL) => Post u.1 u.2) (fun (u : V × VL) t => WPos dC dI ct (MW a ct u.1 u.2) A t) A)) (by decide) (Nat.le_of_ble_eq_true rfl) ?_
  intro p e s m args below meth c ls A X hD0 hP hS hl
  have X0 := X
  obtain ⟨⟨hx, hb, hml, hr, hlk, hown, hts⟩, hA, hK, hN⟩ := X0
  have hD : ∀ (z' : V) (g' : VL), va_D A (MW a ct z' g') := fun z' g' => va_D_addr hD0 rfl
  have hl : lv_has ls 4 [(0, .ref (a 0)), (1, .int i1), (2, .int i2)] := hl
  unfold wp_X2_pay at w
  have hS0 := hS
  refine lv_aload_n hx hb dX2_pay_0 rfl (lv_at hl 0 rfl) ?_
  refine lv_iload_n hx hb dX2_pay_1 rfl (lv_at hl 1 rfl) ?_
  refine lv_iload_n hx hb dX2_pay_2 rfl (lv_at hl 2 rfl) ?_
  refine va_calli (va_runV (As := [.int i1, .int i2]) (rest := []) ⟨hx, hb, hml, hown, hts⟩ (met_X2_payment l dC dI ct a _ w) (cwV 2 hts (lw_V q687 q689 qs26 q51 q690) rfl rfl rfl hd_X2_payment ⟨Nat.le_of_ble_eq_true rfl, Nat.le_of_ble_eq_true rfl⟩) (pre_V hK hP (hD _ _) hN (va_recv hK hP (ci := 2) (q0 := 0) rfl rfl)) rfl rfl hl.1 rfl (lv_room (Nat.le_of_ble_eq_true rfl)) dX2_pay_3 ⟨Nat.le_refl _, Nat.le_refl _⟩) hS (fun q _ h => x_free (hD _ _) hS hA q h) (x_free (hD _ _) hS hA) (fun r1 u t H locs ht hvm w hB hz hk hS => ?_)
  obtain ⟨z_1, g_1⟩ := u
  dsimp only at w
  have hP : va_P (dC, dI) vwCl (MW a ct z_1 g_1) H := post_P hB ht
  refine lv_istore_n (lv' := [(3, .int r1), (0, .ref (a 0)), (1, .int i1), (2, .int i2)]) hx hb dX2_pay_6 rfl hl (by decide) rfl (fun ls hl => ?_)
  refine lv_aload_n hx hb dX2_pay_7 rfl (lv_at hl 1 rfl) ?_
  refine va_get (D := (dC, dI)) (ci := 2) (v := .ref (a 3)) (C := RX2) (T := TX2) (N := 34) hx hb hts in_X2 hown hK hP 0 rfl rfl 2 (by decide) (hts _ q460) (fun _ h9 => h9) rfl dX2_pay_8 ?_
  refine lv_bipush (v := 6) hx hb dX2_pay_11 (by decide) ?_
  refine lv_iload_n hx hb dX2_pay_13 rfl (lv_at hl 2 rfl) ?_
  refine lv_imul hx hb dX2_pay_14 ?_
  refine lv_iload_n hx hb dX2_pay_15 rfl (lv_at hl 3 rfl) ?_
  refine lv_iadd hx hb dX2_pay_16 ?_
  refine lv_dup2_11 hx hb dX2_pay_17 rfl rfl ?_
  obtain ⟨gi, w⟩ := w
  refine va_iald hx hb hK hP 3 0 rfl rfl gi dX2_pay_18 ?_
  refine lv_iload_n hx hb dX2_pay_19 rfl (lv_at hl 0 rfl) ?_
  refine lv_isub hx hb dX2_pay_20 ?_
  obtain ⟨gi, w⟩ := w
  refine va_iast hx hb hK hP (hD _ _) hS 3 0 rfl rfl gi dX2_pay_21 (fun H locs hP _ hS => ?_)
  have hP : va_P (dC, dI) vwCl (MW a ct (up2 z_1 2 (((6 : Int32) * i1) + i2).toNatClampNeg ((z_1 2 (((6 : Int32) * i1) + i2).toNatClampNeg) - r1)) g_1) H := MW_u_z_2 hP
  refine lv_aload_n hx hb dX2_pay_22 rfl (lv_at hl 1 rfl) ?_
  refine va_get (D := (dC, dI)) (ci := 2) (v := .ref (a 1)) (C := RX2) (T := TX2) (N := 34) hx hb hts in_X2 hown hK hP 0 rfl rfl 0 (by decide) (hts _ q458) (fun _ h9 => h9) rfl dX2_pay_23 ?_
  refine lv_iload_n hx hb dX2_pay_26 rfl (lv_at hl 2 rfl) ?_
  refine lv_dup2_11 hx hb dX2_pay_27 rfl rfl ?_
  obtain ⟨gi, w⟩ := w
  refine va_iald hx hb hK hP 1 0 rfl rfl gi dX2_pay_28 ?_
  refine lv_iload_n hx hb dX2_pay_29 rfl (lv_at hl 0 rfl) ?_
  refine lv_isub hx hb dX2_pay_30 ?_
  obtain ⟨gi, w⟩ := w
  refine va_iast hx hb hK hP (hD _ _) hS 1 0 rfl rfl gi dX2_pay_31 (fun H locs hP _ hS => ?_)
  have hP : va_P (dC, dI) vwCl (MW a ct (up2 (up2 z_1 2 (((6 : Int32) * i1) + i2).toNatClampNeg ((z_1 2 (((6 : Int32) * i1) + i2).toNatClampNeg) - r1)) 0 i1.toNatClampNeg ((z_1 0 i1.toNatClampNeg) - r1)) g_1) H := MW_u_z_0 hP
  refine lv_aload_n hx hb dX2_pay_32 rfl (lv_at hl 1 rfl) ?_
  refine va_get (D := (dC, dI)) (ci := 2) (v := .ref (a 1)) (C := RX2) (T := TX2) (N := 34) hx hb hts in_X2 hown hK hP 0 rfl rfl 0 (by decide) (hts _ q458) (fun _ h9 => h9) rfl dX2_pay_33 ?_
  refine lv_iload_n hx hb dX2_pay_36 rfl (lv_at hl 3 rfl) ?_
  refine lv_dup2_11 hx hb dX2_pay_37 rfl rfl ?_
  obtain ⟨gi, w⟩ := w
  refine va_iald hx hb hK hP 1 0 rfl rfl gi dX2_pay_38 ?_
  refine lv_iload_n hx hb dX2_pay_39 rfl (lv_at hl 0 rfl) ?_
  refine lv_iadd hx hb dX2_pay_40 ?_
  obtain ⟨gi, w⟩ := w
  refine va_iast hx hb hK hP (hD _ _) hS 1 0 rfl rfl gi dX2_pay_41 (fun H locs hP _ hS => ?_)
  have hP : va_P (dC, dI) vwCl (MW a ct (up2 (up2 (up2 z_1 2 (((6 : Int32) * i1) + i2).toNatClampNeg ((z_1 2 (((6 : Int32) * i1) + i2).toNatClampNeg) - r1)) 0 i1.toNatClampNeg ((z_1 0 i1.toNatClampNeg) - r1)) 0 i2.toNatClampNeg (((up2 (up2 z_1 2 (((6 : Int32) * i1) + i2).toNatClampNeg ((z_1 2 (((6 : Int32) * i1) + i2).toNatClampNeg) - r1)) 0 i1.toNatClampNeg ((z_1 0 i1.toNatClampNeg) - r1)) 0 i2.toNatClampNeg) + r1)) g_1) H := MW_u_z_0 hP
  exact W.vret hx hb hr (fun t ht hW => ⟨⟨((up2 (up2 (up2 z_1 2 (((6 : Int32) * i1) + i2).toNatClampNeg ((z_1 2 (((6 : Int32) * i1) + i2).toNatClampNeg) - r1)) 0 i1.toNatClampNeg ((z_1 0 i1.toNatClampNeg) - r1)) 0 i2.toNatClampNeg (((up2 (up2 z_1 2 (((6 : Int32) * i1) + i2).toNatClampNeg ((z_1 2 (((6 : Int32) * i1) + i2).toNatClampNeg) - r1)) 0 i1.toNatClampNeg ((z_1 0 i1.toNatClampNeg) - r1)) 0 i2.toNatClampNeg) + r1)), g_1), rfl, w, by rw [ht]; exact hP, va_K.moved hW.alike hK, (hD _ _)⟩, hS.F ht⟩) hS.2.2 dX2_pay_42 hlk
abbrev rm_X2_happen : Room := { frames := 4, cells := 0, slots := 0, locals := 87 }
theorem hd_X2_happen : yX2_happen.cls = RX2 ∧ yX2_happen.cls ≠ "java/lang/invoke/MethodHandle" ∧ yX2_happen.cls ≠ "java/lang/invoke/VarHandle" ∧ (parseMethodDescriptor yX2_happen.desc).map (fun d => d.parameters.length) = some 3 := by decide +kernel
set_option maxHeartbeats 4000000 in
set_option maxRecDepth 100000 in
theorem wk_X2_happen_L136 {p : Program} {l : Launch} {e : Env} {s : State} {m : MethodId} {args : Array Value} {below : List Frame} {meth : Method} {c : Code} {dC : Nat → ClassId} {dI : Nat → Nat → Nat} {ct : Nat → ClassId} {A : Nat → Prop} {a : Nat → Nat} {Post : V → VL → Prop}   (X : CxW p s m args meth c cX2_happen 4 none RX2 dC dI ct A) (hD : ∀ (z : V) (g : VL), va_D A (MW a ct z g))  (z : V) (g : VL) (w : wp_X2_happen_L136  Post  z g) : ∀ (H : Heap) (locs : List Loc) (ls : Array Slot), va_P (dC, dI) vwCl (MW a ct z g) H → va_S A s.heap H locs → lv_has ls 4 [] → W p l e rm_X2_happen s m args below meth c H locs 0 0 (MQ below (va_Qv (fun (u : V × VL) => Post u.1 u.2) (fun (u : V × VL) t => WPos dC dI ct (MW a ct u.1 u.2) A t) A) args s 0 0 A) (F0 m 136 ls []) := by
  intro H locs ls hP hS hl
  have X0 := X
  obtain ⟨⟨hx, hb, hml, hr, hlk, hown, hts⟩, hA, hK, hN⟩ := X0
  unfold wp_X2_happen_L136 at w
  exact W.vret hx hb hr (fun t ht hW => ⟨⟨(z, g), rfl, w, by rw [ht]; exact hP, va_K.moved hW.alike hK, (hD _ _)⟩, hS.F ht⟩) hS.2.2 dX2_happen_136 hlk
set_option maxHeartbeats 4000000 in
set_option maxRecDepth 100000 in
theorem met_X2_happen (l : Launch) (dC : Nat → ClassId) (dI : Nat → Nat → Nat) (ct : Nat → ClassId) (a : Nat → Nat) (sz : Nat) {i1 : Int32} {i2 : Int32} {i3 : Int32} {z : V} {g : VL} {Post : V → VL → Prop} (w : wp_X2_happen i1 i2 i3 z g Post) : Met l yX2_happen (ws_ yX2_happen cX2_happen 4 none) rm_X2_happen (va_Pc [.ref (a 0), .int i1, .int i2, .int i3] (fun U => WPre dC dI ct (MW a ct z g) sz U)) ((fun A => (va_Qv (fun (u : V × VL) => Post u.1 u.2) (fun (u : V × VL) t => WPos dC dI ct (MW a ct u.1 u.2) A t) A)) (va_A (MW a ct z g) sz)) 0 0 (va_A (MW a ct z g) sz) := by
  refine open_W (fun A => (va_Qv (fun (u : V × VL) => Post u.1 u.2) (fun (u : V × VL) t => WPos dC dI ct (MW a ct u.1 u.2) A t) A)) (by decide) (Nat.le_of_ble_eq_true rfl) ?_
  intro p e s m args below meth c ls A X hD0 hP hS hl
  have X0 := X
  obtain ⟨⟨hx, hb, hml, hr, hlk, hown, hts⟩, hA, hK, hN⟩ := X0
  have hD : ∀ (z' : V) (g' : VL), va_D A (MW a ct z' g') := fun z' g' => va_D_addr hD0 rfl
  have hl : lv_has ls 4 [(0, .ref (a 0)), (1, .int i1), (2, .int i2), (3, .int i3)] := hl
  unfold wp_X2_happen at w
  have hS0 := hS
  refine lv_iload_n hx hb dX2_happen_0 rfl (lv_at hl 1 rfl) ?_
  by_cases c1_0 : i1 = 0
  · have w := And.left w c1_0
    refine lv_tableIn (tgt := 40) hx hb dX2_happen_1 (by rw [c1_0]; decide) (by rw [c1_0]; decide) (by rw [c1_0]; rfl) (by decide) ?_
    refine lv_aload_n hx hb dX2_happen_40 rfl (lv_at hl 0 rfl) ?_
    refine lv_dup hx hb dX2_happen_41 rfl ?_
    refine va_get (D := (dC, dI)) (ci := 2) (v := .int (z 19 0)) (C := RX2) (T := TX2) (N := 34) hx hb hts in_X2 hown hK hP 0 rfl rfl 5 (by decide) (hts _ q463) (fun _ h9 => h9) rfl dX2_happen_42 ?_
    refine lv_iload_n hx hb dX2_happen_45 rfl (lv_at hl 3 rfl) ?_
    refine lv_iadd hx hb dX2_happen_46 ?_
    refine va_put (D := (dC, dI)) (ci := 2) (v := .int ((z 19 0) + i3)) (ty := .int) (C := RX2) (T := TX2) (N := 34) hx hb hts in_X2 tyX2 tyX2_ok nmX2 hown hK hP (hD _ _) hS 0 rfl rfl 5 (by decide) (hts _ q463) (fun _ h9 => h9) rfl (by decide +kernel) rfl rfl (Nat.le_of_ble_eq_true rfl) dX2_happen_47 (fun H locs hP _ hS => ?_)
    have hP : va_P (dC, dI) vwCl (MW a ct (up2 z 19 0 ((z 19 0) + i3)) g) H := MW_s_z_0 hP
    refine lv_goto (tgt := 136) hx hb dX2_happen_50 (by decide) ?_
    exact wk_X2_happen_L136 X hD  _ _ w _ _ _ hP hS (lv_sub hl [] rfl)
  have w := And.right w c1_0
  by_cases c1_1 : i1 = 1
  · have w := And.left w c1_1
    refine lv_tableIn (tgt := 53) hx hb dX2_happen_1 (by rw [c1_1]; decide) (by rw [c1_1]; decide) (by rw [c1_1]; rfl) (by decide) ?_
    refine lv_aload_n hx hb dX2_happen_53 rfl (lv_at hl 0 rfl) ?_
    refine va_get (D := (dC, dI)) (ci := 2) (v := .ref (a 1)) (C := RX2) (T := TX2) (N := 34) hx hb hts in_X2 hown hK hP 0 rfl rfl 0 (by decide) (hts _ q458) (fun _ h9 => h9) rfl dX2_happen_54 ?_
    refine lv_iload_n hx hb dX2_happen_57 rfl (lv_at hl 2 rfl) ?_
    refine lv_dup2_11 hx hb dX2_happen_58 rfl rfl ?_
    obtain ⟨gi, w⟩ := w
    refine va_iald hx hb hK hP 1 0 rfl rfl gi dX2_happen_59 ?_
    refine lv_iload_n hx hb dX2_happen_60 rfl (lv_at hl 3 rfl) ?_
    refine lv_iadd hx hb dX2_happen_61 ?_
    obtain ⟨gi, w⟩ := w
    refine va_iast hx hb hK hP (hD _ _) hS 1 0 rfl rfl gi dX2_happen_62 (fun H locs hP _ hS => ?_)
    have hP : va_P (dC, dI) vwCl (MW a ct (up2 z 0 i2.toNatClampNeg ((z 0 i2.toNatClampNeg) + i3)) g) H := MW_u_z_0 hP
    refine lv_aload_n hx hb dX2_happen_63 rfl (lv_at hl 0 rfl) ?_
    refine lv_dup hx hb dX2_happen_64 rfl ?_
    refine va_get (D := (dC, dI)) (ci := 2) (v := .int (z 19 1)) (C := RX2) (T := TX2) (N := 34) hx hb hts in_X2 hown hK hP 0 rfl rfl 6 (by decide) (hts _ q464) (fun _ h9 => h9) rfl dX2_happen_65 ?_
    refine lv_iload_n hx hb dX2_happen_68 rfl (lv_at hl 3 rfl) ?_
    refine lv_iadd hx hb dX2_happen_69 ?_
    refine va_put (D := (dC, dI)) (ci := 2) (v := .int ((z 19 1) + i3)) (ty := .int) (C := RX2) (T := TX2) (N := 34) hx hb hts in_X2 tyX2 tyX2_ok nmX2 hown hK hP (hD _ _) hS 0 rfl rfl 6 (by decide) (hts _ q464) (fun _ h9 => h9) rfl (by decide +kernel) rfl rfl (Nat.le_of_ble_eq_true rfl) dX2_happen_70 (fun H locs hP _ hS => ?_)
    have hP : va_P (dC, dI) vwCl (MW a ct (up2 (up2 z 0 i2.toNatClampNeg ((z 0 i2.toNatClampNeg) + i3)) 19 1 ((z 19 1) + i3)) g) H := MW_s_z_1 hP
    refine lv_goto (tgt := 136) hx hb dX2_happen_73 (by decide) ?_
    exact wk_X2_happen_L136 X hD  _ _ w _ _ _ hP hS (lv_sub hl [] rfl)
  have w := And.right w c1_1
  by_cases c1_2 : i1 = 2
  · have w := And.left w c1_2
    refine lv_tableIn (tgt := 76) hx hb dX2_happen_1 (by rw [c1_2]; decide) (by rw [c1_2]; decide) (by rw [c1_2]; rfl) (by decide) ?_
    refine lv_aload_n hx hb dX2_happen_76 rfl (lv_at hl 0 rfl) ?_
    refine lv_iload_n hx hb dX2_happen_77 rfl (lv_at hl 2 rfl) ?_
    refine lv_iload_n hx hb dX2_happen_78 rfl (lv_at hl 3 rfl) ?_
    refine va_callv (va_runV (As := [.int i2, .int i3]) (rest := []) ⟨hx, hb, hml, hown, hts⟩ (met_X2_buy l dC dI ct a _ w) (cwV 2 hts (lw_V q695 q697 qs28 q51 q698) rfl rfl rfl hd_X2_buy ⟨Nat.le_of_ble_eq_true rfl, Nat.le_of_ble_eq_true rfl⟩) (pre_V hK hP (hD _ _) hN (va_recv hK hP (ci := 2) (q0 := 0) rfl rfl)) rfl rfl hl.1 rfl (lv_room (Nat.le_of_ble_eq_true rfl)) dX2_happen_79 ⟨Nat.le_refl _, Nat.le_refl _⟩) hS (fun q _ h => x_free (hD _ _) hS hA q h) (x_free (hD _ _) hS hA) (fun  u t H locs ht hvm w hB hz hk hS => ?_)
    obtain ⟨z_2, g_2⟩ := u
    dsimp only at w
    have hP : va_P (dC, dI) vwCl (MW a ct z_2 g_2) H := post_P hB ht
    refine lv_goto (tgt := 136) hx hb dX2_happen_82 (by decide) ?_
    exact wk_X2_happen_L136 X hD  _ _ w _ _ _ hP hS (lv_sub hl [] rfl)
  have w := And.right w c1_2
  by_cases c1_3 : i1 = 3
  · have w := And.left w c1_3
    refine lv_tableIn (tgt := 85) hx hb dX2_happen_1 (by rw [c1_3]; decide) (by rw [c1_3]; decide) (by rw [c1_3]; rfl) (by decide) ?_
    refine lv_aload_n hx hb dX2_happen_85 rfl (lv_at hl 0 rfl) ?_
    refine lv_iload_n hx hb dX2_happen_86 rfl (lv_at hl 2 rfl) ?_
    refine lv_iload_n hx hb dX2_happen_87 rfl (lv_at hl 3 rfl) ?_
    refine va_callv (va_runV (As := [.int i2, .int i3]) (rest := []) ⟨hx, hb, hml, hown, hts⟩ (met_X2_swap l dC dI ct a _ w) (cwV 2 hts (lw_V q699 q701 qs29 q51 q702) rfl rfl rfl hd_X2_swap ⟨Nat.le_of_ble_eq_true rfl, Nat.le_of_ble_eq_true rfl⟩) (pre_V hK hP (hD _ _) hN (va_recv hK hP (ci := 2) (q0 := 0) rfl rfl)) rfl rfl hl.1 rfl (lv_room (Nat.le_of_ble_eq_true rfl)) dX2_happen_88 ⟨Nat.le_refl _, Nat.le_refl _⟩) hS (fun q _ h => x_free (hD _ _) hS hA q h) (x_free (hD _ _) hS hA) (fun  u t H locs ht hvm w hB hz hk hS => ?_)
    obtain ⟨z_3, g_3⟩ := u
    dsimp only at w
    have hP : va_P (dC, dI) vwCl (MW a ct z_3 g_3) H := post_P hB ht
    refine lv_goto (tgt := 136) hx hb dX2_happen_91 (by decide) ?_
    exact wk_X2_happen_L136 X hD  _ _ w _ _ _ hP hS (lv_sub hl [] rfl)
  have w := And.right w c1_3
  by_cases c1_4 : i1 = 4
  · have w := And.left w c1_4
    refine lv_tableIn (tgt := 94) hx hb dX2_happen_1 (by rw [c1_4]; decide) (by rw [c1_4]; decide) (by rw [c1_4]; rfl) (by decide) ?_
    refine lv_aload_n hx hb dX2_happen_94 rfl (lv_at hl 0 rfl) ?_
    refine lv_iload_n hx hb dX2_happen_95 rfl (lv_at hl 2 rfl) ?_
    refine lv_iload_n hx hb dX2_happen_96 rfl (lv_at hl 3 rfl) ?_
    refine va_callv (va_runV (As := [.int i2, .int i3]) (rest := []) ⟨hx, hb, hml, hown, hts⟩ (met_X2_pay l dC dI ct a _ w) (cwV 2 hts (lw_V q703 q705 qs30 q51 q706) rfl rfl rfl hd_X2_pay ⟨Nat.le_of_ble_eq_true rfl, Nat.le_of_ble_eq_true rfl⟩) (pre_V hK hP (hD _ _) hN (va_recv hK hP (ci := 2) (q0 := 0) rfl rfl)) rfl rfl hl.1 rfl (lv_room (Nat.le_of_ble_eq_true rfl)) dX2_happen_97 ⟨Nat.le_refl _, Nat.le_refl _⟩) hS (fun q _ h => x_free (hD _ _) hS hA q h) (x_free (hD _ _) hS hA) (fun  u t H locs ht hvm w hB hz hk hS => ?_)
    obtain ⟨z_4, g_4⟩ := u
    dsimp only at w
    have hP : va_P (dC, dI) vwCl (MW a ct z_4 g_4) H := post_P hB ht
    refine lv_goto (tgt := 136) hx hb dX2_happen_100 (by decide) ?_
    exact wk_X2_happen_L136 X hD  _ _ w _ _ _ hP hS (lv_sub hl [] rfl)
  have w := And.right w c1_4
  by_cases c1_5 : i1 = 5
  · have w := And.left w c1_5
    refine lv_tableIn (tgt := 103) hx hb dX2_happen_1 (by rw [c1_5]; decide) (by rw [c1_5]; decide) (by rw [c1_5]; rfl) (by decide) ?_
    refine lv_aload_n hx hb dX2_happen_103 rfl (lv_at hl 0 rfl) ?_
    refine lv_dup hx hb dX2_happen_104 rfl ?_
    refine va_get (D := (dC, dI)) (ci := 2) (v := .int (z 19 0)) (C := RX2) (T := TX2) (N := 34) hx hb hts in_X2 hown hK hP 0 rfl rfl 5 (by decide) (hts _ q463) (fun _ h9 => h9) rfl dX2_happen_105 ?_
    refine lv_iload_n hx hb dX2_happen_108 rfl (lv_at hl 3 rfl) ?_
    refine lv_isub hx hb dX2_happen_109 ?_
    refine va_put (D := (dC, dI)) (ci := 2) (v := .int ((z 19 0) - i3)) (ty := .int) (C := RX2) (T := TX2) (N := 34) hx hb hts in_X2 tyX2 tyX2_ok nmX2 hown hK hP (hD _ _) hS 0 rfl rfl 5 (by decide) (hts _ q463) (fun _ h9 => h9) rfl (by decide +kernel) rfl rfl (Nat.le_of_ble_eq_true rfl) dX2_happen_110 (fun H locs hP _ hS => ?_)
    have hP : va_P (dC, dI) vwCl (MW a ct (up2 z 19 0 ((z 19 0) - i3)) g) H := MW_s_z_0 hP
    refine lv_aload_n hx hb dX2_happen_113 rfl (lv_at hl 0 rfl) ?_
    refine va_get (D := (dC, dI)) (ci := 2) (v := .ref (a 1)) (C := RX2) (T := TX2) (N := 34) hx hb hts in_X2 hown hK hP 0 rfl rfl 0 (by decide) (hts _ q458) (fun _ h9 => h9) rfl dX2_happen_114 ?_
    refine lv_iload_n hx hb dX2_happen_117 rfl (lv_at hl 2 rfl) ?_
    refine lv_dup2_11 hx hb dX2_happen_118 rfl rfl ?_
    obtain ⟨gi, w⟩ := w
    refine va_iald hx hb hK hP 1 0 rfl rfl gi dX2_happen_119 ?_
    refine lv_iload_n hx hb dX2_happen_120 rfl (lv_at hl 3 rfl) ?_
    refine lv_iadd hx hb dX2_happen_121 ?_
    obtain ⟨gi, w⟩ := w
    refine va_iast hx hb hK hP (hD _ _) hS 1 0 rfl rfl gi dX2_happen_122 (fun H locs hP _ hS => ?_)
    have hP : va_P (dC, dI) vwCl (MW a ct (up2 (up2 z 19 0 ((z 19 0) - i3)) 0 i2.toNatClampNeg ((z 0 i2.toNatClampNeg) + i3)) g) H := MW_u_z_0 hP
    refine lv_goto (tgt := 136) hx hb dX2_happen_123 (by decide) ?_
    exact wk_X2_happen_L136 X hD  _ _ w _ _ _ hP hS (lv_sub hl [] rfl)
  have w := And.right w c1_5
  refine lv_tableOut (tgt := 126) hx hb dX2_happen_1 (by have h0 := lv_neT c1_0 (a := 0) (by decide); have h1 := lv_neT c1_1 (a := 1) (by decide); have h2 := lv_neT c1_2 (a := 2) (by decide); have h3 := lv_neT c1_3 (a := 3) (by decide); have h4 := lv_neT c1_4 (a := 4) (by decide); have h5 := lv_neT c1_5 (a := 5) (by decide); omega) (by decide) ?_
  refine lv_aload_n hx hb dX2_happen_126 rfl (lv_at hl 0 rfl) ?_
  refine lv_dup hx hb dX2_happen_127 rfl ?_
  refine va_get (D := (dC, dI)) (ci := 2) (v := .int (z 19 3)) (C := RX2) (T := TX2) (N := 34) hx hb hts in_X2 hown hK hP 0 rfl rfl 8 (by decide) (hts _ q466) (fun _ h9 => h9) rfl dX2_happen_128 ?_
  refine lv_iconst (v := 1) hx hb dX2_happen_131 (by decide) ?_
  refine lv_iadd hx hb dX2_happen_132 ?_
  refine va_put (D := (dC, dI)) (ci := 2) (v := .int ((z 19 3) + (1 : Int32))) (ty := .int) (C := RX2) (T := TX2) (N := 34) hx hb hts in_X2 tyX2 tyX2_ok nmX2 hown hK hP (hD _ _) hS 0 rfl rfl 8 (by decide) (hts _ q466) (fun _ h9 => h9) rfl (by decide +kernel) rfl rfl (Nat.le_of_ble_eq_true rfl) dX2_happen_133 (fun H locs hP _ hS => ?_)
  have hP : va_P (dC, dI) vwCl (MW a ct (up2 z 19 3 ((z 19 3) + (1 : Int32))) g) H := MW_s_z_3 hP
  exact wk_X2_happen_L136 X hD  _ _ w _ _ _ hP hS (lv_sub hl [] rfl)
abbrev rm_X2_goMonths : Room := { frames := 5, cells := 0, slots := 0, locals := 110 }
theorem hd_X2_goMonths : yX2_goMonths.cls = RX2 ∧ yX2_goMonths.cls ≠ "java/lang/invoke/MethodHandle" ∧ yX2_goMonths.cls ≠ "java/lang/invoke/VarHandle" ∧ (parseMethodDescriptor yX2_goMonths.desc).map (fun d => d.parameters.length) = some 0 := by decide +kernel
set_option maxHeartbeats 4000000 in
set_option maxRecDepth 100000 in
theorem wk_X2_goMonths_L149 {p : Program} {l : Launch} {e : Env} {s : State} {m : MethodId} {args : Array Value} {below : List Frame} {meth : Method} {c : Code} {dC : Nat → ClassId} {dI : Nat → Nat → Nat} {ct : Nat → ClassId} {A : Nat → Prop} {a : Nat → Nat} {Post : V → VL → Prop} {K19 : Int32 → V → VL → Prop}  (X : CxW p s m args meth c cX2_goMonths 3 none RX2 dC dI ct A) (hD : ∀ (z : V) (g : VL), va_D A (MW a ct z g)) (hK19 : ∀ (i1 : Int32) (z : V) (g : VL), K19 i1 z g → ∀ (H : Heap) (locs : List Loc) (ls : Array Slot), va_P (dC, dI) vwCl (MW a ct z g) H → va_S A s.heap H locs → lv_has ls 3 [(0, .ref (a 0)), (1, .int i1)] → W p l e rm_X2_goMonths s m args below meth c H locs 0 0 (MQ below (va_Qv (fun (u : V × VL) => Post u.1 u.2) (fun (u : V × VL) t => WPos dC dI ct (MW a ct u.1 u.2) A t) A) args s 0 0 A) (F0 m 19 ls [])) (i1 : Int32) (z : V) (g : VL) (w : wp_X2_goMonths_L149  Post K19 i1 z g) : ∀ (H : Heap) (locs : List Loc) (ls : Array Slot), va_P (dC, dI) vwCl (MW a ct z g) H → va_S A s.heap H locs → lv_has ls 3 [(0, .ref (a 0)), (1, .int i1)] → W p l e rm_X2_goMonths s m args below meth c H locs 0 0 (MQ below (va_Qv (fun (u : V × VL) => Post u.1 u.2) (fun (u : V × VL) t => WPos dC dI ct (MW a ct u.1 u.2) A t) A) args s 0 0 A) (F0 m 149 ls []) := by
  intro H locs ls hP hS hl
  have X0 := X
  obtain ⟨⟨hx, hb, hml, hr, hlk, hown, hts⟩, hA, hK, hN⟩ := X0
  unfold wp_X2_goMonths_L149 at w
  refine lv_iinc (v := (i1 + 1)) (lv' := [(1, .int (i1 + 1)), (0, .ref (a 0))]) hx hb dX2_goMonths_149 hl (k := 1) rfl rfl (by decide) rfl (fun ls hl => ?_)
  refine lv_goto (tgt := 19) hx hb dX2_goMonths_152 (by decide) ?_
  exact hK19 _ _ _ w _ _ _ hP hS (lv_sub hl [1, 0] rfl)
set_option maxHeartbeats 4000000 in
set_option maxRecDepth 100000 in
theorem wk_X2_goMonths_L145 {p : Program} {l : Launch} {e : Env} {s : State} {m : MethodId} {args : Array Value} {below : List Frame} {meth : Method} {c : Code} {dC : Nat → ClassId} {dI : Nat → Nat → Nat} {ct : Nat → ClassId} {A : Nat → Prop} {a : Nat → Nat} {Post : V → VL → Prop} {K19 : Int32 → V → VL → Prop}  (X : CxW p s m args meth c cX2_goMonths 3 none RX2 dC dI ct A) (hD : ∀ (z : V) (g : VL), va_D A (MW a ct z g)) (hK19 : ∀ (i1 : Int32) (z : V) (g : VL), K19 i1 z g → ∀ (H : Heap) (locs : List Loc) (ls : Array Slot), va_P (dC, dI) vwCl (MW a ct z g) H → va_S A s.heap H locs → lv_has ls 3 [(0, .ref (a 0)), (1, .int i1)] → W p l e rm_X2_goMonths s m args below meth c H locs 0 0 (MQ below (va_Qv (fun (u : V × VL) => Post u.1 u.2) (fun (u : V × VL) t => WPos dC dI ct (MW a ct u.1 u.2) A t) A) args s 0 0 A) (F0 m 19 ls [])) (i1 : Int32) (is0 : Int32) (is1 : Int32) (z : V) (g : VL) (w : wp_X2_goMonths_L145  Post K19 i1 is0 is1 z g) : ∀ (H : Heap) (locs : List Loc) (ls : Array Slot), va_P (dC, dI) vwCl (MW a ct z g) H → va_S A s.heap H locs → lv_has ls 3 [(0, .ref (a 0)), (1, .int i1)] → W p l e rm_X2_goMonths s m args below meth c H locs 0 0 (MQ below (va_Qv (fun (u : V × VL) => Post u.1 u.2) (fun (u : V × VL) t => WPos dC dI ct (MW a ct u.1 u.2) A t) A) args s 0 0 A) (F0 m 145 ls [.int is0, .int is1, .ref (a 0)]) := by
  intro H locs ls hP hS hl
  have X0 := X
  obtain ⟨⟨hx, hb, hml, hr, hlk, hown, hts⟩, hA, hK, hN⟩ := X0
  unfold wp_X2_goMonths_L145 at w
  refine lv_iadd hx hb dX2_goMonths_145 ?_
  refine va_put (D := (dC, dI)) (ci := 2) (v := .int (is1 + is0)) (ty := .int) (C := RX2) (T := TX2) (N := 34) hx hb hts in_X2 tyX2 tyX2_ok nmX2 hown hK hP (hD _ _) hS 0 rfl rfl 22 (by decide) (hts _ q480) (fun _ h9 => h9) rfl (by decide +kernel) rfl rfl (Nat.le_of_ble_eq_true rfl) dX2_goMonths_146 (fun H locs hP _ hS => ?_)
  have hP : va_P (dC, dI) vwCl (MW a ct (up2 z 19 9 (is1 + is0)) g) H := MW_s_z_9 hP
  exact wk_X2_goMonths_L149 X hD hK19 _ _ _ w _ _ _ hP hS (lv_sub hl [0, 1] rfl)
set_option maxHeartbeats 4000000 in
set_option maxRecDepth 100000 in
theorem wk_X2_goMonths_L82 {p : Program} {l : Launch} {e : Env} {s : State} {m : MethodId} {args : Array Value} {below : List Frame} {meth : Method} {c : Code} {dC : Nat → ClassId} {dI : Nat → Nat → Nat} {ct : Nat → ClassId} {A : Nat → Prop} {a : Nat → Nat} {Post : V → VL → Prop} {K19 : Int32 → V → VL → Prop}  (X : CxW p s m args meth c cX2_goMonths 3 none RX2 dC dI ct A) (hD : ∀ (z : V) (g : VL), va_D A (MW a ct z g)) (hK19 : ∀ (i1 : Int32) (z : V) (g : VL), K19 i1 z g → ∀ (H : Heap) (locs : List Loc) (ls : Array Slot), va_P (dC, dI) vwCl (MW a ct z g) H → va_S A s.heap H locs → lv_has ls 3 [(0, .ref (a 0)), (1, .int i1)] → W p l e rm_X2_goMonths s m args below meth c H locs 0 0 (MQ below (va_Qv (fun (u : V × VL) => Post u.1 u.2) (fun (u : V × VL) t => WPos dC dI ct (MW a ct u.1 u.2) A t) A) args s 0 0 A) (F0 m 19 ls [])) (i1 : Int32) (i2 : Int32) (is0 : Int32) (z : V) (g : VL) (w : wp_X2_goMonths_L82  Post K19 i1 i2 is0 z g) : ∀ (H : Heap) (locs : List Loc) (ls : Array Slot), va_P (dC, dI) vwCl (MW a ct z g) H → va_S A s.heap H locs → lv_has ls 3 [(0, .ref (a 0)), (1, .int i1), (2, .int i2)] → W p l e rm_X2_goMonths s m args below meth c H locs 0 0 (MQ below (va_Qv (fun (u : V × VL) => Post u.1 u.2) (fun (u : V × VL) t => WPos dC dI ct (MW a ct u.1 u.2) A t) A) args s 0 0 A) (F0 m 82 ls [.int is0, .ref (a 0)]) := by
  intro H locs ls hP hS hl
  have X0 := X
  obtain ⟨⟨hx, hb, hml, hr, hlk, hown, hts⟩, hA, hK, hN⟩ := X0
  unfold wp_X2_goMonths_L82 at w
  refine va_put (D := (dC, dI)) (ci := 2) (v := .int is0) (ty := .int) (C := RX2) (T := TX2) (N := 34) hx hb hts in_X2 tyX2 tyX2_ok nmX2 hown hK hP (hD _ _) hS 0 rfl rfl 21 (by decide) (hts _ q479) (fun _ h9 => h9) rfl (by decide +kernel) rfl rfl (Nat.le_of_ble_eq_true rfl) dX2_goMonths_82 (fun H locs hP _ hS => ?_)
  have hP : va_P (dC, dI) vwCl (MW a ct (up2 z 19 8 is0) g) H := MW_s_z_8 hP
  refine lv_iload_n hx hb dX2_goMonths_85 rfl (lv_at hl 2 rfl) ?_
  refine lv_if_ne (tgt := 149) hx hb dX2_goMonths_86 (by decide) (fun c => ?_) (fun c => ?_)
  · have w := And.right w c
    exact wk_X2_goMonths_L149 X hD hK19 _ _ _ w _ _ _ hP hS (lv_sub hl [0, 1] rfl)
  · have w := And.left w c
    refine lv_aload_n hx hb dX2_goMonths_89 rfl (lv_at hl 0 rfl) ?_
    refine lv_aload_n hx hb dX2_goMonths_90 rfl (lv_at hl 0 rfl) ?_
    refine va_get (D := (dC, dI)) (ci := 2) (v := .ref (a 10)) (C := RX2) (T := TX2) (N := 34) hx hb hts in_X2 hown hK hP 0 rfl rfl 15 (by decide) (hts _ q473) (fun _ h9 => h9) rfl dX2_goMonths_91 ?_
    refine lv_iload_n hx hb dX2_goMonths_94 rfl (lv_at hl 1 rfl) ?_
    obtain ⟨gi, w⟩ := w
    refine va_iald hx hb hK hP 10 0 rfl rfl gi dX2_goMonths_95 ?_
    refine lv_aload_n hx hb dX2_goMonths_96 rfl (lv_at hl 0 rfl) ?_
    refine va_get (D := (dC, dI)) (ci := 2) (v := .ref (a 11)) (C := RX2) (T := TX2) (N := 34) hx hb hts in_X2 hown hK hP 0 rfl rfl 16 (by decide) (hts _ q474) (fun _ h9 => h9) rfl dX2_goMonths_97 ?_
    refine lv_iload_n hx hb dX2_goMonths_100 rfl (lv_at hl 1 rfl) ?_
    obtain ⟨gi, w⟩ := w
    refine va_iald hx hb hK hP 11 0 rfl rfl gi dX2_goMonths_101 ?_
    refine lv_aload_n hx hb dX2_goMonths_102 rfl (lv_at hl 0 rfl) ?_
    refine va_get (D := (dC, dI)) (ci := 2) (v := .ref (a 12)) (C := RX2) (T := TX2) (N := 34) hx hb hts in_X2 hown hK hP 0 rfl rfl 17 (by decide) (hts _ q475) (fun _ h9 => h9) rfl dX2_goMonths_103 ?_
    refine lv_iload_n hx hb dX2_goMonths_106 rfl (lv_at hl 1 rfl) ?_
    obtain ⟨gi, w⟩ := w
    refine va_iald hx hb hK hP 12 0 rfl rfl gi dX2_goMonths_107 ?_
    refine va_callv (va_runV (As := [.int (z 9 i1.toNatClampNeg), .int (z 10 i1.toNatClampNeg), .int (z 11 i1.toNatClampNeg)]) (rest := []) ⟨hx, hb, hml, hown, hts⟩ (met_X2_happen l dC dI ct a _ w) (cwV 3 hts (lw_V q691 q693 qs27 q51 q694) rfl rfl rfl hd_X2_happen ⟨Nat.le_of_ble_eq_true rfl, Nat.le_of_ble_eq_true rfl⟩) (pre_V hK hP (hD _ _) hN (va_recv hK hP (ci := 2) (q0 := 0) rfl rfl)) rfl rfl hl.1 rfl (lv_room (Nat.le_of_ble_eq_true rfl)) dX2_goMonths_108 ⟨Nat.le_refl _, Nat.le_refl _⟩) hS (fun q _ h => x_free (hD _ _) hS hA q h) (x_free (hD _ _) hS hA) (fun  u t H locs ht hvm w hB hz hk hS => ?_)
    obtain ⟨z_1, g_1⟩ := u
    dsimp only at w
    have hP : va_P (dC, dI) vwCl (MW a ct z_1 g_1) H := post_P hB ht
    refine lv_aload_n hx hb dX2_goMonths_111 rfl (lv_at hl 0 rfl) ?_
    refine va_get (D := (dC, dI)) (ci := 2) (v := .ref (a 14)) (C := RX2) (T := TX2) (N := 34) hx hb hts in_X2 hown hK hP 0 rfl rfl 23 (by decide) (hts _ q481) (fun _ h9 => h9) rfl dX2_goMonths_112 ?_
    refine lv_aload_n hx hb dX2_goMonths_115 rfl (lv_at hl 0 rfl) ?_
    refine va_get (D := (dC, dI)) (ci := 2) (v := .int (z_1 19 9)) (C := RX2) (T := TX2) (N := 34) hx hb hts in_X2 hown hK hP 0 rfl rfl 22 (by decide) (hts _ q480) (fun _ h9 => h9) rfl dX2_goMonths_116 ?_
    refine lv_aload_n hx hb dX2_goMonths_119 rfl (lv_at hl 0 rfl) ?_
    refine va_calli (va_runV (As := []) (rest := [.int (z_1 19 9), .ref (a 14)]) ⟨hx, hb, hml, hown, hts⟩ (met_X2_rate l dC dI ct a _ w) (cwV 0 hts (lw_V q667 q669 qs22 q51 q670) rfl rfl rfl hd_X2_rate ⟨Nat.le_of_ble_eq_true rfl, Nat.le_of_ble_eq_true rfl⟩) (pre_V hK hP (hD _ _) hN (va_recv hK hP (ci := 2) (q0 := 0) rfl rfl)) rfl rfl hl.1 rfl (lv_room (Nat.le_of_ble_eq_true rfl)) dX2_goMonths_120 ⟨Nat.le_refl _, Nat.le_refl _⟩) hS (fun q _ h => x_free (hD _ _) hS hA q h) (x_free (hD _ _) hS hA) (fun r2 u t H locs ht hvm w hB hz hk hS => ?_)
    obtain ⟨z_2, g_2⟩ := u
    dsimp only at w
    have hP : va_P (dC, dI) vwCl (MW a ct z_2 g_2) H := post_P hB ht
    obtain ⟨gi, w⟩ := w
    refine va_iast hx hb hK hP (hD _ _) hS 14 0 rfl rfl gi dX2_goMonths_123 (fun H locs hP _ hS => ?_)
    have hP : va_P (dC, dI) vwCl (MW a ct (up2 z_2 13 (z_1 19 9).toNatClampNeg r2) g_2) H := MW_u_z_13 hP
    refine lv_aload_n hx hb dX2_goMonths_124 rfl (lv_at hl 0 rfl) ?_
    refine lv_dup hx hb dX2_goMonths_125 rfl ?_
    refine va_get (D := (dC, dI)) (ci := 2) (v := .int (z_2 19 9)) (C := RX2) (T := TX2) (N := 34) hx hb hts in_X2 hown hK hP 0 rfl rfl 22 (by decide) (hts _ q480) (fun _ h9 => h9) rfl dX2_goMonths_126 ?_
    refine lv_aload_n hx hb dX2_goMonths_129 rfl (lv_at hl 0 rfl) ?_
    refine va_get (D := (dC, dI)) (ci := 2) (v := .ref (a 10)) (C := RX2) (T := TX2) (N := 34) hx hb hts in_X2 hown hK hP 0 rfl rfl 15 (by decide) (hts _ q473) (fun _ h9 => h9) rfl dX2_goMonths_130 ?_
    refine lv_iload_n hx hb dX2_goMonths_133 rfl (lv_at hl 1 rfl) ?_
    obtain ⟨gi, w⟩ := w
    refine va_iald hx hb hK hP 10 0 rfl rfl gi dX2_goMonths_134 ?_
    refine lv_bipush (v := 6) hx hb dX2_goMonths_135 (by decide) ?_
    refine lv_icmp_ne (tgt := 144) hx hb dX2_goMonths_137 (by decide) (fun c => ?_) (fun c => ?_)
    · have w := And.right w c
      refine lv_iconst (v := 0) hx hb dX2_goMonths_144 (by decide) ?_
      exact wk_X2_goMonths_L145 X hD hK19 _ _ _ _ _ w _ _ _ hP hS (lv_sub hl [0, 1] rfl)
    · have w := And.left w c
      refine lv_iconst (v := 1) hx hb dX2_goMonths_140 (by decide) ?_
      refine lv_goto (tgt := 145) hx hb dX2_goMonths_141 (by decide) ?_
      exact wk_X2_goMonths_L145 X hD hK19 _ _ _ _ _ w _ _ _ hP hS (lv_sub hl [0, 1] rfl)
set_option maxHeartbeats 4000000 in
set_option maxRecDepth 100000 in
theorem wk_X2_goMonths_L68 {p : Program} {l : Launch} {e : Env} {s : State} {m : MethodId} {args : Array Value} {below : List Frame} {meth : Method} {c : Code} {dC : Nat → ClassId} {dI : Nat → Nat → Nat} {ct : Nat → ClassId} {A : Nat → Prop} {a : Nat → Nat} {Post : V → VL → Prop} {K19 : Int32 → V → VL → Prop}  (X : CxW p s m args meth c cX2_goMonths 3 none RX2 dC dI ct A) (hD : ∀ (z : V) (g : VL), va_D A (MW a ct z g)) (hK19 : ∀ (i1 : Int32) (z : V) (g : VL), K19 i1 z g → ∀ (H : Heap) (locs : List Loc) (ls : Array Slot), va_P (dC, dI) vwCl (MW a ct z g) H → va_S A s.heap H locs → lv_has ls 3 [(0, .ref (a 0)), (1, .int i1)] → W p l e rm_X2_goMonths s m args below meth c H locs 0 0 (MQ below (va_Qv (fun (u : V × VL) => Post u.1 u.2) (fun (u : V × VL) t => WPos dC dI ct (MW a ct u.1 u.2) A t) A) args s 0 0 A) (F0 m 19 ls [])) (i1 : Int32) (i2 : Int32) (is0 : Int32) (z : V) (g : VL) (w : wp_X2_goMonths_L68  Post K19 i1 i2 is0 z g) : ∀ (H : Heap) (locs : List Loc) (ls : Array Slot), va_P (dC, dI) vwCl (MW a ct z g) H → va_S A s.heap H locs → lv_has ls 3 [(0, .ref (a 0)), (1, .int i1), (2, .int i2)] → W p l e rm_X2_goMonths s m args below meth c H locs 0 0 (MQ below (va_Qv (fun (u : V × VL) => Post u.1 u.2) (fun (u : V × VL) t => WPos dC dI ct (MW a ct u.1 u.2) A t) A) args s 0 0 A) (F0 m 68 ls [.int is0, .ref (a 0)]) := by
  intro H locs ls hP hS hl
  have X0 := X
  obtain ⟨⟨hx, hb, hml, hr, hlk, hown, hts⟩, hA, hK, hN⟩ := X0
  unfold wp_X2_goMonths_L68 at w
  refine va_put (D := (dC, dI)) (ci := 2) (v := .int is0) (ty := .int) (C := RX2) (T := TX2) (N := 34) hx hb hts in_X2 tyX2 tyX2_ok nmX2 hown hK hP (hD _ _) hS 0 rfl rfl 20 (by decide) (hts _ q478) (fun _ h9 => h9) rfl (by decide +kernel) rfl rfl (Nat.le_of_ble_eq_true rfl) dX2_goMonths_68 (fun H locs hP _ hS => ?_)
  have hP : va_P (dC, dI) vwCl (MW a ct (up2 z 19 7 is0) g) H := MW_s_z_7 hP
  refine lv_aload_n hx hb dX2_goMonths_71 rfl (lv_at hl 0 rfl) ?_
  refine lv_iload_n hx hb dX2_goMonths_72 rfl (lv_at hl 2 rfl) ?_
  refine lv_if_le (tgt := 80) hx hb dX2_goMonths_73 (by decide) (fun c => ?_) (fun c => ?_)
  · have w := And.left w c
    refine lv_bipush (v := -6) hx hb dX2_goMonths_80 (by decide) ?_
    exact wk_X2_goMonths_L82 X hD hK19 _ _ _ _ _ w _ _ _ hP hS (lv_sub hl [0, 1, 2] rfl)
  · have w := And.right w c
    refine lv_iload_n hx hb dX2_goMonths_76 rfl (lv_at hl 2 rfl) ?_
    refine lv_goto (tgt := 82) hx hb dX2_goMonths_77 (by decide) ?_
    exact wk_X2_goMonths_L82 X hD hK19 _ _ _ _ _ w _ _ _ hP hS (lv_sub hl [0, 1, 2] rfl)
set_option maxHeartbeats 4000000 in
set_option maxRecDepth 100000 in
theorem wk_X2_goMonths_L155 {p : Program} {l : Launch} {e : Env} {s : State} {m : MethodId} {args : Array Value} {below : List Frame} {meth : Method} {c : Code} {dC : Nat → ClassId} {dI : Nat → Nat → Nat} {ct : Nat → ClassId} {A : Nat → Prop} {a : Nat → Nat} {Post : V → VL → Prop}   (X : CxW p s m args meth c cX2_goMonths 3 none RX2 dC dI ct A) (hD : ∀ (z : V) (g : VL), va_D A (MW a ct z g))  (z : V) (g : VL) (w : wp_X2_goMonths_L155  Post  z g) : ∀ (H : Heap) (locs : List Loc) (ls : Array Slot), va_P (dC, dI) vwCl (MW a ct z g) H → va_S A s.heap H locs → lv_has ls 3 [] → W p l e rm_X2_goMonths s m args below meth c H locs 0 0 (MQ below (va_Qv (fun (u : V × VL) => Post u.1 u.2) (fun (u : V × VL) t => WPos dC dI ct (MW a ct u.1 u.2) A t) A) args s 0 0 A) (F0 m 155 ls []) := by
  intro H locs ls hP hS hl
  have X0 := X
  obtain ⟨⟨hx, hb, hml, hr, hlk, hown, hts⟩, hA, hK, hN⟩ := X0
  unfold wp_X2_goMonths_L155 at w
  exact W.vret hx hb hr (fun t ht hW => ⟨⟨(z, g), rfl, w, by rw [ht]; exact hP, va_K.moved hW.alike hK, (hD _ _)⟩, hS.F ht⟩) hS.2.2 dX2_goMonths_155 hlk
set_option maxHeartbeats 4000000 in
set_option maxRecDepth 100000 in
theorem wk_X2_goMonths_S19 {p : Program} {l : Launch} {e : Env} {s : State} {m : MethodId} {args : Array Value} {below : List Frame} {meth : Method} {c : Code} {dC : Nat → ClassId} {dI : Nat → Nat → Nat} {ct : Nat → ClassId} {A : Nat → Prop} {a : Nat → Nat} {Post : V → VL → Prop} {K19 : Int32 → V → VL → Prop}  (X : CxW p s m args meth c cX2_goMonths 3 none RX2 dC dI ct A) (hD : ∀ (z : V) (g : VL), va_D A (MW a ct z g)) (hK19 : ∀ (i1 : Int32) (z : V) (g : VL), K19 i1 z g → ∀ (H : Heap) (locs : List Loc) (ls : Array Slot), va_P (dC, dI) vwCl (MW a ct z g) H → va_S A s.heap H locs → lv_has ls 3 [(0, .ref (a 0)), (1, .int i1)] → W p l e rm_X2_goMonths s m args below meth c H locs 0 0 (MQ below (va_Qv (fun (u : V × VL) => Post u.1 u.2) (fun (u : V × VL) t => WPos dC dI ct (MW a ct u.1 u.2) A t) A) args s 0 0 A) (F0 m 19 ls [])) (i1 : Int32) (z : V) (g : VL) (w : wp_X2_goMonths_S19  Post K19 i1 z g) : ∀ (H : Heap) (locs : List Loc) (ls : Array Slot), va_P (dC, dI) vwCl (MW a ct z g) H → va_S A s.heap H locs → lv_has ls 3 [(0, .ref (a 0)), (1, .int i1)] → W p l e rm_X2_goMonths s m args below meth c H locs 0 0 (MQ below (va_Qv (fun (u : V × VL) => Post u.1 u.2) (fun (u : V × VL) t => WPos dC dI ct (MW a ct u.1 u.2) A t) A) args s 0 0 A) (F0 m 19 ls []) := by
  intro H locs ls hP hS hl
  have X0 := X
  obtain ⟨⟨hx, hb, hml, hr, hlk, hown, hts⟩, hA, hK, hN⟩ := X0
  unfold wp_X2_goMonths_S19 at w
  refine lv_iload_n hx hb dX2_goMonths_19 rfl (lv_at hl 1 rfl) ?_
  refine lv_aload_n hx hb dX2_goMonths_20 rfl (lv_at hl 0 rfl) ?_
  refine va_get (D := (dC, dI)) (ci := 2) (v := .int (z 19 6)) (C := RX2) (T := TX2) (N := 34) hx hb hts in_X2 hown hK hP 0 rfl rfl 18 (by decide) (hts _ q476) (fun _ h9 => h9) rfl dX2_goMonths_21 ?_
  refine lv_icmp_ge (tgt := 155) hx hb dX2_goMonths_24 (by decide) (fun c => ?_) (fun c => ?_)
  · have w := And.left w c
    exact wk_X2_goMonths_L155 X hD  _ _ w _ _ _ hP hS (lv_sub hl [] rfl)
  · have w := And.right w c
    refine lv_aload_n hx hb dX2_goMonths_27 rfl (lv_at hl 0 rfl) ?_
    refine va_get (D := (dC, dI)) (ci := 2) (v := .int (z 19 7)) (C := RX2) (T := TX2) (N := 34) hx hb hts in_X2 hown hK hP 0 rfl rfl 20 (by decide) (hts _ q478) (fun _ h9 => h9) rfl dX2_goMonths_28 ?_
    refine lv_if_ge (tgt := 155) hx hb dX2_goMonths_31 (by decide) (fun c => ?_) (fun c => ?_)
    · have w := And.left w c
      exact wk_X2_goMonths_L155 X hD  _ _ w _ _ _ hP hS (lv_sub hl [] rfl)
    · have w := And.right w c
      refine lv_aload_n hx hb dX2_goMonths_34 rfl (lv_at hl 0 rfl) ?_
      refine lv_aload_n hx hb dX2_goMonths_35 rfl (lv_at hl 0 rfl) ?_
      refine va_get (D := (dC, dI)) (ci := 2) (v := .ref (a 10)) (C := RX2) (T := TX2) (N := 34) hx hb hts in_X2 hown hK hP 0 rfl rfl 15 (by decide) (hts _ q473) (fun _ h9 => h9) rfl dX2_goMonths_36 ?_
      refine lv_iload_n hx hb dX2_goMonths_39 rfl (lv_at hl 1 rfl) ?_
      obtain ⟨gi, w⟩ := w
      refine va_iald hx hb hK hP 10 0 rfl rfl gi dX2_goMonths_40 ?_
      refine lv_aload_n hx hb dX2_goMonths_41 rfl (lv_at hl 0 rfl) ?_
      refine va_get (D := (dC, dI)) (ci := 2) (v := .ref (a 11)) (C := RX2) (T := TX2) (N := 34) hx hb hts in_X2 hown hK hP 0 rfl rfl 16 (by decide) (hts _ q474) (fun _ h9 => h9) rfl dX2_goMonths_42 ?_
      refine lv_iload_n hx hb dX2_goMonths_45 rfl (lv_at hl 1 rfl) ?_
      obtain ⟨gi, w⟩ := w
      refine va_iald hx hb hK hP 11 0 rfl rfl gi dX2_goMonths_46 ?_
      refine lv_aload_n hx hb dX2_goMonths_47 rfl (lv_at hl 0 rfl) ?_
      refine va_get (D := (dC, dI)) (ci := 2) (v := .ref (a 12)) (C := RX2) (T := TX2) (N := 34) hx hb hts in_X2 hown hK hP 0 rfl rfl 17 (by decide) (hts _ q475) (fun _ h9 => h9) rfl dX2_goMonths_48 ?_
      refine lv_iload_n hx hb dX2_goMonths_51 rfl (lv_at hl 1 rfl) ?_
      obtain ⟨gi, w⟩ := w
      refine va_iald hx hb hK hP 12 0 rfl rfl gi dX2_goMonths_52 ?_
      refine va_calli (va_runV (As := [.int (z 9 i1.toNatClampNeg), .int (z 10 i1.toNatClampNeg), .int (z 11 i1.toNatClampNeg)]) (rest := []) ⟨hx, hb, hml, hown, hts⟩ (met_X2_whyNot l dC dI ct a _ w) (cwV 3 hts (lw_V q654 q656 qs19 q51 q657) rfl rfl rfl hd_X2_whyNot ⟨Nat.le_of_ble_eq_true rfl, Nat.le_of_ble_eq_true rfl⟩) (pre_V hK hP (hD _ _) hN (va_recv hK hP (ci := 2) (q0 := 0) rfl rfl)) rfl rfl hl.1 rfl (lv_room (Nat.le_of_ble_eq_true rfl)) dX2_goMonths_53 ⟨Nat.le_refl _, Nat.le_refl _⟩) hS (fun q _ h => x_free (hD _ _) hS hA q h) (x_free (hD _ _) hS hA) (fun r1 u t H locs ht hvm w hB hz hk hS => ?_)
      obtain ⟨z_1, g_1⟩ := u
      dsimp only at w
      have hP : va_P (dC, dI) vwCl (MW a ct z_1 g_1) H := post_P hB ht
      refine lv_istore_n (lv' := [(2, .int r1), (0, .ref (a 0)), (1, .int i1)]) hx hb dX2_goMonths_56 rfl hl (by decide) rfl (fun ls hl => ?_)
      refine lv_aload_n hx hb dX2_goMonths_57 rfl (lv_at hl 1 rfl) ?_
      refine lv_iload_n hx hb dX2_goMonths_58 rfl (lv_at hl 0 rfl) ?_
      refine lv_if_le (tgt := 66) hx hb dX2_goMonths_59 (by decide) (fun c => ?_) (fun c => ?_)
      · have w := And.left w c
        refine lv_bipush (v := -6) hx hb dX2_goMonths_66 (by decide) ?_
        exact wk_X2_goMonths_L68 X hD hK19 _ _ _ _ _ w _ _ _ hP hS (lv_sub hl [1, 2, 0] rfl)
      · have w := And.right w c
        refine lv_iload_n hx hb dX2_goMonths_62 rfl (lv_at hl 2 rfl) ?_
        refine lv_goto (tgt := 68) hx hb dX2_goMonths_63 (by decide) ?_
        exact wk_X2_goMonths_L68 X hD hK19 _ _ _ _ _ w _ _ _ hP hS (lv_sub hl [1, 2, 0] rfl)
set_option maxHeartbeats 4000000 in
set_option maxRecDepth 100000 in
theorem wk_X2_goMonths_L19 {p : Program} {l : Launch} {e : Env} {s : State} {m : MethodId} {args : Array Value} {below : List Frame} {meth : Method} {c : Code} {dC : Nat → ClassId} {dI : Nat → Nat → Nat} {ct : Nat → ClassId} {A : Nat → Prop} {a : Nat → Nat} {Post : V → VL → Prop}   (X : CxW p s m args meth c cX2_goMonths 3 none RX2 dC dI ct A) (hD : ∀ (z : V) (g : VL), va_D A (MW a ct z g))  : ∀ (n : Nat) (i1 : Int32) (z : V) (g : VL), wp_X2_goMonths_L19  Post  n i1 z g → ∀ (H : Heap) (locs : List Loc) (ls : Array Slot), va_P (dC, dI) vwCl (MW a ct z g) H → va_S A s.heap H locs → lv_has ls 3 [(0, .ref (a 0)), (1, .int i1)] → W p l e rm_X2_goMonths s m args below meth c H locs 0 0 (MQ below (va_Qv (fun (u : V × VL) => Post u.1 u.2) (fun (u : V × VL) t => WPos dC dI ct (MW a ct u.1 u.2) A t) A) args s 0 0 A) (F0 m 19 ls []) := by
  intro n
  induction n with
  | zero => intro i1 z g w; exact False.elim w
  | succ n ih => intro i1 z g w H locs ls hP hS hl; exact wk_X2_goMonths_S19 X hD  ih i1 z g w H locs ls hP hS hl
set_option maxHeartbeats 4000000 in
set_option maxRecDepth 100000 in
theorem met_X2_goMonths (l : Launch) (dC : Nat → ClassId) (dI : Nat → Nat → Nat) (ct : Nat → ClassId) (a : Nat → Nat) (sz : Nat)  {z : V} {g : VL} {Post : V → VL → Prop} (w : wp_X2_goMonths z g Post) : Met l yX2_goMonths (ws_ yX2_goMonths cX2_goMonths 3 none) rm_X2_goMonths (va_Pc [.ref (a 0)] (fun U => WPre dC dI ct (MW a ct z g) sz U)) ((fun A => (va_Qv (fun (u : V × VL) => Post u.1 u.2) (fun (u : V × VL) t => WPos dC dI ct (MW a ct u.1 u.2) A t) A)) (va_A (MW a ct z g) sz)) 0 0 (va_A (MW a ct z g) sz) := by
  refine open_W (fun A => (va_Qv (fun (u : V × VL) => Post u.1 u.2) (fun (u : V × VL) t => WPos dC dI ct (MW a ct u.1 u.2) A t) A)) (by decide) (Nat.le_of_ble_eq_true rfl) ?_
  intro p e s m args below meth c ls A X hD0 hP hS hl
  have X0 := X
  obtain ⟨⟨hx, hb, hml, hr, hlk, hown, hts⟩, hA, hK, hN⟩ := X0
  have hD : ∀ (z' : V) (g' : VL), va_D A (MW a ct z' g') := fun z' g' => va_D_addr hD0 rfl
  have hl : lv_has ls 3 [(0, .ref (a 0))] := hl
  unfold wp_X2_goMonths at w
  have hS0 := hS
  refine lv_aload_n hx hb dX2_goMonths_0 rfl (lv_at hl 0 rfl) ?_
  refine lv_bipush (v := -6) hx hb dX2_goMonths_1 (by decide) ?_
  refine va_put (D := (dC, dI)) (ci := 2) (v := .int (-6 : Int32)) (ty := .int) (C := RX2) (T := TX2) (N := 34) hx hb hts in_X2 tyX2 tyX2_ok nmX2 hown hK hP (hD _ _) hS 0 rfl rfl 20 (by decide) (hts _ q478) (fun _ h9 => h9) rfl (by decide +kernel) rfl rfl (Nat.le_of_ble_eq_true rfl) dX2_goMonths_3 (fun H locs hP _ hS => ?_)
  have hP : va_P (dC, dI) vwCl (MW a ct (up2 z 19 7 (-6 : Int32)) g) H := MW_s_z_7 hP
  refine lv_aload_n hx hb dX2_goMonths_6 rfl (lv_at hl 0 rfl) ?_
  refine lv_bipush (v := -6) hx hb dX2_goMonths_7 (by decide) ?_
  refine va_put (D := (dC, dI)) (ci := 2) (v := .int (-6 : Int32)) (ty := .int) (C := RX2) (T := TX2) (N := 34) hx hb hts in_X2 tyX2 tyX2_ok nmX2 hown hK hP (hD _ _) hS 0 rfl rfl 21 (by decide) (hts _ q479) (fun _ h9 => h9) rfl (by decide +kernel) rfl rfl (Nat.le_of_ble_eq_true rfl) dX2_goMonths_9 (fun H locs hP _ hS => ?_)
  have hP : va_P (dC, dI) vwCl (MW a ct (up2 (up2 z 19 7 (-6 : Int32)) 19 8 (-6 : Int32)) g) H := MW_s_z_8 hP
  refine lv_aload_n hx hb dX2_goMonths_12 rfl (lv_at hl 0 rfl) ?_
  refine lv_iconst (v := 0) hx hb dX2_goMonths_13 (by decide) ?_
  refine va_put (D := (dC, dI)) (ci := 2) (v := .int (0 : Int32)) (ty := .int) (C := RX2) (T := TX2) (N := 34) hx hb hts in_X2 tyX2 tyX2_ok nmX2 hown hK hP (hD _ _) hS 0 rfl rfl 22 (by decide) (hts _ q480) (fun _ h9 => h9) rfl (by decide +kernel) rfl rfl (Nat.le_of_ble_eq_true rfl) dX2_goMonths_14 (fun H locs hP _ hS => ?_)
  have hP : va_P (dC, dI) vwCl (MW a ct (up2 (up2 (up2 z 19 7 (-6 : Int32)) 19 8 (-6 : Int32)) 19 9 (0 : Int32)) g) H := MW_s_z_9 hP
  refine lv_iconst (v := 0) hx hb dX2_goMonths_17 (by decide) ?_
  refine lv_istore_n (lv' := [(1, .int (0 : Int32)), (0, .ref (a 0))]) hx hb dX2_goMonths_18 rfl hl (by decide) rfl (fun ls hl => ?_)
  obtain ⟨n, w⟩ := w
  exact wk_X2_goMonths_L19 X hD  n _ _ _ w _ _ _ hP hS (lv_sub hl [1, 0] rfl)
abbrev rm_X2_refusal : Room := { frames := 6, cells := 0, slots := 0, locals := 132 }
theorem hd_X2_refusal : yX2_refusal.cls = RX2 ∧ yX2_refusal.cls ≠ "java/lang/invoke/MethodHandle" ∧ yX2_refusal.cls ≠ "java/lang/invoke/VarHandle" ∧ (parseMethodDescriptor yX2_refusal.desc).map (fun d => d.parameters.length) = some 0 := by decide +kernel
set_option maxHeartbeats 4000000 in
set_option maxRecDepth 100000 in
theorem wk_X2_refusal_L32 {p : Program} {l : Launch} {e : Env} {s : State} {m : MethodId} {args : Array Value} {below : List Frame} {meth : Method} {c : Code} {dC : Nat → ClassId} {dI : Nat → Nat → Nat} {ct : Nat → ClassId} {A : Nat → Prop} {a : Nat → Nat} {Post : Int32 → V → VL → Prop}   (X : CxW p s m args meth c cX2_refusal 1 (some .int) RX2 dC dI ct A) (hD : ∀ (z : V) (g : VL), va_D A (MW a ct z g))  (is0 : Int32) (z : V) (g : VL) (w : wp_X2_refusal_L32  Post  is0 z g) : ∀ (H : Heap) (locs : List Loc) (ls : Array Slot), va_P (dC, dI) vwCl (MW a ct z g) H → va_S A s.heap H locs → lv_has ls 1 [] → W p l e rm_X2_refusal s m args below meth c H locs 0 0 (MQ below (va_Qi (fun (r : Int32) (u : V × VL) => Post r u.1 u.2) (fun (u : V × VL) t => WPos dC dI ct (MW a ct u.1 u.2) A t) A) args s 0 0 A) (F0 m 32 ls [.int is0]) := by
  intro H locs ls hP hS hl
  have X0 := X
  obtain ⟨⟨hx, hb, hml, hr, hlk, hown, hts⟩, hA, hK, hN⟩ := X0
  unfold wp_X2_refusal_L32 at w
  exact W.iret (v := is0) hx hb hr (fun t ht hW => ⟨⟨is0, (z, g), rfl, w, by rw [ht]; exact hP, va_K.moved hW.alike hK, (hD _ _)⟩, hS.F ht⟩) hS.2.2 dX2_refusal_32 hlk
set_option maxHeartbeats 4000000 in
set_option maxRecDepth 100000 in
theorem met_X2_refusal (l : Launch) (dC : Nat → ClassId) (dI : Nat → Nat → Nat) (ct : Nat → ClassId) (a : Nat → Nat) (sz : Nat)  {z : V} {g : VL} {Post : Int32 → V → VL → Prop} (w : wp_X2_refusal z g Post) : Met l yX2_refusal (ws_ yX2_refusal cX2_refusal 1 (some .int)) rm_X2_refusal (va_Pc [.ref (a 0)] (fun U => WPre dC dI ct (MW a ct z g) sz U)) ((fun A => (va_Qi (fun (r : Int32) (u : V × VL) => Post r u.1 u.2) (fun (u : V × VL) t => WPos dC dI ct (MW a ct u.1 u.2) A t) A)) (va_A (MW a ct z g) sz)) 0 0 (va_A (MW a ct z g) sz) := by
  refine open_W (fun A => (va_Qi (fun (r : Int32) (u : V × VL) => Post r u.1 u.2) (fun (u : V × VL) t => WPos dC dI ct (MW a ct u.1 u.2) A t) A)) (by decide) (Nat.le_of_ble_eq_true rfl) ?_
  intro p e s m args below meth c ls A X hD0 hP hS hl
  have X0 := X
  obtain ⟨⟨hx, hb, hml, hr, hlk, hown, hts⟩, hA, hK, hN⟩ := X0
  have hD : ∀ (z' : V) (g' : VL), va_D A (MW a ct z' g') := fun z' g' => va_D_addr hD0 rfl
  have hl : lv_has ls 1 [(0, .ref (a 0))] := hl
  unfold wp_X2_refusal at w
  have hS0 := hS
  refine lv_aload_n hx hb dX2_refusal_0 rfl (lv_at hl 0 rfl) ?_
  refine va_callv (va_runV (As := []) (rest := []) ⟨hx, hb, hml, hown, hts⟩ (met_X2_keepNow l dC dI ct a _ w) (cwV 0 hts (lw_V q645 q647 qs17 q51 q648) rfl rfl rfl hd_X2_keepNow ⟨Nat.le_of_ble_eq_true rfl, Nat.le_of_ble_eq_true rfl⟩) (pre_V hK hP (hD _ _) hN (va_recv hK hP (ci := 2) (q0 := 0) rfl rfl)) rfl rfl hl.1 rfl (lv_room (Nat.le_of_ble_eq_true rfl)) dX2_refusal_1 ⟨Nat.le_refl _, Nat.le_refl _⟩) hS (fun q _ h => x_free (hD _ _) hS hA q h) (x_free (hD _ _) hS hA) (fun  u t H locs ht hvm w hB hz hk hS => ?_)
  obtain ⟨z_1, g_1⟩ := u
  dsimp only at w
  have hP : va_P (dC, dI) vwCl (MW a ct z_1 g_1) H := post_P hB ht
  refine lv_aload_n hx hb dX2_refusal_4 rfl (lv_at hl 0 rfl) ?_
  refine va_calli (va_runV (As := []) (rest := []) ⟨hx, hb, hml, hown, hts⟩ (met_X2_fault l dC dI ct a _ w) (cwV 0 hts (lw_V q649 q601 q602 q51 q603) rfl rfl rfl hd_X2_fault ⟨Nat.le_of_ble_eq_true rfl, Nat.le_of_ble_eq_true rfl⟩) (pre_V hK hP (hD _ _) hN (va_recv hK hP (ci := 2) (q0 := 0) rfl rfl)) rfl rfl hl.1 rfl (lv_room (Nat.le_of_ble_eq_true rfl)) dX2_refusal_5 ⟨Nat.le_refl _, Nat.le_refl _⟩) hS (fun q _ h => x_free (hD _ _) hS hA q h) (x_free (hD _ _) hS hA) (fun r2 u t H locs ht hvm w hB hz hk hS => ?_)
  obtain ⟨z_2, g_2⟩ := u
  dsimp only at w
  have hP : va_P (dC, dI) vwCl (MW a ct z_2 g_2) H := post_P hB ht
  refine lv_if_lt (tgt := 14) hx hb dX2_refusal_8 (by decide) (fun c => ?_) (fun c => ?_)
  · have w := And.left w c
    refine lv_aload_n hx hb dX2_refusal_14 rfl (lv_at hl 0 rfl) ?_
    refine va_callv (va_runV (As := []) (rest := []) ⟨hx, hb, hml, hown, hts⟩ (met_X2_goMonths l dC dI ct a _ w) (cwV 0 hts (lw_V q650 q652 qs18 q51 q653) rfl rfl rfl hd_X2_goMonths ⟨Nat.le_of_ble_eq_true rfl, Nat.le_of_ble_eq_true rfl⟩) (pre_V hK hP (hD _ _) hN (va_recv hK hP (ci := 2) (q0 := 0) rfl rfl)) rfl rfl hl.1 rfl (lv_room (Nat.le_of_ble_eq_true rfl)) dX2_refusal_15 ⟨Nat.le_refl _, Nat.le_refl _⟩) hS (fun q _ h => x_free (hD _ _) hS hA q h) (x_free (hD _ _) hS hA) (fun  u t H locs ht hvm w hB hz hk hS => ?_)
    obtain ⟨z_3, g_3⟩ := u
    dsimp only at w
    have hP : va_P (dC, dI) vwCl (MW a ct z_3 g_3) H := post_P hB ht
    refine lv_aload_n hx hb dX2_refusal_18 rfl (lv_at hl 0 rfl) ?_
    refine va_get (D := (dC, dI)) (ci := 2) (v := .int (z_3 19 7)) (C := RX2) (T := TX2) (N := 34) hx hb hts in_X2 hown hK hP 0 rfl rfl 20 (by decide) (hts _ q478) (fun _ h9 => h9) rfl dX2_refusal_19 ?_
    refine lv_if_lt (tgt := 30) hx hb dX2_refusal_22 (by decide) (fun c => ?_) (fun c => ?_)
    · have w := And.left w c
      refine lv_bipush (v := -6) hx hb dX2_refusal_30 (by decide) ?_
      exact wk_X2_refusal_L32 X hD  _ _ _ w _ _ _ hP hS (lv_sub hl [] rfl)
    · have w := And.right w c
      refine lv_bipush (v := -3) hx hb dX2_refusal_25 (by decide) ?_
      refine lv_goto (tgt := 32) hx hb dX2_refusal_27 (by decide) ?_
      exact wk_X2_refusal_L32 X hD  _ _ _ w _ _ _ hP hS (lv_sub hl [] rfl)
  · have w := And.right w c
    refine lv_bipush (v := -5) hx hb dX2_refusal_11 (by decide) ?_
    exact W.iret (v := (-5 : Int32)) hx hb hr (fun t ht hW => ⟨⟨(-5 : Int32), (z_2, g_2), rfl, w, by rw [ht]; exact hP, va_K.moved hW.alike hK, (hD _ _)⟩, hS.F ht⟩) hS.2.2 dX2_refusal_13 hlk
abbrev rm_X2_back : Room := { frames := 0, cells := 0, slots := 0, locals := 0 }
theorem hd_X2_back : yX2_back.cls = RX2 ∧ yX2_back.cls ≠ "java/lang/invoke/MethodHandle" ∧ yX2_back.cls ≠ "java/lang/invoke/VarHandle" ∧ (parseMethodDescriptor yX2_back.desc).map (fun d => d.parameters.length) = some 1 := by decide +kernel
set_option maxHeartbeats 4000000 in
set_option maxRecDepth 100000 in
theorem wk_X2_back_S72 {p : Program} {l : Launch} {e : Env} {s : State} {m : MethodId} {args : Array Value} {below : List Frame} {meth : Method} {c : Code} {dC : Nat → ClassId} {dI : Nat → Nat → Nat} {ct : Nat → ClassId} {A : Nat → Prop} {a : Nat → Nat} {Post : Int32 → V → VL → Prop} {K72 : Int32 → Int32 → V → VL → Prop}  (X : CxW p s m args meth c cX2_back 3 (some .int) RX2 dC dI ct A) (hD : ∀ (z : V) (g : VL), va_D A (MW a ct z g)) (hK72 : ∀ (i1 : Int32) (i2 : Int32) (z : V) (g : VL), K72 i1 i2 z g → ∀ (H : Heap) (locs : List Loc) (ls : Array Slot), va_P (dC, dI) vwCl (MW a ct z g) H → va_S A s.heap H locs → lv_has ls 3 [(0, .ref (a 0)), (1, .int i1), (2, .int i2)] → W p l e rm_X2_back s m args below meth c H locs 0 0 (MQ below (va_Qi (fun (r : Int32) (u : V × VL) => Post r u.1 u.2) (fun (u : V × VL) t => WPos dC dI ct (MW a ct u.1 u.2) A t) A) args s 0 0 A) (F0 m 72 ls [])) (i1 : Int32) (i2 : Int32) (z : V) (g : VL) (w : wp_X2_back_S72  Post K72 i1 i2 z g) : ∀ (H : Heap) (locs : List Loc) (ls : Array Slot), va_P (dC, dI) vwCl (MW a ct z g) H → va_S A s.heap H locs → lv_has ls 3 [(0, .ref (a 0)), (1, .int i1), (2, .int i2)] → W p l e rm_X2_back s m args below meth c H locs 0 0 (MQ below (va_Qi (fun (r : Int32) (u : V × VL) => Post r u.1 u.2) (fun (u : V × VL) t => WPos dC dI ct (MW a ct u.1 u.2) A t) A) args s 0 0 A) (F0 m 72 ls []) := by
  intro H locs ls hP hS hl
  have X0 := X
  obtain ⟨⟨hx, hb, hml, hr, hlk, hown, hts⟩, hA, hK, hN⟩ := X0
  unfold wp_X2_back_S72 at w
  refine lv_iload_n hx hb dX2_back_72 rfl (lv_at hl 2 rfl) ?_
  refine lv_bipush (v := 8) hx hb dX2_back_73 (by decide) ?_
  refine lv_icmp_ge (tgt := 99) hx hb dX2_back_75 (by decide) (fun c => ?_) (fun c => ?_)
  · have w := And.left w c
    refine lv_aload_n hx hb dX2_back_99 rfl (lv_at hl 0 rfl) ?_
    refine lv_aload_n hx hb dX2_back_100 rfl (lv_at hl 0 rfl) ?_
    refine va_get (D := (dC, dI)) (ci := 2) (v := .ref (a 13)) (C := RX2) (T := TX2) (N := 34) hx hb hts in_X2 hown hK hP 0 rfl rfl 19 (by decide) (hts _ q477) (fun _ h9 => h9) rfl dX2_back_101 ?_
    refine lv_bipush (v := 56) hx hb dX2_back_104 (by decide) ?_
    refine va_iald hx hb hK hP 13 0 rfl rfl (x_vin (by decide)) dX2_back_106 ?_
    refine va_put (D := (dC, dI)) (ci := 2) (v := .int (z 12 (56 : Int32).toNatClampNeg)) (ty := .int) (C := RX2) (T := TX2) (N := 34) hx hb hts in_X2 tyX2 tyX2_ok nmX2 hown hK hP (hD _ _) hS 0 rfl rfl 5 (by decide) (hts _ q463) (fun _ h9 => h9) rfl (by decide +kernel) rfl rfl (Nat.le_of_ble_eq_true rfl) dX2_back_107 (fun H locs hP _ hS => ?_)
    have hP : va_P (dC, dI) vwCl (MW a ct (up2 z 19 0 (z 12 (56 : Int32).toNatClampNeg)) g) H := MW_s_z_0 hP
    refine lv_aload_n hx hb dX2_back_110 rfl (lv_at hl 0 rfl) ?_
    refine lv_aload_n hx hb dX2_back_111 rfl (lv_at hl 0 rfl) ?_
    refine va_get (D := (dC, dI)) (ci := 2) (v := .ref (a 13)) (C := RX2) (T := TX2) (N := 34) hx hb hts in_X2 hown hK hP 0 rfl rfl 19 (by decide) (hts _ q477) (fun _ h9 => h9) rfl dX2_back_112 ?_
    refine lv_bipush (v := 57) hx hb dX2_back_115 (by decide) ?_
    refine va_iald hx hb hK hP 13 0 rfl rfl (x_vin (by decide)) dX2_back_117 ?_
    refine va_put (D := (dC, dI)) (ci := 2) (v := .int (z 12 (57 : Int32).toNatClampNeg)) (ty := .int) (C := RX2) (T := TX2) (N := 34) hx hb hts in_X2 tyX2 tyX2_ok nmX2 hown hK hP (hD _ _) hS 0 rfl rfl 6 (by decide) (hts _ q464) (fun _ h9 => h9) rfl (by decide +kernel) rfl rfl (Nat.le_of_ble_eq_true rfl) dX2_back_118 (fun H locs hP _ hS => ?_)
    have hP : va_P (dC, dI) vwCl (MW a ct (up2 (up2 z 19 0 (z 12 (56 : Int32).toNatClampNeg)) 19 1 (z 12 (57 : Int32).toNatClampNeg)) g) H := MW_s_z_1 hP
    refine lv_aload_n hx hb dX2_back_121 rfl (lv_at hl 0 rfl) ?_
    refine lv_aload_n hx hb dX2_back_122 rfl (lv_at hl 0 rfl) ?_
    refine va_get (D := (dC, dI)) (ci := 2) (v := .ref (a 13)) (C := RX2) (T := TX2) (N := 34) hx hb hts in_X2 hown hK hP 0 rfl rfl 19 (by decide) (hts _ q477) (fun _ h9 => h9) rfl dX2_back_123 ?_
    refine lv_bipush (v := 58) hx hb dX2_back_126 (by decide) ?_
    refine va_iald hx hb hK hP 13 0 rfl rfl (x_vin (by decide)) dX2_back_128 ?_
    refine va_put (D := (dC, dI)) (ci := 2) (v := .int (z 12 (58 : Int32).toNatClampNeg)) (ty := .int) (C := RX2) (T := TX2) (N := 34) hx hb hts in_X2 tyX2 tyX2_ok nmX2 hown hK hP (hD _ _) hS 0 rfl rfl 7 (by decide) (hts _ q465) (fun _ h9 => h9) rfl (by decide +kernel) rfl rfl (Nat.le_of_ble_eq_true rfl) dX2_back_129 (fun H locs hP _ hS => ?_)
    have hP : va_P (dC, dI) vwCl (MW a ct (up2 (up2 (up2 z 19 0 (z 12 (56 : Int32).toNatClampNeg)) 19 1 (z 12 (57 : Int32).toNatClampNeg)) 19 2 (z 12 (58 : Int32).toNatClampNeg)) g) H := MW_s_z_2 hP
    refine lv_aload_n hx hb dX2_back_132 rfl (lv_at hl 0 rfl) ?_
    refine lv_aload_n hx hb dX2_back_133 rfl (lv_at hl 0 rfl) ?_
    refine va_get (D := (dC, dI)) (ci := 2) (v := .ref (a 13)) (C := RX2) (T := TX2) (N := 34) hx hb hts in_X2 hown hK hP 0 rfl rfl 19 (by decide) (hts _ q477) (fun _ h9 => h9) rfl dX2_back_134 ?_
    refine lv_bipush (v := 59) hx hb dX2_back_137 (by decide) ?_
    refine va_iald hx hb hK hP 13 0 rfl rfl (x_vin (by decide)) dX2_back_139 ?_
    refine va_put (D := (dC, dI)) (ci := 2) (v := .int (z 12 (59 : Int32).toNatClampNeg)) (ty := .int) (C := RX2) (T := TX2) (N := 34) hx hb hts in_X2 tyX2 tyX2_ok nmX2 hown hK hP (hD _ _) hS 0 rfl rfl 8 (by decide) (hts _ q466) (fun _ h9 => h9) rfl (by decide +kernel) rfl rfl (Nat.le_of_ble_eq_true rfl) dX2_back_140 (fun H locs hP _ hS => ?_)
    have hP : va_P (dC, dI) vwCl (MW a ct (up2 (up2 (up2 (up2 z 19 0 (z 12 (56 : Int32).toNatClampNeg)) 19 1 (z 12 (57 : Int32).toNatClampNeg)) 19 2 (z 12 (58 : Int32).toNatClampNeg)) 19 3 (z 12 (59 : Int32).toNatClampNeg)) g) H := MW_s_z_3 hP
    refine lv_iload_n hx hb dX2_back_143 rfl (lv_at hl 1 rfl) ?_
    exact W.iret (v := i1) hx hb hr (fun t ht hW => ⟨⟨i1, ((up2 (up2 (up2 (up2 z 19 0 (z 12 (56 : Int32).toNatClampNeg)) 19 1 (z 12 (57 : Int32).toNatClampNeg)) 19 2 (z 12 (58 : Int32).toNatClampNeg)) 19 3 (z 12 (59 : Int32).toNatClampNeg)), g), rfl, w, by rw [ht]; exact hP, va_K.moved hW.alike hK, (hD _ _)⟩, hS.F ht⟩) hS.2.2 dX2_back_144 hlk
  · have w := And.right w c
    refine lv_aload_n hx hb dX2_back_78 rfl (lv_at hl 0 rfl) ?_
    refine va_get (D := (dC, dI)) (ci := 2) (v := .ref (a 5)) (C := RX2) (T := TX2) (N := 34) hx hb hts in_X2 hown hK hP 0 rfl rfl 4 (by decide) (hts _ q462) (fun _ h9 => h9) rfl dX2_back_79 ?_
    refine lv_iload_n hx hb dX2_back_82 rfl (lv_at hl 2 rfl) ?_
    refine lv_aload_n hx hb dX2_back_83 rfl (lv_at hl 0 rfl) ?_
    refine va_get (D := (dC, dI)) (ci := 2) (v := .ref (a 13)) (C := RX2) (T := TX2) (N := 34) hx hb hts in_X2 hown hK hP 0 rfl rfl 19 (by decide) (hts _ q477) (fun _ h9 => h9) rfl dX2_back_84 ?_
    refine lv_bipush (v := 48) hx hb dX2_back_87 (by decide) ?_
    refine lv_iload_n hx hb dX2_back_89 rfl (lv_at hl 2 rfl) ?_
    refine lv_iadd hx hb dX2_back_90 ?_
    obtain ⟨gi, w⟩ := w
    refine va_iald hx hb hK hP 13 0 rfl rfl gi dX2_back_91 ?_
    obtain ⟨gi, w⟩ := w
    refine va_iast hx hb hK hP (hD _ _) hS 5 0 rfl rfl gi dX2_back_92 (fun H locs hP _ hS => ?_)
    have hP : va_P (dC, dI) vwCl (MW a ct (up2 z 4 i2.toNatClampNeg (z 12 ((48 : Int32) + i2).toNatClampNeg)) g) H := MW_u_z_4 hP
    refine lv_iinc (v := (i2 + 1)) (lv' := [(2, .int (i2 + 1)), (0, .ref (a 0)), (1, .int i1)]) hx hb dX2_back_93 hl (k := 2) rfl rfl (by decide) rfl (fun ls hl => ?_)
    refine lv_goto (tgt := 72) hx hb dX2_back_96 (by decide) ?_
    exact hK72 _ _ _ _ w _ _ _ hP hS (lv_sub hl [1, 2, 0] rfl)
set_option maxHeartbeats 4000000 in
set_option maxRecDepth 100000 in
theorem wk_X2_back_L72 {p : Program} {l : Launch} {e : Env} {s : State} {m : MethodId} {args : Array Value} {below : List Frame} {meth : Method} {c : Code} {dC : Nat → ClassId} {dI : Nat → Nat → Nat} {ct : Nat → ClassId} {A : Nat → Prop} {a : Nat → Nat} {Post : Int32 → V → VL → Prop}   (X : CxW p s m args meth c cX2_back 3 (some .int) RX2 dC dI ct A) (hD : ∀ (z : V) (g : VL), va_D A (MW a ct z g))  : ∀ (n : Nat) (i1 : Int32) (i2 : Int32) (z : V) (g : VL), wp_X2_back_L72  Post  n i1 i2 z g → ∀ (H : Heap) (locs : List Loc) (ls : Array Slot), va_P (dC, dI) vwCl (MW a ct z g) H → va_S A s.heap H locs → lv_has ls 3 [(0, .ref (a 0)), (1, .int i1), (2, .int i2)] → W p l e rm_X2_back s m args below meth c H locs 0 0 (MQ below (va_Qi (fun (r : Int32) (u : V × VL) => Post r u.1 u.2) (fun (u : V × VL) t => WPos dC dI ct (MW a ct u.1 u.2) A t) A) args s 0 0 A) (F0 m 72 ls []) := by
  intro n
  induction n with
  | zero => intro i1 i2 z g w; exact False.elim w
  | succ n ih => intro i1 i2 z g w H locs ls hP hS hl; exact wk_X2_back_S72 X hD  ih i1 i2 z g w H locs ls hP hS hl
set_option maxHeartbeats 4000000 in
set_option maxRecDepth 100000 in
theorem wk_X2_back_S43 {p : Program} {l : Launch} {e : Env} {s : State} {m : MethodId} {args : Array Value} {below : List Frame} {meth : Method} {c : Code} {dC : Nat → ClassId} {dI : Nat → Nat → Nat} {ct : Nat → ClassId} {A : Nat → Prop} {a : Nat → Nat} {Post : Int32 → V → VL → Prop} {K43 : Int32 → Int32 → V → VL → Prop}  (X : CxW p s m args meth c cX2_back 3 (some .int) RX2 dC dI ct A) (hD : ∀ (z : V) (g : VL), va_D A (MW a ct z g)) (hK43 : ∀ (i1 : Int32) (i2 : Int32) (z : V) (g : VL), K43 i1 i2 z g → ∀ (H : Heap) (locs : List Loc) (ls : Array Slot), va_P (dC, dI) vwCl (MW a ct z g) H → va_S A s.heap H locs → lv_has ls 3 [(0, .ref (a 0)), (1, .int i1), (2, .int i2)] → W p l e rm_X2_back s m args below meth c H locs 0 0 (MQ below (va_Qi (fun (r : Int32) (u : V × VL) => Post r u.1 u.2) (fun (u : V × VL) t => WPos dC dI ct (MW a ct u.1 u.2) A t) A) args s 0 0 A) (F0 m 43 ls [])) (i1 : Int32) (i2 : Int32) (z : V) (g : VL) (w : wp_X2_back_S43  Post K43 i1 i2 z g) : ∀ (H : Heap) (locs : List Loc) (ls : Array Slot), va_P (dC, dI) vwCl (MW a ct z g) H → va_S A s.heap H locs → lv_has ls 3 [(0, .ref (a 0)), (1, .int i1), (2, .int i2)] → W p l e rm_X2_back s m args below meth c H locs 0 0 (MQ below (va_Qi (fun (r : Int32) (u : V × VL) => Post r u.1 u.2) (fun (u : V × VL) t => WPos dC dI ct (MW a ct u.1 u.2) A t) A) args s 0 0 A) (F0 m 43 ls []) := by
  intro H locs ls hP hS hl
  have X0 := X
  obtain ⟨⟨hx, hb, hml, hr, hlk, hown, hts⟩, hA, hK, hN⟩ := X0
  unfold wp_X2_back_S43 at w
  refine lv_iload_n hx hb dX2_back_43 rfl (lv_at hl 2 rfl) ?_
  refine lv_bipush (v := 36) hx hb dX2_back_44 (by decide) ?_
  refine lv_icmp_ge (tgt := 70) hx hb dX2_back_46 (by decide) (fun c => ?_) (fun c => ?_)
  · have w := And.left w c
    refine lv_iconst (v := 0) hx hb dX2_back_70 (by decide) ?_
    refine lv_istore_n (lv' := [(2, .int (0 : Int32)), (0, .ref (a 0)), (1, .int i1)]) hx hb dX2_back_71 rfl hl (by decide) rfl (fun ls hl => ?_)
    obtain ⟨n, w⟩ := w
    exact wk_X2_back_L72 X hD  n _ _ _ _ w _ _ _ hP hS (lv_sub hl [1, 2, 0] rfl)
  · have w := And.right w c
    refine lv_aload_n hx hb dX2_back_49 rfl (lv_at hl 0 rfl) ?_
    refine va_get (D := (dC, dI)) (ci := 2) (v := .ref (a 3)) (C := RX2) (T := TX2) (N := 34) hx hb hts in_X2 hown hK hP 0 rfl rfl 2 (by decide) (hts _ q460) (fun _ h9 => h9) rfl dX2_back_50 ?_
    refine lv_iload_n hx hb dX2_back_53 rfl (lv_at hl 2 rfl) ?_
    refine lv_aload_n hx hb dX2_back_54 rfl (lv_at hl 0 rfl) ?_
    refine va_get (D := (dC, dI)) (ci := 2) (v := .ref (a 13)) (C := RX2) (T := TX2) (N := 34) hx hb hts in_X2 hown hK hP 0 rfl rfl 19 (by decide) (hts _ q477) (fun _ h9 => h9) rfl dX2_back_55 ?_
    refine lv_bipush (v := 12) hx hb dX2_back_58 (by decide) ?_
    refine lv_iload_n hx hb dX2_back_60 rfl (lv_at hl 2 rfl) ?_
    refine lv_iadd hx hb dX2_back_61 ?_
    obtain ⟨gi, w⟩ := w
    refine va_iald hx hb hK hP 13 0 rfl rfl gi dX2_back_62 ?_
    obtain ⟨gi, w⟩ := w
    refine va_iast hx hb hK hP (hD _ _) hS 3 0 rfl rfl gi dX2_back_63 (fun H locs hP _ hS => ?_)
    have hP : va_P (dC, dI) vwCl (MW a ct (up2 z 2 i2.toNatClampNeg (z 12 ((12 : Int32) + i2).toNatClampNeg)) g) H := MW_u_z_2 hP
    refine lv_iinc (v := (i2 + 1)) (lv' := [(2, .int (i2 + 1)), (0, .ref (a 0)), (1, .int i1)]) hx hb dX2_back_64 hl (k := 2) rfl rfl (by decide) rfl (fun ls hl => ?_)
    refine lv_goto (tgt := 43) hx hb dX2_back_67 (by decide) ?_
    exact hK43 _ _ _ _ w _ _ _ hP hS (lv_sub hl [1, 2, 0] rfl)
set_option maxHeartbeats 4000000 in
set_option maxRecDepth 100000 in
theorem wk_X2_back_L43 {p : Program} {l : Launch} {e : Env} {s : State} {m : MethodId} {args : Array Value} {below : List Frame} {meth : Method} {c : Code} {dC : Nat → ClassId} {dI : Nat → Nat → Nat} {ct : Nat → ClassId} {A : Nat → Prop} {a : Nat → Nat} {Post : Int32 → V → VL → Prop}   (X : CxW p s m args meth c cX2_back 3 (some .int) RX2 dC dI ct A) (hD : ∀ (z : V) (g : VL), va_D A (MW a ct z g))  : ∀ (n : Nat) (i1 : Int32) (i2 : Int32) (z : V) (g : VL), wp_X2_back_L43  Post  n i1 i2 z g → ∀ (H : Heap) (locs : List Loc) (ls : Array Slot), va_P (dC, dI) vwCl (MW a ct z g) H → va_S A s.heap H locs → lv_has ls 3 [(0, .ref (a 0)), (1, .int i1), (2, .int i2)] → W p l e rm_X2_back s m args below meth c H locs 0 0 (MQ below (va_Qi (fun (r : Int32) (u : V × VL) => Post r u.1 u.2) (fun (u : V × VL) t => WPos dC dI ct (MW a ct u.1 u.2) A t) A) args s 0 0 A) (F0 m 43 ls []) := by
  intro n
  induction n with
  | zero => intro i1 i2 z g w; exact False.elim w
  | succ n ih => intro i1 i2 z g w H locs ls hP hS hl; exact wk_X2_back_S43 X hD  ih i1 i2 z g w H locs ls hP hS hl
set_option maxHeartbeats 4000000 in
set_option maxRecDepth 100000 in
theorem wk_X2_back_S2 {p : Program} {l : Launch} {e : Env} {s : State} {m : MethodId} {args : Array Value} {below : List Frame} {meth : Method} {c : Code} {dC : Nat → ClassId} {dI : Nat → Nat → Nat} {ct : Nat → ClassId} {A : Nat → Prop} {a : Nat → Nat} {Post : Int32 → V → VL → Prop} {K2 : Int32 → Int32 → V → VL → Prop}  (X : CxW p s m args meth c cX2_back 3 (some .int) RX2 dC dI ct A) (hD : ∀ (z : V) (g : VL), va_D A (MW a ct z g)) (hK2 : ∀ (i1 : Int32) (i2 : Int32) (z : V) (g : VL), K2 i1 i2 z g → ∀ (H : Heap) (locs : List Loc) (ls : Array Slot), va_P (dC, dI) vwCl (MW a ct z g) H → va_S A s.heap H locs → lv_has ls 3 [(0, .ref (a 0)), (1, .int i1), (2, .int i2)] → W p l e rm_X2_back s m args below meth c H locs 0 0 (MQ below (va_Qi (fun (r : Int32) (u : V × VL) => Post r u.1 u.2) (fun (u : V × VL) t => WPos dC dI ct (MW a ct u.1 u.2) A t) A) args s 0 0 A) (F0 m 2 ls [])) (i1 : Int32) (i2 : Int32) (z : V) (g : VL) (w : wp_X2_back_S2  Post K2 i1 i2 z g) : ∀ (H : Heap) (locs : List Loc) (ls : Array Slot), va_P (dC, dI) vwCl (MW a ct z g) H → va_S A s.heap H locs → lv_has ls 3 [(0, .ref (a 0)), (1, .int i1), (2, .int i2)] → W p l e rm_X2_back s m args below meth c H locs 0 0 (MQ below (va_Qi (fun (r : Int32) (u : V × VL) => Post r u.1 u.2) (fun (u : V × VL) t => WPos dC dI ct (MW a ct u.1 u.2) A t) A) args s 0 0 A) (F0 m 2 ls []) := by
  intro H locs ls hP hS hl
  have X0 := X
  obtain ⟨⟨hx, hb, hml, hr, hlk, hown, hts⟩, hA, hK, hN⟩ := X0
  unfold wp_X2_back_S2 at w
  refine lv_iload_n hx hb dX2_back_2 rfl (lv_at hl 2 rfl) ?_
  refine lv_bipush (v := 6) hx hb dX2_back_3 (by decide) ?_
  refine lv_icmp_ge (tgt := 41) hx hb dX2_back_5 (by decide) (fun c => ?_) (fun c => ?_)
  · have w := And.left w c
    refine lv_iconst (v := 0) hx hb dX2_back_41 (by decide) ?_
    refine lv_istore_n (lv' := [(2, .int (0 : Int32)), (0, .ref (a 0)), (1, .int i1)]) hx hb dX2_back_42 rfl hl (by decide) rfl (fun ls hl => ?_)
    obtain ⟨n, w⟩ := w
    exact wk_X2_back_L43 X hD  n _ _ _ _ w _ _ _ hP hS (lv_sub hl [1, 2, 0] rfl)
  · have w := And.right w c
    refine lv_aload_n hx hb dX2_back_8 rfl (lv_at hl 0 rfl) ?_
    refine va_get (D := (dC, dI)) (ci := 2) (v := .ref (a 1)) (C := RX2) (T := TX2) (N := 34) hx hb hts in_X2 hown hK hP 0 rfl rfl 0 (by decide) (hts _ q458) (fun _ h9 => h9) rfl dX2_back_9 ?_
    refine lv_iload_n hx hb dX2_back_12 rfl (lv_at hl 2 rfl) ?_
    refine lv_aload_n hx hb dX2_back_13 rfl (lv_at hl 0 rfl) ?_
    refine va_get (D := (dC, dI)) (ci := 2) (v := .ref (a 13)) (C := RX2) (T := TX2) (N := 34) hx hb hts in_X2 hown hK hP 0 rfl rfl 19 (by decide) (hts _ q477) (fun _ h9 => h9) rfl dX2_back_14 ?_
    refine lv_iload_n hx hb dX2_back_17 rfl (lv_at hl 2 rfl) ?_
    obtain ⟨gi, w⟩ := w
    refine va_iald hx hb hK hP 13 0 rfl rfl gi dX2_back_18 ?_
    obtain ⟨gi, w⟩ := w
    refine va_iast hx hb hK hP (hD _ _) hS 1 0 rfl rfl gi dX2_back_19 (fun H locs hP _ hS => ?_)
    have hP : va_P (dC, dI) vwCl (MW a ct (up2 z 0 i2.toNatClampNeg (z 12 i2.toNatClampNeg)) g) H := MW_u_z_0 hP
    refine lv_aload_n hx hb dX2_back_20 rfl (lv_at hl 0 rfl) ?_
    refine va_get (D := (dC, dI)) (ci := 2) (v := .ref (a 2)) (C := RX2) (T := TX2) (N := 34) hx hb hts in_X2 hown hK hP 0 rfl rfl 1 (by decide) (hts _ q459) (fun _ h9 => h9) rfl dX2_back_21 ?_
    refine lv_iload_n hx hb dX2_back_24 rfl (lv_at hl 2 rfl) ?_
    refine lv_aload_n hx hb dX2_back_25 rfl (lv_at hl 0 rfl) ?_
    refine va_get (D := (dC, dI)) (ci := 2) (v := .ref (a 13)) (C := RX2) (T := TX2) (N := 34) hx hb hts in_X2 hown hK hP 0 rfl rfl 19 (by decide) (hts _ q477) (fun _ h9 => h9) rfl dX2_back_26 ?_
    refine lv_bipush (v := 6) hx hb dX2_back_29 (by decide) ?_
    refine lv_iload_n hx hb dX2_back_31 rfl (lv_at hl 2 rfl) ?_
    refine lv_iadd hx hb dX2_back_32 ?_
    obtain ⟨gi, w⟩ := w
    refine va_iald hx hb hK hP 13 0 rfl rfl gi dX2_back_33 ?_
    obtain ⟨gi, w⟩ := w
    refine va_iast hx hb hK hP (hD _ _) hS 2 0 rfl rfl gi dX2_back_34 (fun H locs hP _ hS => ?_)
    have hP : va_P (dC, dI) vwCl (MW a ct (up2 (up2 z 0 i2.toNatClampNeg (z 12 i2.toNatClampNeg)) 1 i2.toNatClampNeg (z 12 ((6 : Int32) + i2).toNatClampNeg)) g) H := MW_u_z_1 hP
    refine lv_iinc (v := (i2 + 1)) (lv' := [(2, .int (i2 + 1)), (0, .ref (a 0)), (1, .int i1)]) hx hb dX2_back_35 hl (k := 2) rfl rfl (by decide) rfl (fun ls hl => ?_)
    refine lv_goto (tgt := 2) hx hb dX2_back_38 (by decide) ?_
    exact hK2 _ _ _ _ w _ _ _ hP hS (lv_sub hl [1, 2, 0] rfl)
set_option maxHeartbeats 4000000 in
set_option maxRecDepth 100000 in
theorem wk_X2_back_L2 {p : Program} {l : Launch} {e : Env} {s : State} {m : MethodId} {args : Array Value} {below : List Frame} {meth : Method} {c : Code} {dC : Nat → ClassId} {dI : Nat → Nat → Nat} {ct : Nat → ClassId} {A : Nat → Prop} {a : Nat → Nat} {Post : Int32 → V → VL → Prop}   (X : CxW p s m args meth c cX2_back 3 (some .int) RX2 dC dI ct A) (hD : ∀ (z : V) (g : VL), va_D A (MW a ct z g))  : ∀ (n : Nat) (i1 : Int32) (i2 : Int32) (z : V) (g : VL), wp_X2_back_L2  Post  n i1 i2 z g → ∀ (H : Heap) (locs : List Loc) (ls : Array Slot), va_P (dC, dI) vwCl (MW a ct z g) H → va_S A s.heap H locs → lv_has ls 3 [(0, .ref (a 0)), (1, .int i1), (2, .int i2)] → W p l e rm_X2_back s m args below meth c H locs 0 0 (MQ below (va_Qi (fun (r : Int32) (u : V × VL) => Post r u.1 u.2) (fun (u : V × VL) t => WPos dC dI ct (MW a ct u.1 u.2) A t) A) args s 0 0 A) (F0 m 2 ls []) := by
  intro n
  induction n with
  | zero => intro i1 i2 z g w; exact False.elim w
  | succ n ih => intro i1 i2 z g w H locs ls hP hS hl; exact wk_X2_back_S2 X hD  ih i1 i2 z g w H locs ls hP hS hl
set_option maxHeartbeats 4000000 in
set_option maxRecDepth 100000 in
theorem met_X2_back (l : Launch) (dC : Nat → ClassId) (dI : Nat → Nat → Nat) (ct : Nat → ClassId) (a : Nat → Nat) (sz : Nat) {i1 : Int32} {z : V} {g : VL} {Post : Int32 → V → VL → Prop} (w : wp_X2_back i1 z g Post) : Met l yX2_back (ws_ yX2_back cX2_back 3 (some .int)) rm_X2_back (va_Pc [.ref (a 0), .int i1] (fun U => WPre dC dI ct (MW a ct z g) sz U)) ((fun A => (va_Qi (fun (r : Int32) (u : V × VL) => Post r u.1 u.2) (fun (u : V × VL) t => WPos dC dI ct (MW a ct u.1 u.2) A t) A)) (va_A (MW a ct z g) sz)) 0 0 (va_A (MW a ct z g) sz) := by
  refine open_W (fun A => (va_Qi (fun (r : Int32) (u : V × VL) => Post r u.1 u.2) (fun (u : V × VL) t => WPos dC dI ct (MW a ct u.1 u.2) A t) A)) (by decide) (Nat.le_of_ble_eq_true rfl) ?_
  intro p e s m args below meth c ls A X hD0 hP hS hl
  have X0 := X
  obtain ⟨⟨hx, hb, hml, hr, hlk, hown, hts⟩, hA, hK, hN⟩ := X0
  have hD : ∀ (z' : V) (g' : VL), va_D A (MW a ct z' g') := fun z' g' => va_D_addr hD0 rfl
  have hl : lv_has ls 3 [(0, .ref (a 0)), (1, .int i1)] := hl
  unfold wp_X2_back at w
  have hS0 := hS
  refine lv_iconst (v := 0) hx hb dX2_back_0 (by decide) ?_
  refine lv_istore_n (lv' := [(2, .int (0 : Int32)), (0, .ref (a 0)), (1, .int i1)]) hx hb dX2_back_1 rfl hl (by decide) rfl (fun ls hl => ?_)
  obtain ⟨n, w⟩ := w
  exact wk_X2_back_L2 X hD  n _ _ _ _ w _ _ _ hP hS (lv_sub hl [1, 2, 0] rfl)
abbrev rm_X2_judge : Room := { frames := 7, cells := 0, slots := 0, locals := 152 }
theorem hd_X2_judge : yX2_judge.cls = RX2 ∧ yX2_judge.cls ≠ "java/lang/invoke/MethodHandle" ∧ yX2_judge.cls ≠ "java/lang/invoke/VarHandle" ∧ (parseMethodDescriptor yX2_judge.desc).map (fun d => d.parameters.length) = some 1 := by decide +kernel
set_option maxHeartbeats 4000000 in
set_option maxRecDepth 100000 in
theorem wk_X2_judge_L41 {p : Program} {l : Launch} {e : Env} {s : State} {m : MethodId} {args : Array Value} {below : List Frame} {meth : Method} {c : Code} {dC : Nat → ClassId} {dI : Nat → Nat → Nat} {ct : Nat → ClassId} {A : Nat → Prop} {a : Nat → Nat} {Post : Int32 → V → VL → Prop}   (X : CxW p s m args meth c cX2_judge 3 (some .int) RX2 dC dI ct A) (hD : ∀ (z : V) (g : VL), va_D A (MW a ct z g))  (i2 : Int32) (z : V) (g : VL) (w : wp_X2_judge_L41  Post  i2 z g) : ∀ (H : Heap) (locs : List Loc) (ls : Array Slot), va_P (dC, dI) vwCl (MW a ct z g) H → va_S A s.heap H locs → lv_has ls 3 [(2, .int i2)] → W p l e rm_X2_judge s m args below meth c H locs 0 0 (MQ below (va_Qi (fun (r : Int32) (u : V × VL) => Post r u.1 u.2) (fun (u : V × VL) t => WPos dC dI ct (MW a ct u.1 u.2) A t) A) args s 0 0 A) (F0 m 41 ls []) := by
  intro H locs ls hP hS hl
  have X0 := X
  obtain ⟨⟨hx, hb, hml, hr, hlk, hown, hts⟩, hA, hK, hN⟩ := X0
  unfold wp_X2_judge_L41 at w
  refine lv_iload_n hx hb dX2_judge_41 rfl (lv_at hl 0 rfl) ?_
  exact W.iret (v := i2) hx hb hr (fun t ht hW => ⟨⟨i2, (z, g), rfl, w, by rw [ht]; exact hP, va_K.moved hW.alike hK, (hD _ _)⟩, hS.F ht⟩) hS.2.2 dX2_judge_42 hlk
set_option maxHeartbeats 4000000 in
set_option maxRecDepth 100000 in
theorem wk_X2_judge_L70 {p : Program} {l : Launch} {e : Env} {s : State} {m : MethodId} {args : Array Value} {below : List Frame} {meth : Method} {c : Code} {dC : Nat → ClassId} {dI : Nat → Nat → Nat} {ct : Nat → ClassId} {A : Nat → Prop} {a : Nat → Nat} {Post : Int32 → V → VL → Prop}   (X : CxW p s m args meth c cX2_judge 3 (some .int) RX2 dC dI ct A) (hD : ∀ (z : V) (g : VL), va_D A (MW a ct z g))  (is0 : Int32) (z : V) (g : VL) (w : wp_X2_judge_L70  Post  is0 z g) : ∀ (H : Heap) (locs : List Loc) (ls : Array Slot), va_P (dC, dI) vwCl (MW a ct z g) H → va_S A s.heap H locs → lv_has ls 3 [] → W p l e rm_X2_judge s m args below meth c H locs 0 0 (MQ below (va_Qi (fun (r : Int32) (u : V × VL) => Post r u.1 u.2) (fun (u : V × VL) t => WPos dC dI ct (MW a ct u.1 u.2) A t) A) args s 0 0 A) (F0 m 70 ls [.int is0]) := by
  intro H locs ls hP hS hl
  have X0 := X
  obtain ⟨⟨hx, hb, hml, hr, hlk, hown, hts⟩, hA, hK, hN⟩ := X0
  unfold wp_X2_judge_L70 at w
  exact W.iret (v := is0) hx hb hr (fun t ht hW => ⟨⟨is0, (z, g), rfl, w, by rw [ht]; exact hP, va_K.moved hW.alike hK, (hD _ _)⟩, hS.F ht⟩) hS.2.2 dX2_judge_70 hlk
set_option maxHeartbeats 4000000 in
set_option maxRecDepth 100000 in
theorem wk_X2_judge_L43 {p : Program} {l : Launch} {e : Env} {s : State} {m : MethodId} {args : Array Value} {below : List Frame} {meth : Method} {c : Code} {dC : Nat → ClassId} {dI : Nat → Nat → Nat} {ct : Nat → ClassId} {A : Nat → Prop} {a : Nat → Nat} {Post : Int32 → V → VL → Prop}   (X : CxW p s m args meth c cX2_judge 3 (some .int) RX2 dC dI ct A) (hD : ∀ (z : V) (g : VL), va_D A (MW a ct z g))  (i1 : Int32) (z : V) (g : VL) (w : wp_X2_judge_L43  Post  i1 z g) : ∀ (H : Heap) (locs : List Loc) (ls : Array Slot), va_P (dC, dI) vwCl (MW a ct z g) H → va_S A s.heap H locs → lv_has ls 3 [(0, .ref (a 0)), (1, .int i1)] → W p l e rm_X2_judge s m args below meth c H locs 0 0 (MQ below (va_Qi (fun (r : Int32) (u : V × VL) => Post r u.1 u.2) (fun (u : V × VL) t => WPos dC dI ct (MW a ct u.1 u.2) A t) A) args s 0 0 A) (F0 m 43 ls []) := by
  intro H locs ls hP hS hl
  have X0 := X
  obtain ⟨⟨hx, hb, hml, hr, hlk, hown, hts⟩, hA, hK, hN⟩ := X0
  unfold wp_X2_judge_L43 at w
  refine lv_iload_n hx hb dX2_judge_43 rfl (lv_at hl 1 rfl) ?_
  refine lv_if_ne (tgt := 54) hx hb dX2_judge_44 (by decide) (fun c => ?_) (fun c => ?_)
  · have w := And.right w c
    refine lv_iload_n hx hb dX2_judge_54 rfl (lv_at hl 1 rfl) ?_
    refine lv_iconst (v := 1) hx hb dX2_judge_55 (by decide) ?_
    refine lv_icmp_ne (tgt := 66) hx hb dX2_judge_56 (by decide) (fun c => ?_) (fun c => ?_)
    · have w := And.right w c
      refine lv_aload_n hx hb dX2_judge_66 rfl (lv_at hl 0 rfl) ?_
      refine va_get (D := (dC, dI)) (ci := 2) (v := .int (z 19 9)) (C := RX2) (T := TX2) (N := 34) hx hb hts in_X2 hown hK hP 0 rfl rfl 22 (by decide) (hts _ q480) (fun _ h9 => h9) rfl dX2_judge_67 ?_
      exact wk_X2_judge_L70 X hD  _ _ _ w _ _ _ hP hS (lv_sub hl [] rfl)
    · have w := And.left w c
      refine lv_aload_n hx hb dX2_judge_59 rfl (lv_at hl 0 rfl) ?_
      refine va_get (D := (dC, dI)) (ci := 2) (v := .int (z 19 8)) (C := RX2) (T := TX2) (N := 34) hx hb hts in_X2 hown hK hP 0 rfl rfl 21 (by decide) (hts _ q479) (fun _ h9 => h9) rfl dX2_judge_60 ?_
      refine lv_goto (tgt := 70) hx hb dX2_judge_63 (by decide) ?_
      exact wk_X2_judge_L70 X hD  _ _ _ w _ _ _ hP hS (lv_sub hl [] rfl)
  · have w := And.left w c
    refine lv_aload_n hx hb dX2_judge_47 rfl (lv_at hl 0 rfl) ?_
    refine va_get (D := (dC, dI)) (ci := 2) (v := .int (z 19 7)) (C := RX2) (T := TX2) (N := 34) hx hb hts in_X2 hown hK hP 0 rfl rfl 20 (by decide) (hts _ q478) (fun _ h9 => h9) rfl dX2_judge_48 ?_
    refine lv_goto (tgt := 70) hx hb dX2_judge_51 (by decide) ?_
    exact wk_X2_judge_L70 X hD  _ _ _ w _ _ _ hP hS (lv_sub hl [] rfl)
set_option maxHeartbeats 4000000 in
set_option maxRecDepth 100000 in
theorem met_X2_judge (l : Launch) (dC : Nat → ClassId) (dI : Nat → Nat → Nat) (ct : Nat → ClassId) (a : Nat → Nat) (sz : Nat) {i1 : Int32} {z : V} {g : VL} {Post : Int32 → V → VL → Prop} (w : wp_X2_judge i1 z g Post) : Met l yX2_judge (ws_ yX2_judge cX2_judge 3 (some .int)) rm_X2_judge (va_Pc [.ref (a 0), .int i1] (fun U => WPre dC dI ct (MW a ct z g) sz U)) ((fun A => (va_Qi (fun (r : Int32) (u : V × VL) => Post r u.1 u.2) (fun (u : V × VL) t => WPos dC dI ct (MW a ct u.1 u.2) A t) A)) (va_A (MW a ct z g) sz)) 0 0 (va_A (MW a ct z g) sz) := by
  refine open_W (fun A => (va_Qi (fun (r : Int32) (u : V × VL) => Post r u.1 u.2) (fun (u : V × VL) t => WPos dC dI ct (MW a ct u.1 u.2) A t) A)) (by decide) (Nat.le_of_ble_eq_true rfl) ?_
  intro p e s m args below meth c ls A X hD0 hP hS hl
  have X0 := X
  obtain ⟨⟨hx, hb, hml, hr, hlk, hown, hts⟩, hA, hK, hN⟩ := X0
  have hD : ∀ (z' : V) (g' : VL), va_D A (MW a ct z' g') := fun z' g' => va_D_addr hD0 rfl
  have hl : lv_has ls 3 [(0, .ref (a 0)), (1, .int i1)] := hl
  unfold wp_X2_judge at w
  have hS0 := hS
  refine lv_iload_n hx hb dX2_judge_0 rfl (lv_at hl 1 rfl) ?_
  refine lv_i2l hx hb dX2_judge_1 rfl ?_
  refine lv_lconst (v := 0) hx hb dX2_judge_2 (by decide) ?_
  refine lv_ldc2 (v := 2) hx hb hown (hts _ q640) dX2_judge_3 ?_
  refine vp_callSi (W.runS (As := [.long i1.toInt64, .long (0 : Int64), .long (2 : Int64)]) (rest := []) ⟨hx, hb, hml, hown, hts⟩ (met_X2_in l w) (va_cwS 3 hts (lw_S q570 q571 q51 q572) rfl rfl rfl hd_X2_in ⟨Nat.le_of_ble_eq_true rfl, Nat.le_of_ble_eq_true rfl⟩) pre_S rfl rfl hl.1 rfl (lv_room (Nat.le_of_ble_eq_true rfl)) dX2_judge_6 ⟨Nat.le_refl _, Nat.le_refl _⟩) (fun r1 w => ?_)
  refine lv_if_ne (tgt := 15) hx hb dX2_judge_9 (by decide) (fun c => ?_) (fun c => ?_)
  · have w := And.right w c
    refine lv_aload_n hx hb dX2_judge_15 rfl (lv_at hl 0 rfl) ?_
    refine lv_aload_n hx hb dX2_judge_16 rfl (lv_at hl 0 rfl) ?_
    refine va_calli (va_runV (As := []) (rest := [.ref (a 0)]) ⟨hx, hb, hml, hown, hts⟩ (met_X2_refusal l dC dI ct a _ w) (cwV 0 hts (lw_V q641 q643 qs16 q51 q644) rfl rfl rfl hd_X2_refusal ⟨Nat.le_of_ble_eq_true rfl, Nat.le_of_ble_eq_true rfl⟩) (pre_V hK hP (hD _ _) hN (va_recv hK hP (ci := 2) (q0 := 0) rfl rfl)) rfl rfl hl.1 rfl (lv_room (Nat.le_of_ble_eq_true rfl)) dX2_judge_17 ⟨Nat.le_refl _, Nat.le_refl _⟩) hS (fun q _ h => x_free (hD _ _) hS hA q h) (x_free (hD _ _) hS hA) (fun r2 u t H locs ht hvm w hB hz hk hS => ?_)
    obtain ⟨z_2, g_2⟩ := u
    dsimp only at w
    have hP : va_P (dC, dI) vwCl (MW a ct z_2 g_2) H := post_P hB ht
    refine va_calli (va_runV (As := [.int r2]) (rest := []) ⟨hx, hb, hml, hown, hts⟩ (met_X2_back l dC dI ct a _ w) (cwV 1 hts (lw_V q707 q709 qs31 q51 q710) rfl rfl rfl hd_X2_back ⟨Nat.le_of_ble_eq_true rfl, Nat.le_of_ble_eq_true rfl⟩) (pre_V hK hP (hD _ _) hN (va_recv hK hP (ci := 2) (q0 := 0) rfl rfl)) rfl rfl hl.1 rfl (lv_room (Nat.le_of_ble_eq_true rfl)) dX2_judge_20 ⟨Nat.le_refl _, Nat.le_refl _⟩) hS (fun q _ h => x_free (hD _ _) hS hA q h) (x_free (hD _ _) hS hA) (fun r3 u t H locs ht hvm w hB hz hk hS => ?_)
    obtain ⟨z_3, g_3⟩ := u
    dsimp only at w
    have hP : va_P (dC, dI) vwCl (MW a ct z_3 g_3) H := post_P hB ht
    refine lv_istore_n (lv' := [(2, .int r3), (0, .ref (a 0)), (1, .int i1)]) hx hb dX2_judge_23 rfl hl (by decide) rfl (fun ls hl => ?_)
    refine lv_iload_n hx hb dX2_judge_24 rfl (lv_at hl 0 rfl) ?_
    refine lv_bipush (v := -5) hx hb dX2_judge_25 (by decide) ?_
    refine lv_icmp_eq (tgt := 41) hx hb dX2_judge_27 (by decide) (fun c => ?_) (fun c => ?_)
    · have w := And.left w c
      exact wk_X2_judge_L41 X hD  _ _ _ w _ _ _ hP hS (lv_sub hl [0] rfl)
    · have w := And.right w c
      refine lv_iload_n hx hb dX2_judge_30 rfl (lv_at hl 2 rfl) ?_
      refine lv_iconst (v := 1) hx hb dX2_judge_31 (by decide) ?_
      refine lv_icmp_le (tgt := 43) hx hb dX2_judge_32 (by decide) (fun c => ?_) (fun c => ?_)
      · have w := And.left w c
        exact wk_X2_judge_L43 X hD  _ _ _ w _ _ _ hP hS (lv_sub hl [1, 2] rfl)
      · have w := And.right w c
        refine lv_iload_n hx hb dX2_judge_35 rfl (lv_at hl 0 rfl) ?_
        refine lv_bipush (v := -3) hx hb dX2_judge_36 (by decide) ?_
        refine lv_icmp_ne (tgt := 43) hx hb dX2_judge_38 (by decide) (fun c => ?_) (fun c => ?_)
        · have w := And.right w c
          exact wk_X2_judge_L43 X hD  _ _ _ w _ _ _ hP hS (lv_sub hl [1, 2] rfl)
        · have w := And.left w c
          exact wk_X2_judge_L41 X hD  _ _ _ w _ _ _ hP hS (lv_sub hl [0] rfl)
  · have w := And.left w c
    refine lv_bipush (v := -2) hx hb dX2_judge_12 (by decide) ?_
    exact W.iret (v := (-2 : Int32)) hx hb hr (fun t ht hW => ⟨⟨(-2 : Int32), (z, g), rfl, w, by rw [ht]; exact hP, va_K.moved hW.alike hK, (hD _ _)⟩, hS.F ht⟩) hS.2.2 dX2_judge_14 hlk
abbrev rm_X2_lotsOf : Room := { frames := 0, cells := 0, slots := 0, locals := 0 }
theorem hd_X2_lotsOf : yX2_lotsOf.cls = RX2 ∧ yX2_lotsOf.cls ≠ "java/lang/invoke/MethodHandle" ∧ yX2_lotsOf.cls ≠ "java/lang/invoke/VarHandle" ∧ (parseMethodDescriptor yX2_lotsOf.desc).map (fun d => d.parameters.length) = some 1 := by decide +kernel
set_option maxHeartbeats 4000000 in
set_option maxRecDepth 100000 in
theorem wk_X2_lotsOf_L28 {p : Program} {l : Launch} {e : Env} {s : State} {m : MethodId} {args : Array Value} {below : List Frame} {meth : Method} {c : Code} {dC : Nat → ClassId} {dI : Nat → Nat → Nat} {ct : Nat → ClassId} {A : Nat → Prop} {a : Nat → Nat} {Post : Int32 → V → VL → Prop} {K4 : Int32 → Int32 → Int32 → V → VL → Prop}  (X : CxW p s m args meth c cX2_lotsOf 4 (some .int) RX2 dC dI ct A) (hD : ∀ (z : V) (g : VL), va_D A (MW a ct z g)) (hK4 : ∀ (i1 : Int32) (i2 : Int32) (i3 : Int32) (z : V) (g : VL), K4 i1 i2 i3 z g → ∀ (H : Heap) (locs : List Loc) (ls : Array Slot), va_P (dC, dI) vwCl (MW a ct z g) H → va_S A s.heap H locs → lv_has ls 4 [(0, .ref (a 0)), (1, .int i1), (2, .int i2), (3, .int i3)] → W p l e rm_X2_lotsOf s m args below meth c H locs 0 0 (MQ below (va_Qi (fun (r : Int32) (u : V × VL) => Post r u.1 u.2) (fun (u : V × VL) t => WPos dC dI ct (MW a ct u.1 u.2) A t) A) args s 0 0 A) (F0 m 4 ls [])) (i1 : Int32) (i3 : Int32) (is0 : Int32) (is1 : Int32) (z : V) (g : VL) (w : wp_X2_lotsOf_L28  Post K4 i1 i3 is0 is1 z g) : ∀ (H : Heap) (locs : List Loc) (ls : Array Slot), va_P (dC, dI) vwCl (MW a ct z g) H → va_S A s.heap H locs → lv_has ls 4 [(0, .ref (a 0)), (1, .int i1), (3, .int i3)] → W p l e rm_X2_lotsOf s m args below meth c H locs 0 0 (MQ below (va_Qi (fun (r : Int32) (u : V × VL) => Post r u.1 u.2) (fun (u : V × VL) t => WPos dC dI ct (MW a ct u.1 u.2) A t) A) args s 0 0 A) (F0 m 28 ls [.int is0, .int is1]) := by
  intro H locs ls hP hS hl
  have X0 := X
  obtain ⟨⟨hx, hb, hml, hr, hlk, hown, hts⟩, hA, hK, hN⟩ := X0
  unfold wp_X2_lotsOf_L28 at w
  refine lv_ior hx hb dX2_lotsOf_28 ?_
  refine lv_istore_n (lv' := [(2, .int (is1 ||| is0)), (0, .ref (a 0)), (1, .int i1), (3, .int i3)]) hx hb dX2_lotsOf_29 rfl hl (by decide) rfl (fun ls hl => ?_)
  refine lv_iinc (v := (i3 + 1)) (lv' := [(3, .int (i3 + 1)), (2, .int (is1 ||| is0)), (0, .ref (a 0)), (1, .int i1)]) hx hb dX2_lotsOf_30 hl (k := 3) rfl rfl (by decide) rfl (fun ls hl => ?_)
  refine lv_goto (tgt := 4) hx hb dX2_lotsOf_33 (by decide) ?_
  exact hK4 _ _ _ _ _ w _ _ _ hP hS (lv_sub hl [2, 3, 1, 0] rfl)
set_option maxHeartbeats 4000000 in
set_option maxRecDepth 100000 in
theorem wk_X2_lotsOf_S4 {p : Program} {l : Launch} {e : Env} {s : State} {m : MethodId} {args : Array Value} {below : List Frame} {meth : Method} {c : Code} {dC : Nat → ClassId} {dI : Nat → Nat → Nat} {ct : Nat → ClassId} {A : Nat → Prop} {a : Nat → Nat} {Post : Int32 → V → VL → Prop} {K4 : Int32 → Int32 → Int32 → V → VL → Prop}  (X : CxW p s m args meth c cX2_lotsOf 4 (some .int) RX2 dC dI ct A) (hD : ∀ (z : V) (g : VL), va_D A (MW a ct z g)) (hK4 : ∀ (i1 : Int32) (i2 : Int32) (i3 : Int32) (z : V) (g : VL), K4 i1 i2 i3 z g → ∀ (H : Heap) (locs : List Loc) (ls : Array Slot), va_P (dC, dI) vwCl (MW a ct z g) H → va_S A s.heap H locs → lv_has ls 4 [(0, .ref (a 0)), (1, .int i1), (2, .int i2), (3, .int i3)] → W p l e rm_X2_lotsOf s m args below meth c H locs 0 0 (MQ below (va_Qi (fun (r : Int32) (u : V × VL) => Post r u.1 u.2) (fun (u : V × VL) t => WPos dC dI ct (MW a ct u.1 u.2) A t) A) args s 0 0 A) (F0 m 4 ls [])) (i1 : Int32) (i2 : Int32) (i3 : Int32) (z : V) (g : VL) (w : wp_X2_lotsOf_S4  Post K4 i1 i2 i3 z g) : ∀ (H : Heap) (locs : List Loc) (ls : Array Slot), va_P (dC, dI) vwCl (MW a ct z g) H → va_S A s.heap H locs → lv_has ls 4 [(0, .ref (a 0)), (1, .int i1), (2, .int i2), (3, .int i3)] → W p l e rm_X2_lotsOf s m args below meth c H locs 0 0 (MQ below (va_Qi (fun (r : Int32) (u : V × VL) => Post r u.1 u.2) (fun (u : V × VL) t => WPos dC dI ct (MW a ct u.1 u.2) A t) A) args s 0 0 A) (F0 m 4 ls []) := by
  intro H locs ls hP hS hl
  have X0 := X
  obtain ⟨⟨hx, hb, hml, hr, hlk, hown, hts⟩, hA, hK, hN⟩ := X0
  unfold wp_X2_lotsOf_S4 at w
  refine lv_iload_n hx hb dX2_lotsOf_4 rfl (lv_at hl 3 rfl) ?_
  refine lv_bipush (v := 8) hx hb dX2_lotsOf_5 (by decide) ?_
  refine lv_icmp_ge (tgt := 36) hx hb dX2_lotsOf_7 (by decide) (fun c => ?_) (fun c => ?_)
  · have w := And.left w c
    refine lv_iload_n hx hb dX2_lotsOf_36 rfl (lv_at hl 2 rfl) ?_
    exact W.iret (v := i2) hx hb hr (fun t ht hW => ⟨⟨i2, (z, g), rfl, w, by rw [ht]; exact hP, va_K.moved hW.alike hK, (hD _ _)⟩, hS.F ht⟩) hS.2.2 dX2_lotsOf_37 hlk
  · have w := And.right w c
    refine lv_iload_n hx hb dX2_lotsOf_10 rfl (lv_at hl 2 rfl) ?_
    refine lv_aload_n hx hb dX2_lotsOf_11 rfl (lv_at hl 0 rfl) ?_
    refine va_get (D := (dC, dI)) (ci := 2) (v := .ref (a 5)) (C := RX2) (T := TX2) (N := 34) hx hb hts in_X2 hown hK hP 0 rfl rfl 4 (by decide) (hts _ q462) (fun _ h9 => h9) rfl dX2_lotsOf_12 ?_
    refine lv_iload_n hx hb dX2_lotsOf_15 rfl (lv_at hl 3 rfl) ?_
    obtain ⟨gi, w⟩ := w
    refine va_iald hx hb hK hP 5 0 rfl rfl gi dX2_lotsOf_16 ?_
    refine lv_iload_n hx hb dX2_lotsOf_17 rfl (lv_at hl 1 rfl) ?_
    refine lv_icmp_ne (tgt := 27) hx hb dX2_lotsOf_18 (by decide) (fun c => ?_) (fun c => ?_)
    · have w := And.right w c
      refine lv_iconst (v := 0) hx hb dX2_lotsOf_27 (by decide) ?_
      exact wk_X2_lotsOf_L28 X hD hK4 _ _ _ _ _ _ w _ _ _ hP hS (lv_sub hl [0, 1, 3] rfl)
    · have w := And.left w c
      refine lv_iconst (v := 1) hx hb dX2_lotsOf_21 (by decide) ?_
      refine lv_iload_n hx hb dX2_lotsOf_22 rfl (lv_at hl 3 rfl) ?_
      refine lv_ishl hx hb dX2_lotsOf_23 ?_
      refine lv_goto (tgt := 28) hx hb dX2_lotsOf_24 (by decide) ?_
      exact wk_X2_lotsOf_L28 X hD hK4 _ _ _ _ _ _ w _ _ _ hP hS (lv_sub hl [0, 1, 3] rfl)
set_option maxHeartbeats 4000000 in
set_option maxRecDepth 100000 in
theorem wk_X2_lotsOf_L4 {p : Program} {l : Launch} {e : Env} {s : State} {m : MethodId} {args : Array Value} {below : List Frame} {meth : Method} {c : Code} {dC : Nat → ClassId} {dI : Nat → Nat → Nat} {ct : Nat → ClassId} {A : Nat → Prop} {a : Nat → Nat} {Post : Int32 → V → VL → Prop}   (X : CxW p s m args meth c cX2_lotsOf 4 (some .int) RX2 dC dI ct A) (hD : ∀ (z : V) (g : VL), va_D A (MW a ct z g))  : ∀ (n : Nat) (i1 : Int32) (i2 : Int32) (i3 : Int32) (z : V) (g : VL), wp_X2_lotsOf_L4  Post  n i1 i2 i3 z g → ∀ (H : Heap) (locs : List Loc) (ls : Array Slot), va_P (dC, dI) vwCl (MW a ct z g) H → va_S A s.heap H locs → lv_has ls 4 [(0, .ref (a 0)), (1, .int i1), (2, .int i2), (3, .int i3)] → W p l e rm_X2_lotsOf s m args below meth c H locs 0 0 (MQ below (va_Qi (fun (r : Int32) (u : V × VL) => Post r u.1 u.2) (fun (u : V × VL) t => WPos dC dI ct (MW a ct u.1 u.2) A t) A) args s 0 0 A) (F0 m 4 ls []) := by
  intro n
  induction n with
  | zero => intro i1 i2 i3 z g w; exact False.elim w
  | succ n ih => intro i1 i2 i3 z g w H locs ls hP hS hl; exact wk_X2_lotsOf_S4 X hD  ih i1 i2 i3 z g w H locs ls hP hS hl
set_option maxHeartbeats 4000000 in
set_option maxRecDepth 100000 in
theorem met_X2_lotsOf (l : Launch) (dC : Nat → ClassId) (dI : Nat → Nat → Nat) (ct : Nat → ClassId) (a : Nat → Nat) (sz : Nat) {i1 : Int32} {z : V} {g : VL} {Post : Int32 → V → VL → Prop} (w : wp_X2_lotsOf i1 z g Post) : Met l yX2_lotsOf (ws_ yX2_lotsOf cX2_lotsOf 4 (some .int)) rm_X2_lotsOf (va_Pc [.ref (a 0), .int i1] (fun U => WPre dC dI ct (MW a ct z g) sz U)) ((fun A => (va_Qi (fun (r : Int32) (u : V × VL) => Post r u.1 u.2) (fun (u : V × VL) t => WPos dC dI ct (MW a ct u.1 u.2) A t) A)) (va_A (MW a ct z g) sz)) 0 0 (va_A (MW a ct z g) sz) := by
  refine open_W (fun A => (va_Qi (fun (r : Int32) (u : V × VL) => Post r u.1 u.2) (fun (u : V × VL) t => WPos dC dI ct (MW a ct u.1 u.2) A t) A)) (by decide) (Nat.le_of_ble_eq_true rfl) ?_
  intro p e s m args below meth c ls A X hD0 hP hS hl
  have X0 := X
  obtain ⟨⟨hx, hb, hml, hr, hlk, hown, hts⟩, hA, hK, hN⟩ := X0
  have hD : ∀ (z' : V) (g' : VL), va_D A (MW a ct z' g') := fun z' g' => va_D_addr hD0 rfl
  have hl : lv_has ls 4 [(0, .ref (a 0)), (1, .int i1)] := hl
  unfold wp_X2_lotsOf at w
  have hS0 := hS
  refine lv_iconst (v := 0) hx hb dX2_lotsOf_0 (by decide) ?_
  refine lv_istore_n (lv' := [(2, .int (0 : Int32)), (0, .ref (a 0)), (1, .int i1)]) hx hb dX2_lotsOf_1 rfl hl (by decide) rfl (fun ls hl => ?_)
  refine lv_iconst (v := 0) hx hb dX2_lotsOf_2 (by decide) ?_
  refine lv_istore_n (lv' := [(3, .int (0 : Int32)), (2, .int (0 : Int32)), (0, .ref (a 0)), (1, .int i1)]) hx hb dX2_lotsOf_3 rfl hl (by decide) rfl (fun ls hl => ?_)
  obtain ⟨n, w⟩ := w
  exact wk_X2_lotsOf_L4 X hD  n _ _ _ _ _ w _ _ _ hP hS (lv_sub hl [2, 3, 1, 0] rfl)
abbrev rm_X2_owesInAll : Room := { frames := 0, cells := 0, slots := 0, locals := 0 }
theorem hd_X2_owesInAll : yX2_owesInAll.cls = RX2 ∧ yX2_owesInAll.cls ≠ "java/lang/invoke/MethodHandle" ∧ yX2_owesInAll.cls ≠ "java/lang/invoke/VarHandle" ∧ (parseMethodDescriptor yX2_owesInAll.desc).map (fun d => d.parameters.length) = some 1 := by decide +kernel
set_option maxHeartbeats 4000000 in
set_option maxRecDepth 100000 in
theorem wk_X2_owesInAll_S4 {p : Program} {l : Launch} {e : Env} {s : State} {m : MethodId} {args : Array Value} {below : List Frame} {meth : Method} {c : Code} {dC : Nat → ClassId} {dI : Nat → Nat → Nat} {ct : Nat → ClassId} {A : Nat → Prop} {a : Nat → Nat} {Post : Int32 → V → VL → Prop} {K4 : Int32 → Int32 → Int32 → V → VL → Prop}  (X : CxW p s m args meth c cX2_owesInAll 4 (some .int) RX2 dC dI ct A) (hD : ∀ (z : V) (g : VL), va_D A (MW a ct z g)) (hK4 : ∀ (i1 : Int32) (i2 : Int32) (i3 : Int32) (z : V) (g : VL), K4 i1 i2 i3 z g → ∀ (H : Heap) (locs : List Loc) (ls : Array Slot), va_P (dC, dI) vwCl (MW a ct z g) H → va_S A s.heap H locs → lv_has ls 4 [(0, .ref (a 0)), (1, .int i1), (2, .int i2), (3, .int i3)] → W p l e rm_X2_owesInAll s m args below meth c H locs 0 0 (MQ below (va_Qi (fun (r : Int32) (u : V × VL) => Post r u.1 u.2) (fun (u : V × VL) t => WPos dC dI ct (MW a ct u.1 u.2) A t) A) args s 0 0 A) (F0 m 4 ls [])) (i1 : Int32) (i2 : Int32) (i3 : Int32) (z : V) (g : VL) (w : wp_X2_owesInAll_S4  Post K4 i1 i2 i3 z g) : ∀ (H : Heap) (locs : List Loc) (ls : Array Slot), va_P (dC, dI) vwCl (MW a ct z g) H → va_S A s.heap H locs → lv_has ls 4 [(0, .ref (a 0)), (1, .int i1), (2, .int i2), (3, .int i3)] → W p l e rm_X2_owesInAll s m args below meth c H locs 0 0 (MQ below (va_Qi (fun (r : Int32) (u : V × VL) => Post r u.1 u.2) (fun (u : V × VL) t => WPos dC dI ct (MW a ct u.1 u.2) A t) A) args s 0 0 A) (F0 m 4 ls []) := by
  intro H locs ls hP hS hl
  have X0 := X
  obtain ⟨⟨hx, hb, hml, hr, hlk, hown, hts⟩, hA, hK, hN⟩ := X0
  unfold wp_X2_owesInAll_S4 at w
  refine lv_iload_n hx hb dX2_owesInAll_4 rfl (lv_at hl 3 rfl) ?_
  refine lv_bipush (v := 6) hx hb dX2_owesInAll_5 (by decide) ?_
  refine lv_icmp_ge (tgt := 30) hx hb dX2_owesInAll_7 (by decide) (fun c => ?_) (fun c => ?_)
  · have w := And.left w c
    refine lv_iload_n hx hb dX2_owesInAll_30 rfl (lv_at hl 2 rfl) ?_
    exact W.iret (v := i2) hx hb hr (fun t ht hW => ⟨⟨i2, (z, g), rfl, w, by rw [ht]; exact hP, va_K.moved hW.alike hK, (hD _ _)⟩, hS.F ht⟩) hS.2.2 dX2_owesInAll_31 hlk
  · have w := And.right w c
    refine lv_iload_n hx hb dX2_owesInAll_10 rfl (lv_at hl 2 rfl) ?_
    refine lv_aload_n hx hb dX2_owesInAll_11 rfl (lv_at hl 0 rfl) ?_
    refine va_get (D := (dC, dI)) (ci := 2) (v := .ref (a 3)) (C := RX2) (T := TX2) (N := 34) hx hb hts in_X2 hown hK hP 0 rfl rfl 2 (by decide) (hts _ q460) (fun _ h9 => h9) rfl dX2_owesInAll_12 ?_
    refine lv_bipush (v := 6) hx hb dX2_owesInAll_15 (by decide) ?_
    refine lv_iload_n hx hb dX2_owesInAll_17 rfl (lv_at hl 1 rfl) ?_
    refine lv_imul hx hb dX2_owesInAll_18 ?_
    refine lv_iload_n hx hb dX2_owesInAll_19 rfl (lv_at hl 3 rfl) ?_
    refine lv_iadd hx hb dX2_owesInAll_20 ?_
    obtain ⟨gi, w⟩ := w
    refine va_iald hx hb hK hP 3 0 rfl rfl gi dX2_owesInAll_21 ?_
    refine lv_iadd hx hb dX2_owesInAll_22 ?_
    refine lv_istore_n (lv' := [(2, .int (i2 + (z 2 (((6 : Int32) * i1) + i3).toNatClampNeg))), (0, .ref (a 0)), (1, .int i1), (3, .int i3)]) hx hb dX2_owesInAll_23 rfl hl (by decide) rfl (fun ls hl => ?_)
    refine lv_iinc (v := (i3 + 1)) (lv' := [(3, .int (i3 + 1)), (2, .int (i2 + (z 2 (((6 : Int32) * i1) + i3).toNatClampNeg))), (0, .ref (a 0)), (1, .int i1)]) hx hb dX2_owesInAll_24 hl (k := 3) rfl rfl (by decide) rfl (fun ls hl => ?_)
    refine lv_goto (tgt := 4) hx hb dX2_owesInAll_27 (by decide) ?_
    exact hK4 _ _ _ _ _ w _ _ _ hP hS (lv_sub hl [2, 3, 1, 0] rfl)
set_option maxHeartbeats 4000000 in
set_option maxRecDepth 100000 in
theorem wk_X2_owesInAll_L4 {p : Program} {l : Launch} {e : Env} {s : State} {m : MethodId} {args : Array Value} {below : List Frame} {meth : Method} {c : Code} {dC : Nat → ClassId} {dI : Nat → Nat → Nat} {ct : Nat → ClassId} {A : Nat → Prop} {a : Nat → Nat} {Post : Int32 → V → VL → Prop}   (X : CxW p s m args meth c cX2_owesInAll 4 (some .int) RX2 dC dI ct A) (hD : ∀ (z : V) (g : VL), va_D A (MW a ct z g))  : ∀ (n : Nat) (i1 : Int32) (i2 : Int32) (i3 : Int32) (z : V) (g : VL), wp_X2_owesInAll_L4  Post  n i1 i2 i3 z g → ∀ (H : Heap) (locs : List Loc) (ls : Array Slot), va_P (dC, dI) vwCl (MW a ct z g) H → va_S A s.heap H locs → lv_has ls 4 [(0, .ref (a 0)), (1, .int i1), (2, .int i2), (3, .int i3)] → W p l e rm_X2_owesInAll s m args below meth c H locs 0 0 (MQ below (va_Qi (fun (r : Int32) (u : V × VL) => Post r u.1 u.2) (fun (u : V × VL) t => WPos dC dI ct (MW a ct u.1 u.2) A t) A) args s 0 0 A) (F0 m 4 ls []) := by
  intro n
  induction n with
  | zero => intro i1 i2 i3 z g w; exact False.elim w
  | succ n ih => intro i1 i2 i3 z g w H locs ls hP hS hl; exact wk_X2_owesInAll_S4 X hD  ih i1 i2 i3 z g w H locs ls hP hS hl
set_option maxHeartbeats 4000000 in
set_option maxRecDepth 100000 in
theorem met_X2_owesInAll (l : Launch) (dC : Nat → ClassId) (dI : Nat → Nat → Nat) (ct : Nat → ClassId) (a : Nat → Nat) (sz : Nat) {i1 : Int32} {z : V} {g : VL} {Post : Int32 → V → VL → Prop} (w : wp_X2_owesInAll i1 z g Post) : Met l yX2_owesInAll (ws_ yX2_owesInAll cX2_owesInAll 4 (some .int)) rm_X2_owesInAll (va_Pc [.ref (a 0), .int i1] (fun U => WPre dC dI ct (MW a ct z g) sz U)) ((fun A => (va_Qi (fun (r : Int32) (u : V × VL) => Post r u.1 u.2) (fun (u : V × VL) t => WPos dC dI ct (MW a ct u.1 u.2) A t) A)) (va_A (MW a ct z g) sz)) 0 0 (va_A (MW a ct z g) sz) := by
  refine open_W (fun A => (va_Qi (fun (r : Int32) (u : V × VL) => Post r u.1 u.2) (fun (u : V × VL) t => WPos dC dI ct (MW a ct u.1 u.2) A t) A)) (by decide) (Nat.le_of_ble_eq_true rfl) ?_
  intro p e s m args below meth c ls A X hD0 hP hS hl
  have X0 := X
  obtain ⟨⟨hx, hb, hml, hr, hlk, hown, hts⟩, hA, hK, hN⟩ := X0
  have hD : ∀ (z' : V) (g' : VL), va_D A (MW a ct z' g') := fun z' g' => va_D_addr hD0 rfl
  have hl : lv_has ls 4 [(0, .ref (a 0)), (1, .int i1)] := hl
  unfold wp_X2_owesInAll at w
  have hS0 := hS
  refine lv_iconst (v := 0) hx hb dX2_owesInAll_0 (by decide) ?_
  refine lv_istore_n (lv' := [(2, .int (0 : Int32)), (0, .ref (a 0)), (1, .int i1)]) hx hb dX2_owesInAll_1 rfl hl (by decide) rfl (fun ls hl => ?_)
  refine lv_iconst (v := 0) hx hb dX2_owesInAll_2 (by decide) ?_
  refine lv_istore_n (lv' := [(3, .int (0 : Int32)), (2, .int (0 : Int32)), (0, .ref (a 0)), (1, .int i1)]) hx hb dX2_owesInAll_3 rfl hl (by decide) rfl (fun ls hl => ?_)
  obtain ⟨n, w⟩ := w
  exact wk_X2_owesInAll_L4 X hD  n _ _ _ _ _ w _ _ _ hP hS (lv_sub hl [2, 3, 1, 0] rfl)
abbrev rm_X2_ofOne : Room := { frames := 1, cells := 0, slots := 0, locals := 23 }
theorem hd_X2_ofOne : yX2_ofOne.cls = RX2 ∧ yX2_ofOne.cls ≠ "java/lang/invoke/MethodHandle" ∧ yX2_ofOne.cls ≠ "java/lang/invoke/VarHandle" ∧ (parseMethodDescriptor yX2_ofOne.desc).map (fun d => d.parameters.length) = some 2 := by decide +kernel
set_option maxHeartbeats 4000000 in
set_option maxRecDepth 100000 in
theorem met_X2_ofOne (l : Launch) (dC : Nat → ClassId) (dI : Nat → Nat → Nat) (ct : Nat → ClassId) (a : Nat → Nat) (sz : Nat) {i1 : Int32} {i2 : Int32} {z : V} {g : VL} {Post : Int32 → V → VL → Prop} (w : wp_X2_ofOne i1 i2 z g Post) : Met l yX2_ofOne (ws_ yX2_ofOne cX2_ofOne 3 (some .int)) rm_X2_ofOne (va_Pc [.ref (a 0), .int i1, .int i2] (fun U => WPre dC dI ct (MW a ct z g) sz U)) ((fun A => (va_Qi (fun (r : Int32) (u : V × VL) => Post r u.1 u.2) (fun (u : V × VL) t => WPos dC dI ct (MW a ct u.1 u.2) A t) A)) (va_A (MW a ct z g) sz)) 0 0 (va_A (MW a ct z g) sz) := by
  refine open_W (fun A => (va_Qi (fun (r : Int32) (u : V × VL) => Post r u.1 u.2) (fun (u : V × VL) t => WPos dC dI ct (MW a ct u.1 u.2) A t) A)) (by decide) (Nat.le_of_ble_eq_true rfl) ?_
  intro p e s m args below meth c ls A X hD0 hP hS hl
  have X0 := X
  obtain ⟨⟨hx, hb, hml, hr, hlk, hown, hts⟩, hA, hK, hN⟩ := X0
  have hD : ∀ (z' : V) (g' : VL), va_D A (MW a ct z' g') := fun z' g' => va_D_addr hD0 rfl
  have hl : lv_has ls 3 [(0, .ref (a 0)), (1, .int i1), (2, .int i2)] := hl
  unfold wp_X2_ofOne at w
  have hS0 := hS
  refine lv_iload_n hx hb dX2_ofOne_0 rfl (lv_at hl 2 rfl) ?_
  by_cases c1_0 : i2 = 0
  · have w := And.left w c1_0
    refine lv_tableIn (tgt := 28) hx hb dX2_ofOne_1 (by rw [c1_0]; decide) (by rw [c1_0]; decide) (by rw [c1_0]; rfl) (by decide) ?_
    refine lv_aload_n hx hb dX2_ofOne_28 rfl (lv_at hl 0 rfl) ?_
    refine va_get (D := (dC, dI)) (ci := 2) (v := .ref (a 1)) (C := RX2) (T := TX2) (N := 34) hx hb hts in_X2 hown hK hP 0 rfl rfl 0 (by decide) (hts _ q458) (fun _ h9 => h9) rfl dX2_ofOne_29 ?_
    refine lv_iload_n hx hb dX2_ofOne_32 rfl (lv_at hl 1 rfl) ?_
    obtain ⟨gi, w⟩ := w
    refine va_iald hx hb hK hP 1 0 rfl rfl gi dX2_ofOne_33 ?_
    exact W.iret (v := (z 0 i1.toNatClampNeg)) hx hb hr (fun t ht hW => ⟨⟨(z 0 i1.toNatClampNeg), (z, g), rfl, w, by rw [ht]; exact hP, va_K.moved hW.alike hK, (hD _ _)⟩, hS.F ht⟩) hS.2.2 dX2_ofOne_34 hlk
  have w := And.right w c1_0
  by_cases c1_1 : i2 = 1
  · have w := And.left w c1_1
    refine lv_tableIn (tgt := 35) hx hb dX2_ofOne_1 (by rw [c1_1]; decide) (by rw [c1_1]; decide) (by rw [c1_1]; rfl) (by decide) ?_
    refine lv_aload_n hx hb dX2_ofOne_35 rfl (lv_at hl 0 rfl) ?_
    refine va_get (D := (dC, dI)) (ci := 2) (v := .ref (a 2)) (C := RX2) (T := TX2) (N := 34) hx hb hts in_X2 hown hK hP 0 rfl rfl 1 (by decide) (hts _ q459) (fun _ h9 => h9) rfl dX2_ofOne_36 ?_
    refine lv_iload_n hx hb dX2_ofOne_39 rfl (lv_at hl 1 rfl) ?_
    obtain ⟨gi, w⟩ := w
    refine va_iald hx hb hK hP 2 0 rfl rfl gi dX2_ofOne_40 ?_
    exact W.iret (v := (z 1 i1.toNatClampNeg)) hx hb hr (fun t ht hW => ⟨⟨(z 1 i1.toNatClampNeg), (z, g), rfl, w, by rw [ht]; exact hP, va_K.moved hW.alike hK, (hD _ _)⟩, hS.F ht⟩) hS.2.2 dX2_ofOne_41 hlk
  have w := And.right w c1_1
  by_cases c1_2 : i2 = 2
  · have w := And.left w c1_2
    refine lv_tableIn (tgt := 42) hx hb dX2_ofOne_1 (by rw [c1_2]; decide) (by rw [c1_2]; decide) (by rw [c1_2]; rfl) (by decide) ?_
    refine lv_aload_n hx hb dX2_ofOne_42 rfl (lv_at hl 0 rfl) ?_
    refine lv_iload_n hx hb dX2_ofOne_43 rfl (lv_at hl 1 rfl) ?_
    refine va_calli (va_runV (As := [.int i1]) (rest := []) ⟨hx, hb, hml, hown, hts⟩ (met_X2_lotsOf l dC dI ct a _ w) (cwV 1 hts (lw_V q720 q722 qs33 q51 q723) rfl rfl rfl hd_X2_lotsOf ⟨Nat.le_of_ble_eq_true rfl, Nat.le_of_ble_eq_true rfl⟩) (pre_V hK hP (hD _ _) hN (va_recv hK hP (ci := 2) (q0 := 0) rfl rfl)) rfl rfl hl.1 rfl (lv_room (Nat.le_of_ble_eq_true rfl)) dX2_ofOne_44 ⟨Nat.le_refl _, Nat.le_refl _⟩) hS (fun q _ h => x_free (hD _ _) hS hA q h) (x_free (hD _ _) hS hA) (fun r2 u t H locs ht hvm w hB hz hk hS => ?_)
    obtain ⟨z_2, g_2⟩ := u
    dsimp only at w
    have hP : va_P (dC, dI) vwCl (MW a ct z_2 g_2) H := post_P hB ht
    exact W.iret (v := r2) hx hb hr (fun t ht hW => ⟨⟨r2, (z_2, g_2), rfl, w, by rw [ht]; exact hP, va_K.moved hW.alike hK, (hD _ _)⟩, hS.F ht⟩) hS.2.2 dX2_ofOne_47 hlk
  have w := And.right w c1_2
  refine lv_tableOut (tgt := 48) hx hb dX2_ofOne_1 (by have h0 := lv_neT c1_0 (a := 0) (by decide); have h1 := lv_neT c1_1 (a := 1) (by decide); have h2 := lv_neT c1_2 (a := 2) (by decide); omega) (by decide) ?_
  refine lv_aload_n hx hb dX2_ofOne_48 rfl (lv_at hl 0 rfl) ?_
  refine lv_iload_n hx hb dX2_ofOne_49 rfl (lv_at hl 1 rfl) ?_
  refine va_calli (va_runV (As := [.int i1]) (rest := []) ⟨hx, hb, hml, hown, hts⟩ (met_X2_owesInAll l dC dI ct a _ w) (cwV 1 hts (lw_V q724 q726 qs34 q51 q727) rfl rfl rfl hd_X2_owesInAll ⟨Nat.le_of_ble_eq_true rfl, Nat.le_of_ble_eq_true rfl⟩) (pre_V hK hP (hD _ _) hN (va_recv hK hP (ci := 2) (q0 := 0) rfl rfl)) rfl rfl hl.1 rfl (lv_room (Nat.le_of_ble_eq_true rfl)) dX2_ofOne_50 ⟨Nat.le_refl _, Nat.le_refl _⟩) hS (fun q _ h => x_free (hD _ _) hS hA q h) (x_free (hD _ _) hS hA) (fun r3 u t H locs ht hvm w hB hz hk hS => ?_)
  obtain ⟨z_3, g_3⟩ := u
  dsimp only at w
  have hP : va_P (dC, dI) vwCl (MW a ct z_3 g_3) H := post_P hB ht
  exact W.iret (v := r3) hx hb hr (fun t ht hW => ⟨⟨r3, (z_3, g_3), rfl, w, by rw [ht]; exact hP, va_K.moved hW.alike hK, (hD _ _)⟩, hS.F ht⟩) hS.2.2 dX2_ofOne_53 hlk
abbrev rm_X2_behind : Room := { frames := 7, cells := 0, slots := 0, locals := 152 }
theorem hd_X2_behind : yX2_behind.cls = RX2 ∧ yX2_behind.cls ≠ "java/lang/invoke/MethodHandle" ∧ yX2_behind.cls ≠ "java/lang/invoke/VarHandle" ∧ (parseMethodDescriptor yX2_behind.desc).map (fun d => d.parameters.length) = some 2 := by decide +kernel
set_option maxHeartbeats 4000000 in
set_option maxRecDepth 100000 in
theorem wk_X2_behind_L46 {p : Program} {l : Launch} {e : Env} {s : State} {m : MethodId} {args : Array Value} {below : List Frame} {meth : Method} {c : Code} {dC : Nat → ClassId} {dI : Nat → Nat → Nat} {ct : Nat → ClassId} {A : Nat → Prop} {a : Nat → Nat} {Post : Int32 → V → VL → Prop}   (X : CxW p s m args meth c cX2_behind 4 (some .int) RX2 dC dI ct A) (hD : ∀ (z : V) (g : VL), va_D A (MW a ct z g))  (is0 : Int32) (z : V) (g : VL) (w : wp_X2_behind_L46  Post  is0 z g) : ∀ (H : Heap) (locs : List Loc) (ls : Array Slot), va_P (dC, dI) vwCl (MW a ct z g) H → va_S A s.heap H locs → lv_has ls 4 [] → W p l e rm_X2_behind s m args below meth c H locs 0 0 (MQ below (va_Qi (fun (r : Int32) (u : V × VL) => Post r u.1 u.2) (fun (u : V × VL) t => WPos dC dI ct (MW a ct u.1 u.2) A t) A) args s 0 0 A) (F0 m 46 ls [.int is0, .ref (a 0)]) := by
  intro H locs ls hP hS hl
  have X0 := X
  obtain ⟨⟨hx, hb, hml, hr, hlk, hown, hts⟩, hA, hK, hN⟩ := X0
  unfold wp_X2_behind_L46 at w
  refine va_calli (va_runV (As := [.int is0]) (rest := []) ⟨hx, hb, hml, hown, hts⟩ (met_X2_back l dC dI ct a _ w) (cwV 1 hts (lw_V q707 q709 qs31 q51 q710) rfl rfl rfl hd_X2_back ⟨Nat.le_of_ble_eq_true rfl, Nat.le_of_ble_eq_true rfl⟩) (pre_V hK hP (hD _ _) hN (va_recv hK hP (ci := 2) (q0 := 0) rfl rfl)) rfl rfl hl.1 rfl (lv_room (Nat.le_of_ble_eq_true rfl)) dX2_behind_46 ⟨Nat.le_refl _, Nat.le_refl _⟩) hS (fun q _ h => x_free (hD _ _) hS hA q h) (x_free (hD _ _) hS hA) (fun r1 u t H locs ht hvm w hB hz hk hS => ?_)
  obtain ⟨z_1, g_1⟩ := u
  dsimp only at w
  have hP : va_P (dC, dI) vwCl (MW a ct z_1 g_1) H := post_P hB ht
  exact W.iret (v := r1) hx hb hr (fun t ht hW => ⟨⟨r1, (z_1, g_1), rfl, w, by rw [ht]; exact hP, va_K.moved hW.alike hK, (hD _ _)⟩, hS.F ht⟩) hS.2.2 dX2_behind_49 hlk
set_option maxHeartbeats 4000000 in
set_option maxRecDepth 100000 in
theorem met_X2_behind (l : Launch) (dC : Nat → ClassId) (dI : Nat → Nat → Nat) (ct : Nat → ClassId) (a : Nat → Nat) (sz : Nat) {i1 : Int32} {i2 : Int32} {z : V} {g : VL} {Post : Int32 → V → VL → Prop} (w : wp_X2_behind i1 i2 z g Post) : Met l yX2_behind (ws_ yX2_behind cX2_behind 4 (some .int)) rm_X2_behind (va_Pc [.ref (a 0), .int i1, .int i2] (fun U => WPre dC dI ct (MW a ct z g) sz U)) ((fun A => (va_Qi (fun (r : Int32) (u : V × VL) => Post r u.1 u.2) (fun (u : V × VL) t => WPos dC dI ct (MW a ct u.1 u.2) A t) A)) (va_A (MW a ct z g) sz)) 0 0 (va_A (MW a ct z g) sz) := by
  refine open_W (fun A => (va_Qi (fun (r : Int32) (u : V × VL) => Post r u.1 u.2) (fun (u : V × VL) t => WPos dC dI ct (MW a ct u.1 u.2) A t) A)) (by decide) (Nat.le_of_ble_eq_true rfl) ?_
  intro p e s m args below meth c ls A X hD0 hP hS hl
  have X0 := X
  obtain ⟨⟨hx, hb, hml, hr, hlk, hown, hts⟩, hA, hK, hN⟩ := X0
  have hD : ∀ (z' : V) (g' : VL), va_D A (MW a ct z' g') := fun z' g' => va_D_addr hD0 rfl
  have hl : lv_has ls 4 [(0, .ref (a 0)), (1, .int i1), (2, .int i2)] := hl
  unfold wp_X2_behind at w
  have hS0 := hS
  refine lv_iload_n hx hb dX2_behind_0 rfl (lv_at hl 1 rfl) ?_
  refine vp_callSi (W.runS (As := [.int i1]) (rest := []) ⟨hx, hb, hml, hown, hts⟩ (met_X2_isOne l w) (va_cwS 1 hts (lw_S q566 q567 q51 q568) rfl rfl rfl hd_X2_isOne ⟨Nat.le_of_ble_eq_true rfl, Nat.le_of_ble_eq_true rfl⟩) pre_S rfl rfl hl.1 rfl (lv_room (Nat.le_of_ble_eq_true rfl)) dX2_behind_1 ⟨Nat.le_refl _, Nat.le_refl _⟩) (fun r1 w => ?_)
  refine lv_if_ne (tgt := 9) hx hb dX2_behind_4 (by decide) (fun c => ?_) (fun c => ?_)
  · have w := And.right w c
    refine lv_iload_n hx hb dX2_behind_9 rfl (lv_at hl 2 rfl) ?_
    refine lv_i2l hx hb dX2_behind_10 rfl ?_
    refine lv_lconst (v := 0) hx hb dX2_behind_11 (by decide) ?_
    refine lv_ldc2 (v := 3) hx hb hown (hts _ q715) dX2_behind_12 ?_
    refine vp_callSi (W.runS (As := [.long i2.toInt64, .long (0 : Int64), .long (3 : Int64)]) (rest := []) ⟨hx, hb, hml, hown, hts⟩ (met_X2_in l w) (va_cwS 3 hts (lw_S q570 q571 q51 q572) rfl rfl rfl hd_X2_in ⟨Nat.le_of_ble_eq_true rfl, Nat.le_of_ble_eq_true rfl⟩) pre_S rfl rfl hl.1 rfl (lv_room (Nat.le_of_ble_eq_true rfl)) dX2_behind_15 ⟨Nat.le_refl _, Nat.le_refl _⟩) (fun r2 w => ?_)
    refine lv_if_ne (tgt := 24) hx hb dX2_behind_18 (by decide) (fun c => ?_) (fun c => ?_)
    · have w := And.right w c
      refine lv_aload_n hx hb dX2_behind_24 rfl (lv_at hl 0 rfl) ?_
      refine va_calli (va_runV (As := []) (rest := []) ⟨hx, hb, hml, hown, hts⟩ (met_X2_refusal l dC dI ct a _ w) (cwV 0 hts (lw_V q641 q643 qs16 q51 q644) rfl rfl rfl hd_X2_refusal ⟨Nat.le_of_ble_eq_true rfl, Nat.le_of_ble_eq_true rfl⟩) (pre_V hK hP (hD _ _) hN (va_recv hK hP (ci := 2) (q0 := 0) rfl rfl)) rfl rfl hl.1 rfl (lv_room (Nat.le_of_ble_eq_true rfl)) dX2_behind_25 ⟨Nat.le_refl _, Nat.le_refl _⟩) hS (fun q _ h => x_free (hD _ _) hS hA q h) (x_free (hD _ _) hS hA) (fun r3 u t H locs ht hvm w hB hz hk hS => ?_)
      obtain ⟨z_3, g_3⟩ := u
      dsimp only at w
      have hP : va_P (dC, dI) vwCl (MW a ct z_3 g_3) H := post_P hB ht
      refine lv_istore_n (lv' := [(3, .int r3), (0, .ref (a 0)), (1, .int i1), (2, .int i2)]) hx hb dX2_behind_28 rfl hl (by decide) rfl (fun ls hl => ?_)
      refine lv_aload_n hx hb dX2_behind_29 rfl (lv_at hl 1 rfl) ?_
      refine lv_iload_n hx hb dX2_behind_30 rfl (lv_at hl 0 rfl) ?_
      refine lv_bipush (v := -6) hx hb dX2_behind_31 (by decide) ?_
      refine lv_icmp_eq (tgt := 40) hx hb dX2_behind_33 (by decide) (fun c => ?_) (fun c => ?_)
      · have w := And.left w c
        refine lv_aload_n hx hb dX2_behind_40 rfl (lv_at hl 1 rfl) ?_
        refine lv_iload_n hx hb dX2_behind_41 rfl (lv_at hl 2 rfl) ?_
        refine lv_iload_n hx hb dX2_behind_42 rfl (lv_at hl 3 rfl) ?_
        refine va_calli (va_runV (As := [.int i1, .int i2]) (rest := [.ref (a 0)]) ⟨hx, hb, hml, hown, hts⟩ (met_X2_ofOne l dC dI ct a _ w) (cwV 2 hts (lw_V q716 q718 qs32 q51 q719) rfl rfl rfl hd_X2_ofOne ⟨Nat.le_of_ble_eq_true rfl, Nat.le_of_ble_eq_true rfl⟩) (pre_V hK hP (hD _ _) hN (va_recv hK hP (ci := 2) (q0 := 0) rfl rfl)) rfl rfl hl.1 rfl (lv_room (Nat.le_of_ble_eq_true rfl)) dX2_behind_43 ⟨Nat.le_refl _, Nat.le_refl _⟩) hS (fun q _ h => x_free (hD _ _) hS hA q h) (x_free (hD _ _) hS hA) (fun r4 u t H locs ht hvm w hB hz hk hS => ?_)
        obtain ⟨z_4, g_4⟩ := u
        dsimp only at w
        have hP : va_P (dC, dI) vwCl (MW a ct z_4 g_4) H := post_P hB ht
        exact wk_X2_behind_L46 X hD  _ _ _ w _ _ _ hP hS (lv_sub hl [] rfl)
      · have w := And.right w c
        refine lv_iload_n hx hb dX2_behind_36 rfl (lv_at hl 0 rfl) ?_
        refine lv_goto (tgt := 46) hx hb dX2_behind_37 (by decide) ?_
        exact wk_X2_behind_L46 X hD  _ _ _ w _ _ _ hP hS (lv_sub hl [] rfl)
    · have w := And.left w c
      refine lv_bipush (v := -2) hx hb dX2_behind_21 (by decide) ?_
      exact W.iret (v := (-2 : Int32)) hx hb hr (fun t ht hW => ⟨⟨(-2 : Int32), (z, g), rfl, w, by rw [ht]; exact hP, va_K.moved hW.alike hK, (hD _ _)⟩, hS.F ht⟩) hS.2.2 dX2_behind_23 hlk
  · have w := And.left w c
    refine lv_iconst (v := -1) hx hb dX2_behind_7 (by decide) ?_
    exact W.iret (v := (-1 : Int32)) hx hb hr (fun t ht hW => ⟨⟨(-1 : Int32), (z, g), rfl, w, by rw [ht]; exact hP, va_K.moved hW.alike hK, (hD _ _)⟩, hS.F ht⟩) hS.2.2 dX2_behind_8 hlk
abbrev rm_X2_ofAll : Room := { frames := 2, cells := 0, slots := 0, locals := 44 }
theorem hd_X2_ofAll : yX2_ofAll.cls = RX2 ∧ yX2_ofAll.cls ≠ "java/lang/invoke/MethodHandle" ∧ yX2_ofAll.cls ≠ "java/lang/invoke/VarHandle" ∧ (parseMethodDescriptor yX2_ofAll.desc).map (fun d => d.parameters.length) = some 1 := by decide +kernel
set_option maxHeartbeats 4000000 in
set_option maxRecDepth 100000 in
theorem met_X2_ofAll (l : Launch) (dC : Nat → ClassId) (dI : Nat → Nat → Nat) (ct : Nat → ClassId) (a : Nat → Nat) (sz : Nat) {i1 : Int32} {z : V} {g : VL} {Post : Int32 → V → VL → Prop} (w : wp_X2_ofAll i1 z g Post) : Met l yX2_ofAll (ws_ yX2_ofAll cX2_ofAll 2 (some .int)) rm_X2_ofAll (va_Pc [.ref (a 0), .int i1] (fun U => WPre dC dI ct (MW a ct z g) sz U)) ((fun A => (va_Qi (fun (r : Int32) (u : V × VL) => Post r u.1 u.2) (fun (u : V × VL) t => WPos dC dI ct (MW a ct u.1 u.2) A t) A)) (va_A (MW a ct z g) sz)) 0 0 (va_A (MW a ct z g) sz) := by
  refine open_W (fun A => (va_Qi (fun (r : Int32) (u : V × VL) => Post r u.1 u.2) (fun (u : V × VL) t => WPos dC dI ct (MW a ct u.1 u.2) A t) A)) (by decide) (Nat.le_of_ble_eq_true rfl) ?_
  intro p e s m args below meth c ls A X hD0 hP hS hl
  have X0 := X
  obtain ⟨⟨hx, hb, hml, hr, hlk, hown, hts⟩, hA, hK, hN⟩ := X0
  have hD : ∀ (z' : V) (g' : VL), va_D A (MW a ct z' g') := fun z' g' => va_D_addr hD0 rfl
  have hl : lv_has ls 2 [(0, .ref (a 0)), (1, .int i1)] := hl
  unfold wp_X2_ofAll at w
  have hS0 := hS
  refine lv_iload_n hx hb dX2_ofAll_0 rfl (lv_at hl 1 rfl) ?_
  by_cases c1_0 : i1 = 0
  · have w := And.left w c1_0
    refine lv_tableIn (tgt := 36) hx hb dX2_ofAll_1 (by rw [c1_0]; decide) (by rw [c1_0]; decide) (by rw [c1_0]; rfl) (by decide) ?_
    refine lv_aload_n hx hb dX2_ofAll_36 rfl (lv_at hl 0 rfl) ?_
    refine va_calli (va_runV (As := []) (rest := []) ⟨hx, hb, hml, hown, hts⟩ (met_X2_notes l dC dI ct a _ w) (cwV 0 hts (lw_V q675 q677 qs24 q51 q678) rfl rfl rfl hd_X2_notes ⟨Nat.le_of_ble_eq_true rfl, Nat.le_of_ble_eq_true rfl⟩) (pre_V hK hP (hD _ _) hN (va_recv hK hP (ci := 2) (q0 := 0) rfl rfl)) rfl rfl hl.1 rfl (lv_room (Nat.le_of_ble_eq_true rfl)) dX2_ofAll_37 ⟨Nat.le_refl _, Nat.le_refl _⟩) hS (fun q _ h => x_free (hD _ _) hS hA q h) (x_free (hD _ _) hS hA) (fun r2 u t H locs ht hvm w hB hz hk hS => ?_)
    obtain ⟨z_2, g_2⟩ := u
    dsimp only at w
    have hP : va_P (dC, dI) vwCl (MW a ct z_2 g_2) H := post_P hB ht
    exact W.iret (v := r2) hx hb hr (fun t ht hW => ⟨⟨r2, (z_2, g_2), rfl, w, by rw [ht]; exact hP, va_K.moved hW.alike hK, (hD _ _)⟩, hS.F ht⟩) hS.2.2 dX2_ofAll_40 hlk
  have w := And.right w c1_0
  by_cases c1_1 : i1 = 1
  · have w := And.left w c1_1
    refine lv_tableIn (tgt := 41) hx hb dX2_ofAll_1 (by rw [c1_1]; decide) (by rw [c1_1]; decide) (by rw [c1_1]; rfl) (by decide) ?_
    refine lv_aload_n hx hb dX2_ofAll_41 rfl (lv_at hl 0 rfl) ?_
    refine va_calli (va_runV (As := []) (rest := []) ⟨hx, hb, hml, hown, hts⟩ (met_X2_land l dC dI ct a _ w) (cwV 0 hts (lw_V q671 q673 qs23 q51 q674) rfl rfl rfl hd_X2_land ⟨Nat.le_of_ble_eq_true rfl, Nat.le_of_ble_eq_true rfl⟩) (pre_V hK hP (hD _ _) hN (va_recv hK hP (ci := 2) (q0 := 0) rfl rfl)) rfl rfl hl.1 rfl (lv_room (Nat.le_of_ble_eq_true rfl)) dX2_ofAll_42 ⟨Nat.le_refl _, Nat.le_refl _⟩) hS (fun q _ h => x_free (hD _ _) hS hA q h) (x_free (hD _ _) hS hA) (fun r3 u t H locs ht hvm w hB hz hk hS => ?_)
    obtain ⟨z_3, g_3⟩ := u
    dsimp only at w
    have hP : va_P (dC, dI) vwCl (MW a ct z_3 g_3) H := post_P hB ht
    exact W.iret (v := r3) hx hb hr (fun t ht hW => ⟨⟨r3, (z_3, g_3), rfl, w, by rw [ht]; exact hP, va_K.moved hW.alike hK, (hD _ _)⟩, hS.F ht⟩) hS.2.2 dX2_ofAll_45 hlk
  have w := And.right w c1_1
  by_cases c1_2 : i1 = 2
  · have w := And.left w c1_2
    refine lv_tableIn (tgt := 46) hx hb dX2_ofAll_1 (by rw [c1_2]; decide) (by rw [c1_2]; decide) (by rw [c1_2]; rfl) (by decide) ?_
    refine lv_aload_n hx hb dX2_ofAll_46 rfl (lv_at hl 0 rfl) ?_
    refine va_calli (va_runV (As := []) (rest := []) ⟨hx, hb, hml, hown, hts⟩ (met_X2_rate l dC dI ct a _ w) (cwV 0 hts (lw_V q667 q669 qs22 q51 q670) rfl rfl rfl hd_X2_rate ⟨Nat.le_of_ble_eq_true rfl, Nat.le_of_ble_eq_true rfl⟩) (pre_V hK hP (hD _ _) hN (va_recv hK hP (ci := 2) (q0 := 0) rfl rfl)) rfl rfl hl.1 rfl (lv_room (Nat.le_of_ble_eq_true rfl)) dX2_ofAll_47 ⟨Nat.le_refl _, Nat.le_refl _⟩) hS (fun q _ h => x_free (hD _ _) hS hA q h) (x_free (hD _ _) hS hA) (fun r4 u t H locs ht hvm w hB hz hk hS => ?_)
    obtain ⟨z_4, g_4⟩ := u
    dsimp only at w
    have hP : va_P (dC, dI) vwCl (MW a ct z_4 g_4) H := post_P hB ht
    exact W.iret (v := r4) hx hb hr (fun t ht hW => ⟨⟨r4, (z_4, g_4), rfl, w, by rw [ht]; exact hP, va_K.moved hW.alike hK, (hD _ _)⟩, hS.F ht⟩) hS.2.2 dX2_ofAll_50 hlk
  have w := And.right w c1_2
  by_cases c1_3 : i1 = 3
  · have w := And.left w c1_3
    refine lv_tableIn (tgt := 51) hx hb dX2_ofAll_1 (by rw [c1_3]; decide) (by rw [c1_3]; decide) (by rw [c1_3]; rfl) (by decide) ?_
    refine lv_aload_n hx hb dX2_ofAll_51 rfl (lv_at hl 0 rfl) ?_
    refine va_get (D := (dC, dI)) (ci := 2) (v := .int (z 19 2)) (C := RX2) (T := TX2) (N := 34) hx hb hts in_X2 hown hK hP 0 rfl rfl 7 (by decide) (hts _ q465) (fun _ h9 => h9) rfl dX2_ofAll_52 ?_
    exact W.iret (v := (z 19 2)) hx hb hr (fun t ht hW => ⟨⟨(z 19 2), (z, g), rfl, w, by rw [ht]; exact hP, va_K.moved hW.alike hK, (hD _ _)⟩, hS.F ht⟩) hS.2.2 dX2_ofAll_55 hlk
  have w := And.right w c1_3
  by_cases c1_4 : i1 = 4
  · have w := And.left w c1_4
    refine lv_tableIn (tgt := 56) hx hb dX2_ofAll_1 (by rw [c1_4]; decide) (by rw [c1_4]; decide) (by rw [c1_4]; rfl) (by decide) ?_
    refine lv_aload_n hx hb dX2_ofAll_56 rfl (lv_at hl 0 rfl) ?_
    refine va_get (D := (dC, dI)) (ci := 2) (v := .int (z 19 1)) (C := RX2) (T := TX2) (N := 34) hx hb hts in_X2 hown hK hP 0 rfl rfl 6 (by decide) (hts _ q464) (fun _ h9 => h9) rfl dX2_ofAll_57 ?_
    exact W.iret (v := (z 19 1)) hx hb hr (fun t ht hW => ⟨⟨(z 19 1), (z, g), rfl, w, by rw [ht]; exact hP, va_K.moved hW.alike hK, (hD _ _)⟩, hS.F ht⟩) hS.2.2 dX2_ofAll_60 hlk
  have w := And.right w c1_4
  refine lv_tableOut (tgt := 61) hx hb dX2_ofAll_1 (by have h0 := lv_neT c1_0 (a := 0) (by decide); have h1 := lv_neT c1_1 (a := 1) (by decide); have h2 := lv_neT c1_2 (a := 2) (by decide); have h3 := lv_neT c1_3 (a := 3) (by decide); have h4 := lv_neT c1_4 (a := 4) (by decide); omega) (by decide) ?_
  refine lv_aload_n hx hb dX2_ofAll_61 rfl (lv_at hl 0 rfl) ?_
  refine va_get (D := (dC, dI)) (ci := 2) (v := .int (z 19 3)) (C := RX2) (T := TX2) (N := 34) hx hb hts in_X2 hown hK hP 0 rfl rfl 8 (by decide) (hts _ q466) (fun _ h9 => h9) rfl dX2_ofAll_62 ?_
  exact W.iret (v := (z 19 3)) hx hb hr (fun t ht hW => ⟨⟨(z 19 3), (z, g), rfl, w, by rw [ht]; exact hP, va_K.moved hW.alike hK, (hD _ _)⟩, hS.F ht⟩) hS.2.2 dX2_ofAll_65 hlk
abbrev rm_X2_total : Room := { frames := 7, cells := 0, slots := 0, locals := 152 }
theorem hd_X2_total : yX2_total.cls = RX2 ∧ yX2_total.cls ≠ "java/lang/invoke/MethodHandle" ∧ yX2_total.cls ≠ "java/lang/invoke/VarHandle" ∧ (parseMethodDescriptor yX2_total.desc).map (fun d => d.parameters.length) = some 1 := by decide +kernel
set_option maxHeartbeats 4000000 in
set_option maxRecDepth 100000 in
theorem wk_X2_total_L36 {p : Program} {l : Launch} {e : Env} {s : State} {m : MethodId} {args : Array Value} {below : List Frame} {meth : Method} {c : Code} {dC : Nat → ClassId} {dI : Nat → Nat → Nat} {ct : Nat → ClassId} {A : Nat → Prop} {a : Nat → Nat} {Post : Int32 → V → VL → Prop}   (X : CxW p s m args meth c cX2_total 3 (some .int) RX2 dC dI ct A) (hD : ∀ (z : V) (g : VL), va_D A (MW a ct z g))  (is0 : Int32) (z : V) (g : VL) (w : wp_X2_total_L36  Post  is0 z g) : ∀ (H : Heap) (locs : List Loc) (ls : Array Slot), va_P (dC, dI) vwCl (MW a ct z g) H → va_S A s.heap H locs → lv_has ls 3 [] → W p l e rm_X2_total s m args below meth c H locs 0 0 (MQ below (va_Qi (fun (r : Int32) (u : V × VL) => Post r u.1 u.2) (fun (u : V × VL) t => WPos dC dI ct (MW a ct u.1 u.2) A t) A) args s 0 0 A) (F0 m 36 ls [.int is0, .ref (a 0)]) := by
  intro H locs ls hP hS hl
  have X0 := X
  obtain ⟨⟨hx, hb, hml, hr, hlk, hown, hts⟩, hA, hK, hN⟩ := X0
  unfold wp_X2_total_L36 at w
  refine va_calli (va_runV (As := [.int is0]) (rest := []) ⟨hx, hb, hml, hown, hts⟩ (met_X2_back l dC dI ct a _ w) (cwV 1 hts (lw_V q707 q709 qs31 q51 q710) rfl rfl rfl hd_X2_back ⟨Nat.le_of_ble_eq_true rfl, Nat.le_of_ble_eq_true rfl⟩) (pre_V hK hP (hD _ _) hN (va_recv hK hP (ci := 2) (q0 := 0) rfl rfl)) rfl rfl hl.1 rfl (lv_room (Nat.le_of_ble_eq_true rfl)) dX2_total_36 ⟨Nat.le_refl _, Nat.le_refl _⟩) hS (fun q _ h => x_free (hD _ _) hS hA q h) (x_free (hD _ _) hS hA) (fun r1 u t H locs ht hvm w hB hz hk hS => ?_)
  obtain ⟨z_1, g_1⟩ := u
  dsimp only at w
  have hP : va_P (dC, dI) vwCl (MW a ct z_1 g_1) H := post_P hB ht
  exact W.iret (v := r1) hx hb hr (fun t ht hW => ⟨⟨r1, (z_1, g_1), rfl, w, by rw [ht]; exact hP, va_K.moved hW.alike hK, (hD _ _)⟩, hS.F ht⟩) hS.2.2 dX2_total_39 hlk
set_option maxHeartbeats 4000000 in
set_option maxRecDepth 100000 in
theorem met_X2_total (l : Launch) (dC : Nat → ClassId) (dI : Nat → Nat → Nat) (ct : Nat → ClassId) (a : Nat → Nat) (sz : Nat) {i1 : Int32} {z : V} {g : VL} {Post : Int32 → V → VL → Prop} (w : wp_X2_total i1 z g Post) : Met l yX2_total (ws_ yX2_total cX2_total 3 (some .int)) rm_X2_total (va_Pc [.ref (a 0), .int i1] (fun U => WPre dC dI ct (MW a ct z g) sz U)) ((fun A => (va_Qi (fun (r : Int32) (u : V × VL) => Post r u.1 u.2) (fun (u : V × VL) t => WPos dC dI ct (MW a ct u.1 u.2) A t) A)) (va_A (MW a ct z g) sz)) 0 0 (va_A (MW a ct z g) sz) := by
  refine open_W (fun A => (va_Qi (fun (r : Int32) (u : V × VL) => Post r u.1 u.2) (fun (u : V × VL) t => WPos dC dI ct (MW a ct u.1 u.2) A t) A)) (by decide) (Nat.le_of_ble_eq_true rfl) ?_
  intro p e s m args below meth c ls A X hD0 hP hS hl
  have X0 := X
  obtain ⟨⟨hx, hb, hml, hr, hlk, hown, hts⟩, hA, hK, hN⟩ := X0
  have hD : ∀ (z' : V) (g' : VL), va_D A (MW a ct z' g') := fun z' g' => va_D_addr hD0 rfl
  have hl : lv_has ls 3 [(0, .ref (a 0)), (1, .int i1)] := hl
  unfold wp_X2_total at w
  have hS0 := hS
  refine lv_iload_n hx hb dX2_total_0 rfl (lv_at hl 1 rfl) ?_
  refine lv_i2l hx hb dX2_total_1 rfl ?_
  refine lv_lconst (v := 0) hx hb dX2_total_2 (by decide) ?_
  refine lv_ldc2 (v := 5) hx hb hown (hts _ q569) dX2_total_3 ?_
  refine vp_callSi (W.runS (As := [.long i1.toInt64, .long (0 : Int64), .long (5 : Int64)]) (rest := []) ⟨hx, hb, hml, hown, hts⟩ (met_X2_in l w) (va_cwS 3 hts (lw_S q570 q571 q51 q572) rfl rfl rfl hd_X2_in ⟨Nat.le_of_ble_eq_true rfl, Nat.le_of_ble_eq_true rfl⟩) pre_S rfl rfl hl.1 rfl (lv_room (Nat.le_of_ble_eq_true rfl)) dX2_total_6 ⟨Nat.le_refl _, Nat.le_refl _⟩) (fun r1 w => ?_)
  refine lv_if_ne (tgt := 15) hx hb dX2_total_9 (by decide) (fun c => ?_) (fun c => ?_)
  · have w := And.right w c
    refine lv_aload_n hx hb dX2_total_15 rfl (lv_at hl 0 rfl) ?_
    refine va_calli (va_runV (As := []) (rest := []) ⟨hx, hb, hml, hown, hts⟩ (met_X2_refusal l dC dI ct a _ w) (cwV 0 hts (lw_V q641 q643 qs16 q51 q644) rfl rfl rfl hd_X2_refusal ⟨Nat.le_of_ble_eq_true rfl, Nat.le_of_ble_eq_true rfl⟩) (pre_V hK hP (hD _ _) hN (va_recv hK hP (ci := 2) (q0 := 0) rfl rfl)) rfl rfl hl.1 rfl (lv_room (Nat.le_of_ble_eq_true rfl)) dX2_total_16 ⟨Nat.le_refl _, Nat.le_refl _⟩) hS (fun q _ h => x_free (hD _ _) hS hA q h) (x_free (hD _ _) hS hA) (fun r2 u t H locs ht hvm w hB hz hk hS => ?_)
    obtain ⟨z_2, g_2⟩ := u
    dsimp only at w
    have hP : va_P (dC, dI) vwCl (MW a ct z_2 g_2) H := post_P hB ht
    refine lv_istore_n (lv' := [(2, .int r2), (0, .ref (a 0)), (1, .int i1)]) hx hb dX2_total_19 rfl hl (by decide) rfl (fun ls hl => ?_)
    refine lv_aload_n hx hb dX2_total_20 rfl (lv_at hl 1 rfl) ?_
    refine lv_iload_n hx hb dX2_total_21 rfl (lv_at hl 0 rfl) ?_
    refine lv_bipush (v := -6) hx hb dX2_total_22 (by decide) ?_
    refine lv_icmp_eq (tgt := 31) hx hb dX2_total_24 (by decide) (fun c => ?_) (fun c => ?_)
    · have w := And.left w c
      refine lv_aload_n hx hb dX2_total_31 rfl (lv_at hl 1 rfl) ?_
      refine lv_iload_n hx hb dX2_total_32 rfl (lv_at hl 2 rfl) ?_
      refine va_calli (va_runV (As := [.int i1]) (rest := [.ref (a 0)]) ⟨hx, hb, hml, hown, hts⟩ (met_X2_ofAll l dC dI ct a _ w) (cwV 1 hts (lw_V q732 q734 qs35 q51 q735) rfl rfl rfl hd_X2_ofAll ⟨Nat.le_of_ble_eq_true rfl, Nat.le_of_ble_eq_true rfl⟩) (pre_V hK hP (hD _ _) hN (va_recv hK hP (ci := 2) (q0 := 0) rfl rfl)) rfl rfl hl.1 rfl (lv_room (Nat.le_of_ble_eq_true rfl)) dX2_total_33 ⟨Nat.le_refl _, Nat.le_refl _⟩) hS (fun q _ h => x_free (hD _ _) hS hA q h) (x_free (hD _ _) hS hA) (fun r3 u t H locs ht hvm w hB hz hk hS => ?_)
      obtain ⟨z_3, g_3⟩ := u
      dsimp only at w
      have hP : va_P (dC, dI) vwCl (MW a ct z_3 g_3) H := post_P hB ht
      exact wk_X2_total_L36 X hD  _ _ _ w _ _ _ hP hS (lv_sub hl [] rfl)
    · have w := And.right w c
      refine lv_iload_n hx hb dX2_total_27 rfl (lv_at hl 0 rfl) ?_
      refine lv_goto (tgt := 36) hx hb dX2_total_28 (by decide) ?_
      exact wk_X2_total_L36 X hD  _ _ _ w _ _ _ hP hS (lv_sub hl [] rfl)
  · have w := And.left w c
    refine lv_bipush (v := -2) hx hb dX2_total_12 (by decide) ?_
    exact W.iret (v := (-2 : Int32)) hx hb hr (fun t ht hW => ⟨⟨(-2 : Int32), (z, g), rfl, w, by rw [ht]; exact hP, va_K.moved hW.alike hK, (hD _ _)⟩, hS.F ht⟩) hS.2.2 dX2_total_14 hlk
abbrev rm_X2_fell : Room := { frames := 7, cells := 0, slots := 0, locals := 152 }
theorem hd_X2_fell : yX2_fell.cls = RX2 ∧ yX2_fell.cls ≠ "java/lang/invoke/MethodHandle" ∧ yX2_fell.cls ≠ "java/lang/invoke/VarHandle" ∧ (parseMethodDescriptor yX2_fell.desc).map (fun d => d.parameters.length) = some 1 := by decide +kernel
set_option maxHeartbeats 4000000 in
set_option maxRecDepth 100000 in
theorem wk_X2_fell_S34 {p : Program} {l : Launch} {e : Env} {s : State} {m : MethodId} {args : Array Value} {below : List Frame} {meth : Method} {c : Code} {dC : Nat → ClassId} {dI : Nat → Nat → Nat} {ct : Nat → ClassId} {A : Nat → Prop} {a : Nat → Nat} {Post : Int32 → V → VL → Prop} {K34 : Int32 → Int32 → V → VL → Prop}  (X : CxW p s m args meth c cX2_fell 4 (some .int) RX2 dC dI ct A) (hD : ∀ (z : V) (g : VL), va_D A (MW a ct z g)) (hK34 : ∀ (i1 : Int32) (i3 : Int32) (z : V) (g : VL), K34 i1 i3 z g → ∀ (H : Heap) (locs : List Loc) (ls : Array Slot), va_P (dC, dI) vwCl (MW a ct z g) H → va_S A s.heap H locs → lv_has ls 4 [(0, .ref (a 0)), (1, .int i1), (3, .int i3)] → W p l e rm_X2_fell s m args below meth c H locs 0 0 (MQ below (va_Qi (fun (r : Int32) (u : V × VL) => Post r u.1 u.2) (fun (u : V × VL) t => WPos dC dI ct (MW a ct u.1 u.2) A t) A) args s 0 0 A) (F0 m 34 ls [])) (i1 : Int32) (i3 : Int32) (z : V) (g : VL) (w : wp_X2_fell_S34  Post K34 i1 i3 z g) : ∀ (H : Heap) (locs : List Loc) (ls : Array Slot), va_P (dC, dI) vwCl (MW a ct z g) H → va_S A s.heap H locs → lv_has ls 4 [(0, .ref (a 0)), (1, .int i1), (3, .int i3)] → W p l e rm_X2_fell s m args below meth c H locs 0 0 (MQ below (va_Qi (fun (r : Int32) (u : V × VL) => Post r u.1 u.2) (fun (u : V × VL) t => WPos dC dI ct (MW a ct u.1 u.2) A t) A) args s 0 0 A) (F0 m 34 ls []) := by
  intro H locs ls hP hS hl
  have X0 := X
  obtain ⟨⟨hx, hb, hml, hr, hlk, hown, hts⟩, hA, hK, hN⟩ := X0
  unfold wp_X2_fell_S34 at w
  refine lv_iload_n hx hb dX2_fell_34 rfl (lv_at hl 2 rfl) ?_
  refine lv_aload_n hx hb dX2_fell_35 rfl (lv_at hl 0 rfl) ?_
  refine va_get (D := (dC, dI)) (ci := 2) (v := .int (z 19 9)) (C := RX2) (T := TX2) (N := 34) hx hb hts in_X2 hown hK hP 0 rfl rfl 22 (by decide) (hts _ q480) (fun _ h9 => h9) rfl dX2_fell_36 ?_
  refine lv_icmp_ge (tgt := 60) hx hb dX2_fell_39 (by decide) (fun c => ?_) (fun c => ?_)
  · have w := And.left w c
    refine lv_bipush (v := -6) hx hb dX2_fell_60 (by decide) ?_
    exact W.iret (v := (-6 : Int32)) hx hb hr (fun t ht hW => ⟨⟨(-6 : Int32), (z, g), rfl, w, by rw [ht]; exact hP, va_K.moved hW.alike hK, (hD _ _)⟩, hS.F ht⟩) hS.2.2 dX2_fell_62 hlk
  · have w := And.right w c
    refine lv_aload_n hx hb dX2_fell_42 rfl (lv_at hl 0 rfl) ?_
    refine va_get (D := (dC, dI)) (ci := 2) (v := .ref (a 14)) (C := RX2) (T := TX2) (N := 34) hx hb hts in_X2 hown hK hP 0 rfl rfl 23 (by decide) (hts _ q481) (fun _ h9 => h9) rfl dX2_fell_43 ?_
    refine lv_iload_n hx hb dX2_fell_46 rfl (lv_at hl 2 rfl) ?_
    obtain ⟨gi, w⟩ := w
    refine va_iald hx hb hK hP 14 0 rfl rfl gi dX2_fell_47 ?_
    refine lv_iload_n hx hb dX2_fell_48 rfl (lv_at hl 1 rfl) ?_
    refine lv_icmp_ge (tgt := 54) hx hb dX2_fell_49 (by decide) (fun c => ?_) (fun c => ?_)
    · have w := And.left w c
      refine lv_iinc (v := (i3 + 1)) (lv' := [(3, .int (i3 + 1)), (0, .ref (a 0)), (1, .int i1)]) hx hb dX2_fell_54 hl (k := 2) rfl rfl (by decide) rfl (fun ls hl => ?_)
      refine lv_goto (tgt := 34) hx hb dX2_fell_57 (by decide) ?_
      exact hK34 _ _ _ _ w _ _ _ hP hS (lv_sub hl [1, 2, 0] rfl)
    · have w := And.right w c
      refine lv_iload_n hx hb dX2_fell_52 rfl (lv_at hl 2 rfl) ?_
      exact W.iret (v := i3) hx hb hr (fun t ht hW => ⟨⟨i3, (z, g), rfl, w, by rw [ht]; exact hP, va_K.moved hW.alike hK, (hD _ _)⟩, hS.F ht⟩) hS.2.2 dX2_fell_53 hlk
set_option maxHeartbeats 4000000 in
set_option maxRecDepth 100000 in
theorem wk_X2_fell_L34 {p : Program} {l : Launch} {e : Env} {s : State} {m : MethodId} {args : Array Value} {below : List Frame} {meth : Method} {c : Code} {dC : Nat → ClassId} {dI : Nat → Nat → Nat} {ct : Nat → ClassId} {A : Nat → Prop} {a : Nat → Nat} {Post : Int32 → V → VL → Prop}   (X : CxW p s m args meth c cX2_fell 4 (some .int) RX2 dC dI ct A) (hD : ∀ (z : V) (g : VL), va_D A (MW a ct z g))  : ∀ (n : Nat) (i1 : Int32) (i3 : Int32) (z : V) (g : VL), wp_X2_fell_L34  Post  n i1 i3 z g → ∀ (H : Heap) (locs : List Loc) (ls : Array Slot), va_P (dC, dI) vwCl (MW a ct z g) H → va_S A s.heap H locs → lv_has ls 4 [(0, .ref (a 0)), (1, .int i1), (3, .int i3)] → W p l e rm_X2_fell s m args below meth c H locs 0 0 (MQ below (va_Qi (fun (r : Int32) (u : V × VL) => Post r u.1 u.2) (fun (u : V × VL) t => WPos dC dI ct (MW a ct u.1 u.2) A t) A) args s 0 0 A) (F0 m 34 ls []) := by
  intro n
  induction n with
  | zero => intro i1 i3 z g w; exact False.elim w
  | succ n ih => intro i1 i3 z g w H locs ls hP hS hl; exact wk_X2_fell_S34 X hD  ih i1 i3 z g w H locs ls hP hS hl
set_option maxHeartbeats 4000000 in
set_option maxRecDepth 100000 in
theorem met_X2_fell (l : Launch) (dC : Nat → ClassId) (dI : Nat → Nat → Nat) (ct : Nat → ClassId) (a : Nat → Nat) (sz : Nat) {i1 : Int32} {z : V} {g : VL} {Post : Int32 → V → VL → Prop} (w : wp_X2_fell i1 z g Post) : Met l yX2_fell (ws_ yX2_fell cX2_fell 4 (some .int)) rm_X2_fell (va_Pc [.ref (a 0), .int i1] (fun U => WPre dC dI ct (MW a ct z g) sz U)) ((fun A => (va_Qi (fun (r : Int32) (u : V × VL) => Post r u.1 u.2) (fun (u : V × VL) t => WPos dC dI ct (MW a ct u.1 u.2) A t) A)) (va_A (MW a ct z g) sz)) 0 0 (va_A (MW a ct z g) sz) := by
  refine open_W (fun A => (va_Qi (fun (r : Int32) (u : V × VL) => Post r u.1 u.2) (fun (u : V × VL) t => WPos dC dI ct (MW a ct u.1 u.2) A t) A)) (by decide) (Nat.le_of_ble_eq_true rfl) ?_
  intro p e s m args below meth c ls A X hD0 hP hS hl
  have X0 := X
  obtain ⟨⟨hx, hb, hml, hr, hlk, hown, hts⟩, hA, hK, hN⟩ := X0
  have hD : ∀ (z' : V) (g' : VL), va_D A (MW a ct z' g') := fun z' g' => va_D_addr hD0 rfl
  have hl : lv_has ls 4 [(0, .ref (a 0)), (1, .int i1)] := hl
  unfold wp_X2_fell at w
  have hS0 := hS
  refine lv_iload_n hx hb dX2_fell_0 rfl (lv_at hl 1 rfl) ?_
  refine lv_i2l hx hb dX2_fell_1 rfl ?_
  refine lv_lconst (v := 0) hx hb dX2_fell_2 (by decide) ?_
  refine lv_ldc2 (v := 100) hx hb hown (hts _ q682) dX2_fell_3 ?_
  refine vp_callSi (W.runS (As := [.long i1.toInt64, .long (0 : Int64), .long (100 : Int64)]) (rest := []) ⟨hx, hb, hml, hown, hts⟩ (met_X2_in l w) (va_cwS 3 hts (lw_S q570 q571 q51 q572) rfl rfl rfl hd_X2_in ⟨Nat.le_of_ble_eq_true rfl, Nat.le_of_ble_eq_true rfl⟩) pre_S rfl rfl hl.1 rfl (lv_room (Nat.le_of_ble_eq_true rfl)) dX2_fell_6 ⟨Nat.le_refl _, Nat.le_refl _⟩) (fun r1 w => ?_)
  refine lv_if_ne (tgt := 15) hx hb dX2_fell_9 (by decide) (fun c => ?_) (fun c => ?_)
  · have w := And.right w c
    refine lv_aload_n hx hb dX2_fell_15 rfl (lv_at hl 0 rfl) ?_
    refine lv_aload_n hx hb dX2_fell_16 rfl (lv_at hl 0 rfl) ?_
    refine va_calli (va_runV (As := []) (rest := [.ref (a 0)]) ⟨hx, hb, hml, hown, hts⟩ (met_X2_refusal l dC dI ct a _ w) (cwV 0 hts (lw_V q641 q643 qs16 q51 q644) rfl rfl rfl hd_X2_refusal ⟨Nat.le_of_ble_eq_true rfl, Nat.le_of_ble_eq_true rfl⟩) (pre_V hK hP (hD _ _) hN (va_recv hK hP (ci := 2) (q0 := 0) rfl rfl)) rfl rfl hl.1 rfl (lv_room (Nat.le_of_ble_eq_true rfl)) dX2_fell_17 ⟨Nat.le_refl _, Nat.le_refl _⟩) hS (fun q _ h => x_free (hD _ _) hS hA q h) (x_free (hD _ _) hS hA) (fun r2 u t H locs ht hvm w hB hz hk hS => ?_)
    obtain ⟨z_2, g_2⟩ := u
    dsimp only at w
    have hP : va_P (dC, dI) vwCl (MW a ct z_2 g_2) H := post_P hB ht
    refine va_calli (va_runV (As := [.int r2]) (rest := []) ⟨hx, hb, hml, hown, hts⟩ (met_X2_back l dC dI ct a _ w) (cwV 1 hts (lw_V q707 q709 qs31 q51 q710) rfl rfl rfl hd_X2_back ⟨Nat.le_of_ble_eq_true rfl, Nat.le_of_ble_eq_true rfl⟩) (pre_V hK hP (hD _ _) hN (va_recv hK hP (ci := 2) (q0 := 0) rfl rfl)) rfl rfl hl.1 rfl (lv_room (Nat.le_of_ble_eq_true rfl)) dX2_fell_20 ⟨Nat.le_refl _, Nat.le_refl _⟩) hS (fun q _ h => x_free (hD _ _) hS hA q h) (x_free (hD _ _) hS hA) (fun r3 u t H locs ht hvm w hB hz hk hS => ?_)
    obtain ⟨z_3, g_3⟩ := u
    dsimp only at w
    have hP : va_P (dC, dI) vwCl (MW a ct z_3 g_3) H := post_P hB ht
    refine lv_istore_n (lv' := [(2, .int r3), (0, .ref (a 0)), (1, .int i1)]) hx hb dX2_fell_23 rfl hl (by decide) rfl (fun ls hl => ?_)
    refine lv_iload_n hx hb dX2_fell_24 rfl (lv_at hl 0 rfl) ?_
    refine lv_bipush (v := -6) hx hb dX2_fell_25 (by decide) ?_
    refine lv_icmp_eq (tgt := 32) hx hb dX2_fell_27 (by decide) (fun c => ?_) (fun c => ?_)
    · have w := And.left w c
      refine lv_iconst (v := 0) hx hb dX2_fell_32 (by decide) ?_
      refine lv_istore_n (lv' := [(3, .int (0 : Int32)), (2, .int r3), (0, .ref (a 0)), (1, .int i1)]) hx hb dX2_fell_33 rfl hl (by decide) rfl (fun ls hl => ?_)
      obtain ⟨n, w⟩ := w
      exact wk_X2_fell_L34 X hD  n _ _ _ _ w _ _ _ hP hS (lv_sub hl [2, 3, 0] rfl)
    · have w := And.right w c
      refine lv_iload_n hx hb dX2_fell_30 rfl (lv_at hl 0 rfl) ?_
      exact W.iret (v := r3) hx hb hr (fun t ht hW => ⟨⟨r3, (z_3, g_3), rfl, w, by rw [ht]; exact hP, va_K.moved hW.alike hK, (hD _ _)⟩, hS.F ht⟩) hS.2.2 dX2_fell_31 hlk
  · have w := And.left w c
    refine lv_bipush (v := -2) hx hb dX2_fell_12 (by decide) ?_
    exact W.iret (v := (-2 : Int32)) hx hb hr (fun t ht hW => ⟨⟨(-2 : Int32), (z, g), rfl, w, by rw [ht]; exact hP, va_K.moved hW.alike hK, (hD _ _)⟩, hS.F ht⟩) hS.2.2 dX2_fell_14 hlk
abbrev rm_X2_done : Room := { frames := 7, cells := 0, slots := 0, locals := 152 }
theorem hd_X2_done : yX2_done.cls = RX2 ∧ yX2_done.cls ≠ "java/lang/invoke/MethodHandle" ∧ yX2_done.cls ≠ "java/lang/invoke/VarHandle" ∧ (parseMethodDescriptor yX2_done.desc).map (fun d => d.parameters.length) = some 0 := by decide +kernel
set_option maxHeartbeats 4000000 in
set_option maxRecDepth 100000 in
theorem met_X2_done (l : Launch) (dC : Nat → ClassId) (dI : Nat → Nat → Nat) (ct : Nat → ClassId) (a : Nat → Nat) (sz : Nat)  {z : V} {g : VL} {Post : Int32 → V → VL → Prop} (w : wp_X2_done z g Post) : Met l yX2_done (ws_ yX2_done cX2_done 2 (some .int)) rm_X2_done (va_Pc [.ref (a 0)] (fun U => WPre dC dI ct (MW a ct z g) sz U)) ((fun A => (va_Qi (fun (r : Int32) (u : V × VL) => Post r u.1 u.2) (fun (u : V × VL) t => WPos dC dI ct (MW a ct u.1 u.2) A t) A)) (va_A (MW a ct z g) sz)) 0 0 (va_A (MW a ct z g) sz) := by
  refine open_W (fun A => (va_Qi (fun (r : Int32) (u : V × VL) => Post r u.1 u.2) (fun (u : V × VL) t => WPos dC dI ct (MW a ct u.1 u.2) A t) A)) (by decide) (Nat.le_of_ble_eq_true rfl) ?_
  intro p e s m args below meth c ls A X hD0 hP hS hl
  have X0 := X
  obtain ⟨⟨hx, hb, hml, hr, hlk, hown, hts⟩, hA, hK, hN⟩ := X0
  have hD : ∀ (z' : V) (g' : VL), va_D A (MW a ct z' g') := fun z' g' => va_D_addr hD0 rfl
  have hl : lv_has ls 2 [(0, .ref (a 0))] := hl
  unfold wp_X2_done at w
  have hS0 := hS
  refine lv_aload_n hx hb dX2_done_0 rfl (lv_at hl 0 rfl) ?_
  refine va_calli (va_runV (As := []) (rest := []) ⟨hx, hb, hml, hown, hts⟩ (met_X2_refusal l dC dI ct a _ w) (cwV 0 hts (lw_V q641 q643 qs16 q51 q644) rfl rfl rfl hd_X2_refusal ⟨Nat.le_of_ble_eq_true rfl, Nat.le_of_ble_eq_true rfl⟩) (pre_V hK hP (hD _ _) hN (va_recv hK hP (ci := 2) (q0 := 0) rfl rfl)) rfl rfl hl.1 rfl (lv_room (Nat.le_of_ble_eq_true rfl)) dX2_done_1 ⟨Nat.le_refl _, Nat.le_refl _⟩) hS (fun q _ h => x_free (hD _ _) hS hA q h) (x_free (hD _ _) hS hA) (fun r1 u t H locs ht hvm w hB hz hk hS => ?_)
  obtain ⟨z_1, g_1⟩ := u
  dsimp only at w
  have hP : va_P (dC, dI) vwCl (MW a ct z_1 g_1) H := post_P hB ht
  refine lv_istore_n (lv' := [(1, .int r1), (0, .ref (a 0))]) hx hb dX2_done_4 rfl hl (by decide) rfl (fun ls hl => ?_)
  refine lv_iload_n hx hb dX2_done_5 rfl (lv_at hl 0 rfl) ?_
  refine lv_bipush (v := -6) hx hb dX2_done_6 (by decide) ?_
  refine lv_icmp_eq (tgt := 17) hx hb dX2_done_8 (by decide) (fun c => ?_) (fun c => ?_)
  · have w := And.left w c
    refine lv_aload_n hx hb dX2_done_17 rfl (lv_at hl 1 rfl) ?_
    refine lv_iconst (v := 0) hx hb dX2_done_18 (by decide) ?_
    refine va_put (D := (dC, dI)) (ci := 2) (v := .int (0 : Int32)) (ty := .int) (C := RX2) (T := TX2) (N := 34) hx hb hts in_X2 tyX2 tyX2_ok nmX2 hown hK hP (hD _ _) hS 0 rfl rfl 14 (by decide) (hts _ q472) (fun _ h9 => h9) rfl (by decide +kernel) rfl rfl (Nat.le_of_ble_eq_true rfl) dX2_done_19 (fun H locs hP _ hS => ?_)
    have hP : va_P (dC, dI) vwCl (MW a ct (up2 z_1 19 5 (0 : Int32)) g_1) H := MW_s_z_5 hP
    refine lv_aload_n hx hb dX2_done_22 rfl (lv_at hl 1 rfl) ?_
    refine va_get (D := (dC, dI)) (ci := 2) (v := .int (z_1 19 6)) (C := RX2) (T := TX2) (N := 34) hx hb hts in_X2 hown hK hP 0 rfl rfl 18 (by decide) (hts _ q476) (fun _ h9 => h9) rfl dX2_done_23 ?_
    exact W.iret (v := (z_1 19 6)) hx hb hr (fun t ht hW => ⟨⟨(z_1 19 6), ((up2 z_1 19 5 (0 : Int32)), g_1), rfl, w, by rw [ht]; exact hP, va_K.moved hW.alike hK, (hD _ _)⟩, hS.F ht⟩) hS.2.2 dX2_done_26 hlk
  · have w := And.right w c
    refine lv_aload_n hx hb dX2_done_11 rfl (lv_at hl 1 rfl) ?_
    refine lv_iload_n hx hb dX2_done_12 rfl (lv_at hl 0 rfl) ?_
    refine va_calli (va_runV (As := [.int r1]) (rest := []) ⟨hx, hb, hml, hown, hts⟩ (met_X2_back l dC dI ct a _ w) (cwV 1 hts (lw_V q707 q709 qs31 q51 q710) rfl rfl rfl hd_X2_back ⟨Nat.le_of_ble_eq_true rfl, Nat.le_of_ble_eq_true rfl⟩) (pre_V hK hP (hD _ _) hN (va_recv hK hP (ci := 2) (q0 := 0) rfl rfl)) rfl rfl hl.1 rfl (lv_room (Nat.le_of_ble_eq_true rfl)) dX2_done_13 ⟨Nat.le_refl _, Nat.le_refl _⟩) hS (fun q _ h => x_free (hD _ _) hS hA q h) (x_free (hD _ _) hS hA) (fun r2 u t H locs ht hvm w hB hz hk hS => ?_)
    obtain ⟨z_2, g_2⟩ := u
    dsimp only at w
    have hP : va_P (dC, dI) vwCl (MW a ct z_2 g_2) H := post_P hB ht
    exact W.iret (v := r2) hx hb hr (fun t ht hW => ⟨⟨r2, (z_2, g_2), rfl, w, by rw [ht]; exact hP, va_K.moved hW.alike hK, (hD _ _)⟩, hS.F ht⟩) hS.2.2 dX2_done_16 hlk
abbrev rm_X2_netOf : Room := { frames := 0, cells := 0, slots := 0, locals := 0 }
theorem hd_X2_netOf : yX2_netOf.cls = RX2 ∧ yX2_netOf.cls ≠ "java/lang/invoke/MethodHandle" ∧ yX2_netOf.cls ≠ "java/lang/invoke/VarHandle" ∧ (parseMethodDescriptor yX2_netOf.desc).map (fun d => d.parameters.length) = some 1 := by decide +kernel
set_option maxHeartbeats 4000000 in
set_option maxRecDepth 100000 in
theorem wk_X2_netOf_L30 {p : Program} {l : Launch} {e : Env} {s : State} {m : MethodId} {args : Array Value} {below : List Frame} {meth : Method} {c : Code} {dC : Nat → ClassId} {dI : Nat → Nat → Nat} {ct : Nat → ClassId} {A : Nat → Prop} {a : Nat → Nat} {Post : Int32 → V → VL → Prop} {K4 : Int32 → Int32 → Int32 → V → VL → Prop}  (X : CxW p s m args meth c cX2_netOf 4 (some .int) RX2 dC dI ct A) (hD : ∀ (z : V) (g : VL), va_D A (MW a ct z g)) (hK4 : ∀ (i1 : Int32) (i2 : Int32) (i3 : Int32) (z : V) (g : VL), K4 i1 i2 i3 z g → ∀ (H : Heap) (locs : List Loc) (ls : Array Slot), va_P (dC, dI) vwCl (MW a ct z g) H → va_S A s.heap H locs → lv_has ls 4 [(0, .ref (a 0)), (1, .int i1), (2, .int i2), (3, .int i3)] → W p l e rm_X2_netOf s m args below meth c H locs 0 0 (MQ below (va_Qi (fun (r : Int32) (u : V × VL) => Post r u.1 u.2) (fun (u : V × VL) t => WPos dC dI ct (MW a ct u.1 u.2) A t) A) args s 0 0 A) (F0 m 4 ls [])) (i1 : Int32) (i3 : Int32) (is0 : Int32) (is1 : Int32) (z : V) (g : VL) (w : wp_X2_netOf_L30  Post K4 i1 i3 is0 is1 z g) : ∀ (H : Heap) (locs : List Loc) (ls : Array Slot), va_P (dC, dI) vwCl (MW a ct z g) H → va_S A s.heap H locs → lv_has ls 4 [(0, .ref (a 0)), (1, .int i1), (3, .int i3)] → W p l e rm_X2_netOf s m args below meth c H locs 0 0 (MQ below (va_Qi (fun (r : Int32) (u : V × VL) => Post r u.1 u.2) (fun (u : V × VL) t => WPos dC dI ct (MW a ct u.1 u.2) A t) A) args s 0 0 A) (F0 m 30 ls [.int is0, .int is1]) := by
  intro H locs ls hP hS hl
  have X0 := X
  obtain ⟨⟨hx, hb, hml, hr, hlk, hown, hts⟩, hA, hK, hN⟩ := X0
  unfold wp_X2_netOf_L30 at w
  refine lv_iadd hx hb dX2_netOf_30 ?_
  refine lv_istore_n (lv' := [(2, .int (is1 + is0)), (0, .ref (a 0)), (1, .int i1), (3, .int i3)]) hx hb dX2_netOf_31 rfl hl (by decide) rfl (fun ls hl => ?_)
  refine lv_iinc (v := (i3 + 1)) (lv' := [(3, .int (i3 + 1)), (2, .int (is1 + is0)), (0, .ref (a 0)), (1, .int i1)]) hx hb dX2_netOf_32 hl (k := 3) rfl rfl (by decide) rfl (fun ls hl => ?_)
  refine lv_goto (tgt := 4) hx hb dX2_netOf_35 (by decide) ?_
  exact hK4 _ _ _ _ _ w _ _ _ hP hS (lv_sub hl [2, 3, 1, 0] rfl)
set_option maxHeartbeats 4000000 in
set_option maxRecDepth 100000 in
theorem wk_X2_netOf_S4 {p : Program} {l : Launch} {e : Env} {s : State} {m : MethodId} {args : Array Value} {below : List Frame} {meth : Method} {c : Code} {dC : Nat → ClassId} {dI : Nat → Nat → Nat} {ct : Nat → ClassId} {A : Nat → Prop} {a : Nat → Nat} {Post : Int32 → V → VL → Prop} {K4 : Int32 → Int32 → Int32 → V → VL → Prop}  (X : CxW p s m args meth c cX2_netOf 4 (some .int) RX2 dC dI ct A) (hD : ∀ (z : V) (g : VL), va_D A (MW a ct z g)) (hK4 : ∀ (i1 : Int32) (i2 : Int32) (i3 : Int32) (z : V) (g : VL), K4 i1 i2 i3 z g → ∀ (H : Heap) (locs : List Loc) (ls : Array Slot), va_P (dC, dI) vwCl (MW a ct z g) H → va_S A s.heap H locs → lv_has ls 4 [(0, .ref (a 0)), (1, .int i1), (2, .int i2), (3, .int i3)] → W p l e rm_X2_netOf s m args below meth c H locs 0 0 (MQ below (va_Qi (fun (r : Int32) (u : V × VL) => Post r u.1 u.2) (fun (u : V × VL) t => WPos dC dI ct (MW a ct u.1 u.2) A t) A) args s 0 0 A) (F0 m 4 ls [])) (i1 : Int32) (i2 : Int32) (i3 : Int32) (z : V) (g : VL) (w : wp_X2_netOf_S4  Post K4 i1 i2 i3 z g) : ∀ (H : Heap) (locs : List Loc) (ls : Array Slot), va_P (dC, dI) vwCl (MW a ct z g) H → va_S A s.heap H locs → lv_has ls 4 [(0, .ref (a 0)), (1, .int i1), (2, .int i2), (3, .int i3)] → W p l e rm_X2_netOf s m args below meth c H locs 0 0 (MQ below (va_Qi (fun (r : Int32) (u : V × VL) => Post r u.1 u.2) (fun (u : V × VL) t => WPos dC dI ct (MW a ct u.1 u.2) A t) A) args s 0 0 A) (F0 m 4 ls []) := by
  intro H locs ls hP hS hl
  have X0 := X
  obtain ⟨⟨hx, hb, hml, hr, hlk, hown, hts⟩, hA, hK, hN⟩ := X0
  unfold wp_X2_netOf_S4 at w
  refine lv_iload_n hx hb dX2_netOf_4 rfl (lv_at hl 3 rfl) ?_
  refine lv_bipush (v := 6) hx hb dX2_netOf_5 (by decide) ?_
  refine lv_icmp_ge (tgt := 38) hx hb dX2_netOf_7 (by decide) (fun c => ?_) (fun c => ?_)
  · have w := And.left w c
    refine lv_iload_n hx hb dX2_netOf_38 rfl (lv_at hl 2 rfl) ?_
    exact W.iret (v := i2) hx hb hr (fun t ht hW => ⟨⟨i2, (z, g), rfl, w, by rw [ht]; exact hP, va_K.moved hW.alike hK, (hD _ _)⟩, hS.F ht⟩) hS.2.2 dX2_netOf_39 hlk
  · have w := And.right w c
    refine lv_iload_n hx hb dX2_netOf_10 rfl (lv_at hl 2 rfl) ?_
    refine lv_iload_n hx hb dX2_netOf_11 rfl (lv_at hl 1 rfl) ?_
    refine lv_iload_n hx hb dX2_netOf_12 rfl (lv_at hl 3 rfl) ?_
    refine lv_ishr hx hb dX2_netOf_13 ?_
    refine lv_iconst (v := 1) hx hb dX2_netOf_14 (by decide) ?_
    refine lv_iand hx hb dX2_netOf_15 ?_
    refine lv_iconst (v := 1) hx hb dX2_netOf_16 (by decide) ?_
    refine lv_icmp_ne (tgt := 29) hx hb dX2_netOf_17 (by decide) (fun c => ?_) (fun c => ?_)
    · have w := And.right w c
      refine lv_iconst (v := 0) hx hb dX2_netOf_29 (by decide) ?_
      exact wk_X2_netOf_L30 X hD hK4 _ _ _ _ _ _ w _ _ _ hP hS (lv_sub hl [0, 1, 3] rfl)
    · have w := And.left w c
      refine lv_aload_n hx hb dX2_netOf_20 rfl (lv_at hl 0 rfl) ?_
      refine va_get (D := (dC, dI)) (ci := 2) (v := .ref (a 15)) (C := RX2) (T := TX2) (N := 34) hx hb hts in_X2 hown hK hP 0 rfl rfl 24 (by decide) (hts _ q482) (fun _ h9 => h9) rfl dX2_netOf_21 ?_
      refine lv_iload_n hx hb dX2_netOf_24 rfl (lv_at hl 3 rfl) ?_
      obtain ⟨gi, w⟩ := w
      refine va_iald hx hb hK hP 15 0 rfl rfl gi dX2_netOf_25 ?_
      refine lv_goto (tgt := 30) hx hb dX2_netOf_26 (by decide) ?_
      exact wk_X2_netOf_L30 X hD hK4 _ _ _ _ _ _ w _ _ _ hP hS (lv_sub hl [0, 1, 3] rfl)
set_option maxHeartbeats 4000000 in
set_option maxRecDepth 100000 in
theorem wk_X2_netOf_L4 {p : Program} {l : Launch} {e : Env} {s : State} {m : MethodId} {args : Array Value} {below : List Frame} {meth : Method} {c : Code} {dC : Nat → ClassId} {dI : Nat → Nat → Nat} {ct : Nat → ClassId} {A : Nat → Prop} {a : Nat → Nat} {Post : Int32 → V → VL → Prop}   (X : CxW p s m args meth c cX2_netOf 4 (some .int) RX2 dC dI ct A) (hD : ∀ (z : V) (g : VL), va_D A (MW a ct z g))  : ∀ (n : Nat) (i1 : Int32) (i2 : Int32) (i3 : Int32) (z : V) (g : VL), wp_X2_netOf_L4  Post  n i1 i2 i3 z g → ∀ (H : Heap) (locs : List Loc) (ls : Array Slot), va_P (dC, dI) vwCl (MW a ct z g) H → va_S A s.heap H locs → lv_has ls 4 [(0, .ref (a 0)), (1, .int i1), (2, .int i2), (3, .int i3)] → W p l e rm_X2_netOf s m args below meth c H locs 0 0 (MQ below (va_Qi (fun (r : Int32) (u : V × VL) => Post r u.1 u.2) (fun (u : V × VL) t => WPos dC dI ct (MW a ct u.1 u.2) A t) A) args s 0 0 A) (F0 m 4 ls []) := by
  intro n
  induction n with
  | zero => intro i1 i2 i3 z g w; exact False.elim w
  | succ n ih => intro i1 i2 i3 z g w H locs ls hP hS hl; exact wk_X2_netOf_S4 X hD  ih i1 i2 i3 z g w H locs ls hP hS hl
set_option maxHeartbeats 4000000 in
set_option maxRecDepth 100000 in
theorem met_X2_netOf (l : Launch) (dC : Nat → ClassId) (dI : Nat → Nat → Nat) (ct : Nat → ClassId) (a : Nat → Nat) (sz : Nat) {i1 : Int32} {z : V} {g : VL} {Post : Int32 → V → VL → Prop} (w : wp_X2_netOf i1 z g Post) : Met l yX2_netOf (ws_ yX2_netOf cX2_netOf 4 (some .int)) rm_X2_netOf (va_Pc [.ref (a 0), .int i1] (fun U => WPre dC dI ct (MW a ct z g) sz U)) ((fun A => (va_Qi (fun (r : Int32) (u : V × VL) => Post r u.1 u.2) (fun (u : V × VL) t => WPos dC dI ct (MW a ct u.1 u.2) A t) A)) (va_A (MW a ct z g) sz)) 0 0 (va_A (MW a ct z g) sz) := by
  refine open_W (fun A => (va_Qi (fun (r : Int32) (u : V × VL) => Post r u.1 u.2) (fun (u : V × VL) t => WPos dC dI ct (MW a ct u.1 u.2) A t) A)) (by decide) (Nat.le_of_ble_eq_true rfl) ?_
  intro p e s m args below meth c ls A X hD0 hP hS hl
  have X0 := X
  obtain ⟨⟨hx, hb, hml, hr, hlk, hown, hts⟩, hA, hK, hN⟩ := X0
  have hD : ∀ (z' : V) (g' : VL), va_D A (MW a ct z' g') := fun z' g' => va_D_addr hD0 rfl
  have hl : lv_has ls 4 [(0, .ref (a 0)), (1, .int i1)] := hl
  unfold wp_X2_netOf at w
  have hS0 := hS
  refine lv_iconst (v := 0) hx hb dX2_netOf_0 (by decide) ?_
  refine lv_istore_n (lv' := [(2, .int (0 : Int32)), (0, .ref (a 0)), (1, .int i1)]) hx hb dX2_netOf_1 rfl hl (by decide) rfl (fun ls hl => ?_)
  refine lv_iconst (v := 0) hx hb dX2_netOf_2 (by decide) ?_
  refine lv_istore_n (lv' := [(3, .int (0 : Int32)), (2, .int (0 : Int32)), (0, .ref (a 0)), (1, .int i1)]) hx hb dX2_netOf_3 rfl hl (by decide) rfl (fun ls hl => ?_)
  obtain ⟨n, w⟩ := w
  exact wk_X2_netOf_L4 X hD  n _ _ _ _ _ w _ _ _ hP hS (lv_sub hl [2, 3, 1, 0] rfl)
abbrev rm_X2_mostEven : Room := { frames := 1, cells := 0, slots := 0, locals := 23 }
theorem hd_X2_mostEven : yX2_mostEven.cls = RX2 ∧ yX2_mostEven.cls ≠ "java/lang/invoke/MethodHandle" ∧ yX2_mostEven.cls ≠ "java/lang/invoke/VarHandle" ∧ (parseMethodDescriptor yX2_mostEven.desc).map (fun d => d.parameters.length) = some 1 := by decide +kernel
set_option maxHeartbeats 4000000 in
set_option maxRecDepth 100000 in
theorem wk_X2_mostEven_L100 {p : Program} {l : Launch} {e : Env} {s : State} {m : MethodId} {args : Array Value} {below : List Frame} {meth : Method} {c : Code} {dC : Nat → ClassId} {dI : Nat → Nat → Nat} {ct : Nat → ClassId} {A : Nat → Prop} {a : Nat → Nat} {Post : Int32 → V → VL → Prop} {K17 : Int32 → Int32 → Int32 → V → VL → Prop}  (X : CxW p s m args meth c cX2_mostEven 6 (some .int) RX2 dC dI ct A) (hD : ∀ (z : V) (g : VL), va_D A (MW a ct z g)) (hK17 : ∀ (i1 : Int32) (i2 : Int32) (i3 : Int32) (z : V) (g : VL), K17 i1 i2 i3 z g → ∀ (H : Heap) (locs : List Loc) (ls : Array Slot), va_P (dC, dI) vwCl (MW a ct z g) H → va_S A s.heap H locs → lv_has ls 6 [(0, .ref (a 0)), (1, .int i1), (2, .int i2), (3, .int i3)] → W p l e rm_X2_mostEven s m args below meth c H locs 0 0 (MQ below (va_Qi (fun (r : Int32) (u : V × VL) => Post r u.1 u.2) (fun (u : V × VL) t => WPos dC dI ct (MW a ct u.1 u.2) A t) A) args s 0 0 A) (F0 m 17 ls [])) (i1 : Int32) (i3 : Int32) (is0 : Int32) (z : V) (g : VL) (w : wp_X2_mostEven_L100  Post K17 i1 i3 is0 z g) : ∀ (H : Heap) (locs : List Loc) (ls : Array Slot), va_P (dC, dI) vwCl (MW a ct z g) H → va_S A s.heap H locs → lv_has ls 6 [(0, .ref (a 0)), (1, .int i1), (3, .int i3)] → W p l e rm_X2_mostEven s m args below meth c H locs 0 0 (MQ below (va_Qi (fun (r : Int32) (u : V × VL) => Post r u.1 u.2) (fun (u : V × VL) t => WPos dC dI ct (MW a ct u.1 u.2) A t) A) args s 0 0 A) (F0 m 100 ls [.int is0]) := by
  intro H locs ls hP hS hl
  have X0 := X
  obtain ⟨⟨hx, hb, hml, hr, hlk, hown, hts⟩, hA, hK, hN⟩ := X0
  unfold wp_X2_mostEven_L100 at w
  refine lv_istore_n (lv' := [(2, .int is0), (0, .ref (a 0)), (1, .int i1), (3, .int i3)]) hx hb dX2_mostEven_100 rfl hl (by decide) rfl (fun ls hl => ?_)
  refine lv_iinc (v := (i3 + 1)) (lv' := [(3, .int (i3 + 1)), (2, .int is0), (0, .ref (a 0)), (1, .int i1)]) hx hb dX2_mostEven_101 hl (k := 3) rfl rfl (by decide) rfl (fun ls hl => ?_)
  refine lv_goto (tgt := 17) hx hb dX2_mostEven_104 (by decide) ?_
  exact hK17 _ _ _ _ _ w _ _ _ hP hS (lv_sub hl [2, 3, 1, 0] rfl)
set_option maxHeartbeats 4000000 in
set_option maxRecDepth 100000 in
theorem wk_X2_mostEven_L86 {p : Program} {l : Launch} {e : Env} {s : State} {m : MethodId} {args : Array Value} {below : List Frame} {meth : Method} {c : Code} {dC : Nat → ClassId} {dI : Nat → Nat → Nat} {ct : Nat → ClassId} {A : Nat → Prop} {a : Nat → Nat} {Post : Int32 → V → VL → Prop} {K17 : Int32 → Int32 → Int32 → V → VL → Prop}  (X : CxW p s m args meth c cX2_mostEven 6 (some .int) RX2 dC dI ct A) (hD : ∀ (z : V) (g : VL), va_D A (MW a ct z g)) (hK17 : ∀ (i1 : Int32) (i2 : Int32) (i3 : Int32) (z : V) (g : VL), K17 i1 i2 i3 z g → ∀ (H : Heap) (locs : List Loc) (ls : Array Slot), va_P (dC, dI) vwCl (MW a ct z g) H → va_S A s.heap H locs → lv_has ls 6 [(0, .ref (a 0)), (1, .int i1), (2, .int i2), (3, .int i3)] → W p l e rm_X2_mostEven s m args below meth c H locs 0 0 (MQ below (va_Qi (fun (r : Int32) (u : V × VL) => Post r u.1 u.2) (fun (u : V × VL) t => WPos dC dI ct (MW a ct u.1 u.2) A t) A) args s 0 0 A) (F0 m 17 ls [])) (i1 : Int32) (i2 : Int32) (i3 : Int32) (is0 : Int32) (z : V) (g : VL) (w : wp_X2_mostEven_L86  Post K17 i1 i2 i3 is0 z g) : ∀ (H : Heap) (locs : List Loc) (ls : Array Slot), va_P (dC, dI) vwCl (MW a ct z g) H → va_S A s.heap H locs → lv_has ls 6 [(0, .ref (a 0)), (1, .int i1), (2, .int i2), (3, .int i3)] → W p l e rm_X2_mostEven s m args below meth c H locs 0 0 (MQ below (va_Qi (fun (r : Int32) (u : V × VL) => Post r u.1 u.2) (fun (u : V × VL) t => WPos dC dI ct (MW a ct u.1 u.2) A t) A) args s 0 0 A) (F0 m 86 ls [.int is0]) := by
  intro H locs ls hP hS hl
  have X0 := X
  obtain ⟨⟨hx, hb, hml, hr, hlk, hown, hts⟩, hA, hK, hN⟩ := X0
  unfold wp_X2_mostEven_L86 at w
  refine lv_istore (lv' := [(5, .int is0), (0, .ref (a 0)), (1, .int i1), (2, .int i2), (3, .int i3)]) hx hb dX2_mostEven_86 hl (by decide) rfl (fun ls hl => ?_)
  refine lv_iload hx hb dX2_mostEven_88 (lv_at hl 0 rfl) ?_
  refine lv_iload_n hx hb dX2_mostEven_90 rfl (lv_at hl 3 rfl) ?_
  refine lv_icmp_le (tgt := 99) hx hb dX2_mostEven_91 (by decide) (fun c => ?_) (fun c => ?_)
  · have w := And.left w c
    refine lv_iload_n hx hb dX2_mostEven_99 rfl (lv_at hl 3 rfl) ?_
    exact wk_X2_mostEven_L100 X hD hK17 _ _ _ _ _ w _ _ _ hP hS (lv_sub hl [1, 2, 4] rfl)
  · have w := And.right w c
    refine lv_iload hx hb dX2_mostEven_94 (lv_at hl 0 rfl) ?_
    refine lv_goto (tgt := 100) hx hb dX2_mostEven_96 (by decide) ?_
    exact wk_X2_mostEven_L100 X hD hK17 _ _ _ _ _ w _ _ _ hP hS (lv_sub hl [1, 2, 4] rfl)
set_option maxHeartbeats 4000000 in
set_option maxRecDepth 100000 in
theorem wk_X2_mostEven_L57 {p : Program} {l : Launch} {e : Env} {s : State} {m : MethodId} {args : Array Value} {below : List Frame} {meth : Method} {c : Code} {dC : Nat → ClassId} {dI : Nat → Nat → Nat} {ct : Nat → ClassId} {A : Nat → Prop} {a : Nat → Nat} {Post : Int32 → V → VL → Prop} {K17 : Int32 → Int32 → Int32 → V → VL → Prop}  (X : CxW p s m args meth c cX2_mostEven 6 (some .int) RX2 dC dI ct A) (hD : ∀ (z : V) (g : VL), va_D A (MW a ct z g)) (hK17 : ∀ (i1 : Int32) (i2 : Int32) (i3 : Int32) (z : V) (g : VL), K17 i1 i2 i3 z g → ∀ (H : Heap) (locs : List Loc) (ls : Array Slot), va_P (dC, dI) vwCl (MW a ct z g) H → va_S A s.heap H locs → lv_has ls 6 [(0, .ref (a 0)), (1, .int i1), (2, .int i2), (3, .int i3)] → W p l e rm_X2_mostEven s m args below meth c H locs 0 0 (MQ below (va_Qi (fun (r : Int32) (u : V × VL) => Post r u.1 u.2) (fun (u : V × VL) t => WPos dC dI ct (MW a ct u.1 u.2) A t) A) args s 0 0 A) (F0 m 17 ls [])) (i1 : Int32) (i2 : Int32) (i3 : Int32) (is0 : Int32) (z : V) (g : VL) (w : wp_X2_mostEven_L57  Post K17 i1 i2 i3 is0 z g) : ∀ (H : Heap) (locs : List Loc) (ls : Array Slot), va_P (dC, dI) vwCl (MW a ct z g) H → va_S A s.heap H locs → lv_has ls 6 [(0, .ref (a 0)), (1, .int i1), (2, .int i2), (3, .int i3)] → W p l e rm_X2_mostEven s m args below meth c H locs 0 0 (MQ below (va_Qi (fun (r : Int32) (u : V × VL) => Post r u.1 u.2) (fun (u : V × VL) t => WPos dC dI ct (MW a ct u.1 u.2) A t) A) args s 0 0 A) (F0 m 57 ls [.int is0]) := by
  intro H locs ls hP hS hl
  have X0 := X
  obtain ⟨⟨hx, hb, hml, hr, hlk, hown, hts⟩, hA, hK, hN⟩ := X0
  unfold wp_X2_mostEven_L57 at w
  refine lv_istore (lv' := [(4, .int is0), (0, .ref (a 0)), (1, .int i1), (2, .int i2), (3, .int i3)]) hx hb dX2_mostEven_57 hl (by decide) rfl (fun ls hl => ?_)
  refine lv_iload hx hb dX2_mostEven_59 (lv_at hl 0 rfl) ?_
  refine lv_if_eq (tgt := 84) hx hb dX2_mostEven_61 (by decide) (fun c => ?_) (fun c => ?_)
  · have w := And.left w c
    refine lv_bipush (v := -6) hx hb dX2_mostEven_84 (by decide) ?_
    exact wk_X2_mostEven_L86 X hD hK17 _ _ _ _ _ _ w _ _ _ hP hS (lv_sub hl [1, 2, 3, 4] rfl)
  · have w := And.right w c
    refine lv_aload_n hx hb dX2_mostEven_64 rfl (lv_at hl 1 rfl) ?_
    refine va_get (D := (dC, dI)) (ci := 2) (v := .ref (a 16)) (C := RX2) (T := TX2) (N := 34) hx hb hts in_X2 hown hK hP 0 rfl rfl 25 (by decide) (hts _ q483) (fun _ h9 => h9) rfl dX2_mostEven_65 ?_
    refine lv_iload_n hx hb dX2_mostEven_68 rfl (lv_at hl 4 rfl) ?_
    obtain ⟨gi, w⟩ := w
    refine va_iald hx hb hK hP 16 0 rfl rfl gi dX2_mostEven_69 ?_
    refine lv_aload_n hx hb dX2_mostEven_70 rfl (lv_at hl 1 rfl) ?_
    refine va_get (D := (dC, dI)) (ci := 2) (v := .ref (a 16)) (C := RX2) (T := TX2) (N := 34) hx hb hts in_X2 hown hK hP 0 rfl rfl 25 (by decide) (hts _ q483) (fun _ h9 => h9) rfl dX2_mostEven_71 ?_
    refine lv_iload_n hx hb dX2_mostEven_74 rfl (lv_at hl 2 rfl) ?_
    refine lv_iload_n hx hb dX2_mostEven_75 rfl (lv_at hl 4 rfl) ?_
    refine lv_iconst (v := -1) hx hb dX2_mostEven_76 (by decide) ?_
    refine lv_ixor hx hb dX2_mostEven_77 ?_
    refine lv_iand hx hb dX2_mostEven_78 ?_
    obtain ⟨gi, w⟩ := w
    refine va_iald hx hb hK hP 16 0 rfl rfl gi dX2_mostEven_79 ?_
    refine lv_iadd hx hb dX2_mostEven_80 ?_
    refine lv_goto (tgt := 86) hx hb dX2_mostEven_81 (by decide) ?_
    exact wk_X2_mostEven_L86 X hD hK17 _ _ _ _ _ _ w _ _ _ hP hS (lv_sub hl [1, 2, 3, 4] rfl)
set_option maxHeartbeats 4000000 in
set_option maxRecDepth 100000 in
theorem wk_X2_mostEven_L56 {p : Program} {l : Launch} {e : Env} {s : State} {m : MethodId} {args : Array Value} {below : List Frame} {meth : Method} {c : Code} {dC : Nat → ClassId} {dI : Nat → Nat → Nat} {ct : Nat → ClassId} {A : Nat → Prop} {a : Nat → Nat} {Post : Int32 → V → VL → Prop} {K17 : Int32 → Int32 → Int32 → V → VL → Prop}  (X : CxW p s m args meth c cX2_mostEven 6 (some .int) RX2 dC dI ct A) (hD : ∀ (z : V) (g : VL), va_D A (MW a ct z g)) (hK17 : ∀ (i1 : Int32) (i2 : Int32) (i3 : Int32) (z : V) (g : VL), K17 i1 i2 i3 z g → ∀ (H : Heap) (locs : List Loc) (ls : Array Slot), va_P (dC, dI) vwCl (MW a ct z g) H → va_S A s.heap H locs → lv_has ls 6 [(0, .ref (a 0)), (1, .int i1), (2, .int i2), (3, .int i3)] → W p l e rm_X2_mostEven s m args below meth c H locs 0 0 (MQ below (va_Qi (fun (r : Int32) (u : V × VL) => Post r u.1 u.2) (fun (u : V × VL) t => WPos dC dI ct (MW a ct u.1 u.2) A t) A) args s 0 0 A) (F0 m 17 ls [])) (i1 : Int32) (i2 : Int32) (i3 : Int32) (z : V) (g : VL) (w : wp_X2_mostEven_L56  Post K17 i1 i2 i3 z g) : ∀ (H : Heap) (locs : List Loc) (ls : Array Slot), va_P (dC, dI) vwCl (MW a ct z g) H → va_S A s.heap H locs → lv_has ls 6 [(0, .ref (a 0)), (1, .int i1), (2, .int i2), (3, .int i3)] → W p l e rm_X2_mostEven s m args below meth c H locs 0 0 (MQ below (va_Qi (fun (r : Int32) (u : V × VL) => Post r u.1 u.2) (fun (u : V × VL) t => WPos dC dI ct (MW a ct u.1 u.2) A t) A) args s 0 0 A) (F0 m 56 ls []) := by
  intro H locs ls hP hS hl
  have X0 := X
  obtain ⟨⟨hx, hb, hml, hr, hlk, hown, hts⟩, hA, hK, hN⟩ := X0
  unfold wp_X2_mostEven_L56 at w
  refine lv_iconst (v := 0) hx hb dX2_mostEven_56 (by decide) ?_
  exact wk_X2_mostEven_L57 X hD hK17 _ _ _ _ _ _ w _ _ _ hP hS (lv_sub hl [0, 1, 2, 3] rfl)
set_option maxHeartbeats 4000000 in
set_option maxRecDepth 100000 in
theorem wk_X2_mostEven_S17 {p : Program} {l : Launch} {e : Env} {s : State} {m : MethodId} {args : Array Value} {below : List Frame} {meth : Method} {c : Code} {dC : Nat → ClassId} {dI : Nat → Nat → Nat} {ct : Nat → ClassId} {A : Nat → Prop} {a : Nat → Nat} {Post : Int32 → V → VL → Prop} {K17 : Int32 → Int32 → Int32 → V → VL → Prop}  (X : CxW p s m args meth c cX2_mostEven 6 (some .int) RX2 dC dI ct A) (hD : ∀ (z : V) (g : VL), va_D A (MW a ct z g)) (hK17 : ∀ (i1 : Int32) (i2 : Int32) (i3 : Int32) (z : V) (g : VL), K17 i1 i2 i3 z g → ∀ (H : Heap) (locs : List Loc) (ls : Array Slot), va_P (dC, dI) vwCl (MW a ct z g) H → va_S A s.heap H locs → lv_has ls 6 [(0, .ref (a 0)), (1, .int i1), (2, .int i2), (3, .int i3)] → W p l e rm_X2_mostEven s m args below meth c H locs 0 0 (MQ below (va_Qi (fun (r : Int32) (u : V × VL) => Post r u.1 u.2) (fun (u : V × VL) t => WPos dC dI ct (MW a ct u.1 u.2) A t) A) args s 0 0 A) (F0 m 17 ls [])) (i1 : Int32) (i2 : Int32) (i3 : Int32) (z : V) (g : VL) (w : wp_X2_mostEven_S17  Post K17 i1 i2 i3 z g) : ∀ (H : Heap) (locs : List Loc) (ls : Array Slot), va_P (dC, dI) vwCl (MW a ct z g) H → va_S A s.heap H locs → lv_has ls 6 [(0, .ref (a 0)), (1, .int i1), (2, .int i2), (3, .int i3)] → W p l e rm_X2_mostEven s m args below meth c H locs 0 0 (MQ below (va_Qi (fun (r : Int32) (u : V × VL) => Post r u.1 u.2) (fun (u : V × VL) t => WPos dC dI ct (MW a ct u.1 u.2) A t) A) args s 0 0 A) (F0 m 17 ls []) := by
  intro H locs ls hP hS hl
  have X0 := X
  obtain ⟨⟨hx, hb, hml, hr, hlk, hown, hts⟩, hA, hK, hN⟩ := X0
  unfold wp_X2_mostEven_S17 at w
  refine lv_iload_n hx hb dX2_mostEven_17 rfl (lv_at hl 3 rfl) ?_
  refine lv_iload_n hx hb dX2_mostEven_18 rfl (lv_at hl 1 rfl) ?_
  refine lv_icmp_ge (tgt := 107) hx hb dX2_mostEven_19 (by decide) (fun c => ?_) (fun c => ?_)
  · have w := And.left w c
    refine lv_iload_n hx hb dX2_mostEven_107 rfl (lv_at hl 2 rfl) ?_
    exact W.iret (v := i2) hx hb hr (fun t ht hW => ⟨⟨i2, (z, g), rfl, w, by rw [ht]; exact hP, va_K.moved hW.alike hK, (hD _ _)⟩, hS.F ht⟩) hS.2.2 dX2_mostEven_108 hlk
  · have w := And.right w c
    refine lv_iload_n hx hb dX2_mostEven_22 rfl (lv_at hl 3 rfl) ?_
    refine lv_iload_n hx hb dX2_mostEven_23 rfl (lv_at hl 1 rfl) ?_
    refine lv_iconst (v := -1) hx hb dX2_mostEven_24 (by decide) ?_
    refine lv_ixor hx hb dX2_mostEven_25 ?_
    refine lv_iand hx hb dX2_mostEven_26 ?_
    refine lv_if_ne (tgt := 56) hx hb dX2_mostEven_27 (by decide) (fun c => ?_) (fun c => ?_)
    · have w := And.right w c
      exact wk_X2_mostEven_L56 X hD hK17 _ _ _ _ _ w _ _ _ hP hS (lv_sub hl [0, 1, 2, 3] rfl)
    · have w := And.left w c
      refine lv_aload_n hx hb dX2_mostEven_30 rfl (lv_at hl 0 rfl) ?_
      refine va_get (D := (dC, dI)) (ci := 2) (v := .ref (a 16)) (C := RX2) (T := TX2) (N := 34) hx hb hts in_X2 hown hK hP 0 rfl rfl 25 (by decide) (hts _ q483) (fun _ h9 => h9) rfl dX2_mostEven_31 ?_
      refine lv_iload_n hx hb dX2_mostEven_34 rfl (lv_at hl 3 rfl) ?_
      obtain ⟨gi, w⟩ := w
      refine va_iald hx hb hK hP 16 0 rfl rfl gi dX2_mostEven_35 ?_
      refine lv_if_le (tgt := 56) hx hb dX2_mostEven_36 (by decide) (fun c => ?_) (fun c => ?_)
      · have w := And.left w c
        exact wk_X2_mostEven_L56 X hD hK17 _ _ _ _ _ w _ _ _ hP hS (lv_sub hl [0, 1, 2, 3] rfl)
      · have w := And.right w c
        refine lv_aload_n hx hb dX2_mostEven_39 rfl (lv_at hl 0 rfl) ?_
        refine va_get (D := (dC, dI)) (ci := 2) (v := .ref (a 16)) (C := RX2) (T := TX2) (N := 34) hx hb hts in_X2 hown hK hP 0 rfl rfl 25 (by decide) (hts _ q483) (fun _ h9 => h9) rfl dX2_mostEven_40 ?_
        refine lv_iload_n hx hb dX2_mostEven_43 rfl (lv_at hl 1 rfl) ?_
        refine lv_iload_n hx hb dX2_mostEven_44 rfl (lv_at hl 3 rfl) ?_
        refine lv_iconst (v := -1) hx hb dX2_mostEven_45 (by decide) ?_
        refine lv_ixor hx hb dX2_mostEven_46 ?_
        refine lv_iand hx hb dX2_mostEven_47 ?_
        obtain ⟨gi, w⟩ := w
        refine va_iald hx hb hK hP 16 0 rfl rfl gi dX2_mostEven_48 ?_
        refine lv_if_le (tgt := 56) hx hb dX2_mostEven_49 (by decide) (fun c => ?_) (fun c => ?_)
        · have w := And.left w c
          exact wk_X2_mostEven_L56 X hD hK17 _ _ _ _ _ w _ _ _ hP hS (lv_sub hl [0, 1, 2, 3] rfl)
        · have w := And.right w c
          refine lv_iconst (v := 1) hx hb dX2_mostEven_52 (by decide) ?_
          refine lv_goto (tgt := 57) hx hb dX2_mostEven_53 (by decide) ?_
          exact wk_X2_mostEven_L57 X hD hK17 _ _ _ _ _ _ w _ _ _ hP hS (lv_sub hl [0, 1, 2, 3] rfl)
set_option maxHeartbeats 4000000 in
set_option maxRecDepth 100000 in
theorem wk_X2_mostEven_L17 {p : Program} {l : Launch} {e : Env} {s : State} {m : MethodId} {args : Array Value} {below : List Frame} {meth : Method} {c : Code} {dC : Nat → ClassId} {dI : Nat → Nat → Nat} {ct : Nat → ClassId} {A : Nat → Prop} {a : Nat → Nat} {Post : Int32 → V → VL → Prop}   (X : CxW p s m args meth c cX2_mostEven 6 (some .int) RX2 dC dI ct A) (hD : ∀ (z : V) (g : VL), va_D A (MW a ct z g))  : ∀ (n : Nat) (i1 : Int32) (i2 : Int32) (i3 : Int32) (z : V) (g : VL), wp_X2_mostEven_L17  Post  n i1 i2 i3 z g → ∀ (H : Heap) (locs : List Loc) (ls : Array Slot), va_P (dC, dI) vwCl (MW a ct z g) H → va_S A s.heap H locs → lv_has ls 6 [(0, .ref (a 0)), (1, .int i1), (2, .int i2), (3, .int i3)] → W p l e rm_X2_mostEven s m args below meth c H locs 0 0 (MQ below (va_Qi (fun (r : Int32) (u : V × VL) => Post r u.1 u.2) (fun (u : V × VL) t => WPos dC dI ct (MW a ct u.1 u.2) A t) A) args s 0 0 A) (F0 m 17 ls []) := by
  intro n
  induction n with
  | zero => intro i1 i2 i3 z g w; exact False.elim w
  | succ n ih => intro i1 i2 i3 z g w H locs ls hP hS hl; exact wk_X2_mostEven_S17 X hD  ih i1 i2 i3 z g w H locs ls hP hS hl
set_option maxHeartbeats 4000000 in
set_option maxRecDepth 100000 in
theorem wk_X2_mostEven_L14 {p : Program} {l : Launch} {e : Env} {s : State} {m : MethodId} {args : Array Value} {below : List Frame} {meth : Method} {c : Code} {dC : Nat → ClassId} {dI : Nat → Nat → Nat} {ct : Nat → ClassId} {A : Nat → Prop} {a : Nat → Nat} {Post : Int32 → V → VL → Prop}   (X : CxW p s m args meth c cX2_mostEven 6 (some .int) RX2 dC dI ct A) (hD : ∀ (z : V) (g : VL), va_D A (MW a ct z g))  (i1 : Int32) (is0 : Int32) (z : V) (g : VL) (w : wp_X2_mostEven_L14  Post  i1 is0 z g) : ∀ (H : Heap) (locs : List Loc) (ls : Array Slot), va_P (dC, dI) vwCl (MW a ct z g) H → va_S A s.heap H locs → lv_has ls 6 [(0, .ref (a 0)), (1, .int i1)] → W p l e rm_X2_mostEven s m args below meth c H locs 0 0 (MQ below (va_Qi (fun (r : Int32) (u : V × VL) => Post r u.1 u.2) (fun (u : V × VL) t => WPos dC dI ct (MW a ct u.1 u.2) A t) A) args s 0 0 A) (F0 m 14 ls [.int is0]) := by
  intro H locs ls hP hS hl
  have X0 := X
  obtain ⟨⟨hx, hb, hml, hr, hlk, hown, hts⟩, hA, hK, hN⟩ := X0
  unfold wp_X2_mostEven_L14 at w
  refine lv_istore_n (lv' := [(2, .int is0), (0, .ref (a 0)), (1, .int i1)]) hx hb dX2_mostEven_14 rfl hl (by decide) rfl (fun ls hl => ?_)
  refine lv_iconst (v := 1) hx hb dX2_mostEven_15 (by decide) ?_
  refine lv_istore_n (lv' := [(3, .int (1 : Int32)), (2, .int is0), (0, .ref (a 0)), (1, .int i1)]) hx hb dX2_mostEven_16 rfl hl (by decide) rfl (fun ls hl => ?_)
  obtain ⟨n, w⟩ := w
  exact wk_X2_mostEven_L17 X hD  n _ _ _ _ _ w _ _ _ hP hS (lv_sub hl [2, 3, 1, 0] rfl)
set_option maxHeartbeats 4000000 in
set_option maxRecDepth 100000 in
theorem met_X2_mostEven (l : Launch) (dC : Nat → ClassId) (dI : Nat → Nat → Nat) (ct : Nat → ClassId) (a : Nat → Nat) (sz : Nat) {i1 : Int32} {z : V} {g : VL} {Post : Int32 → V → VL → Prop} (w : wp_X2_mostEven i1 z g Post) : Met l yX2_mostEven (ws_ yX2_mostEven cX2_mostEven 6 (some .int)) rm_X2_mostEven (va_Pc [.ref (a 0), .int i1] (fun U => WPre dC dI ct (MW a ct z g) sz U)) ((fun A => (va_Qi (fun (r : Int32) (u : V × VL) => Post r u.1 u.2) (fun (u : V × VL) t => WPos dC dI ct (MW a ct u.1 u.2) A t) A)) (va_A (MW a ct z g) sz)) 0 0 (va_A (MW a ct z g) sz) := by
  refine open_W (fun A => (va_Qi (fun (r : Int32) (u : V × VL) => Post r u.1 u.2) (fun (u : V × VL) t => WPos dC dI ct (MW a ct u.1 u.2) A t) A)) (by decide) (Nat.le_of_ble_eq_true rfl) ?_
  intro p e s m args below meth c ls A X hD0 hP hS hl
  have X0 := X
  obtain ⟨⟨hx, hb, hml, hr, hlk, hown, hts⟩, hA, hK, hN⟩ := X0
  have hD : ∀ (z' : V) (g' : VL), va_D A (MW a ct z' g') := fun z' g' => va_D_addr hD0 rfl
  have hl : lv_has ls 6 [(0, .ref (a 0)), (1, .int i1)] := hl
  unfold wp_X2_mostEven at w
  have hS0 := hS
  refine lv_aload_n hx hb dX2_mostEven_0 rfl (lv_at hl 0 rfl) ?_
  refine lv_iload_n hx hb dX2_mostEven_1 rfl (lv_at hl 1 rfl) ?_
  refine va_calli (va_runV (As := [.int i1]) (rest := []) ⟨hx, hb, hml, hown, hts⟩ (met_X2_netOf l dC dI ct a _ w) (cwV 1 hts (lw_V q752 q754 qs37 q51 q755) rfl rfl rfl hd_X2_netOf ⟨Nat.le_of_ble_eq_true rfl, Nat.le_of_ble_eq_true rfl⟩) (pre_V hK hP (hD _ _) hN (va_recv hK hP (ci := 2) (q0 := 0) rfl rfl)) rfl rfl hl.1 rfl (lv_room (Nat.le_of_ble_eq_true rfl)) dX2_mostEven_2 ⟨Nat.le_refl _, Nat.le_refl _⟩) hS (fun q _ h => x_free (hD _ _) hS hA q h) (x_free (hD _ _) hS hA) (fun r1 u t H locs ht hvm w hB hz hk hS => ?_)
  obtain ⟨z_1, g_1⟩ := u
  dsimp only at w
  have hP : va_P (dC, dI) vwCl (MW a ct z_1 g_1) H := post_P hB ht
  refine lv_if_ne (tgt := 12) hx hb dX2_mostEven_5 (by decide) (fun c => ?_) (fun c => ?_)
  · have w := And.right w c
    refine lv_bipush (v := -6) hx hb dX2_mostEven_12 (by decide) ?_
    exact wk_X2_mostEven_L14 X hD  _ _ _ _ w _ _ _ hP hS (lv_sub hl [0, 1] rfl)
  · have w := And.left w c
    refine lv_iconst (v := 1) hx hb dX2_mostEven_8 (by decide) ?_
    refine lv_goto (tgt := 14) hx hb dX2_mostEven_9 (by decide) ?_
    exact wk_X2_mostEven_L14 X hD  _ _ _ _ w _ _ _ hP hS (lv_sub hl [0, 1] rfl)
abbrev rm_X2_struck : Room := { frames := 2, cells := 0, slots := 0, locals := 48 }
theorem hd_X2_struck : yX2_struck.cls = RX2 ∧ yX2_struck.cls ≠ "java/lang/invoke/MethodHandle" ∧ yX2_struck.cls ≠ "java/lang/invoke/VarHandle" ∧ (parseMethodDescriptor yX2_struck.desc).map (fun d => d.parameters.length) = some 1 := by decide +kernel
set_option maxHeartbeats 4000000 in
set_option maxRecDepth 100000 in
theorem wk_X2_struck_L92 {p : Program} {l : Launch} {e : Env} {s : State} {m : MethodId} {args : Array Value} {below : List Frame} {meth : Method} {c : Code} {dC : Nat → ClassId} {dI : Nat → Nat → Nat} {ct : Nat → ClassId} {A : Nat → Prop} {a : Nat → Nat} {Post : Int32 → V → VL → Prop} {K17 : Int32 → Int32 → Int32 → V → VL → Prop}  (X : CxW p s m args meth c cX2_struck 5 (some .int) RX2 dC dI ct A) (hD : ∀ (z : V) (g : VL), va_D A (MW a ct z g)) (hK17 : ∀ (i1 : Int32) (i2 : Int32) (i3 : Int32) (z : V) (g : VL), K17 i1 i2 i3 z g → ∀ (H : Heap) (locs : List Loc) (ls : Array Slot), va_P (dC, dI) vwCl (MW a ct z g) H → va_S A s.heap H locs → lv_has ls 5 [(0, .ref (a 0)), (1, .int i1), (2, .int i2), (3, .int i3)] → W p l e rm_X2_struck s m args below meth c H locs 0 0 (MQ below (va_Qi (fun (r : Int32) (u : V × VL) => Post r u.1 u.2) (fun (u : V × VL) t => WPos dC dI ct (MW a ct u.1 u.2) A t) A) args s 0 0 A) (F0 m 17 ls [])) (i1 : Int32) (i3 : Int32) (is0 : Int32) (is1 : Int32) (z : V) (g : VL) (w : wp_X2_struck_L92  Post K17 i1 i3 is0 is1 z g) : ∀ (H : Heap) (locs : List Loc) (ls : Array Slot), va_P (dC, dI) vwCl (MW a ct z g) H → va_S A s.heap H locs → lv_has ls 5 [(0, .ref (a 0)), (1, .int i1), (3, .int i3)] → W p l e rm_X2_struck s m args below meth c H locs 0 0 (MQ below (va_Qi (fun (r : Int32) (u : V × VL) => Post r u.1 u.2) (fun (u : V × VL) t => WPos dC dI ct (MW a ct u.1 u.2) A t) A) args s 0 0 A) (F0 m 92 ls [.int is0, .int is1]) := by
  intro H locs ls hP hS hl
  have X0 := X
  obtain ⟨⟨hx, hb, hml, hr, hlk, hown, hts⟩, hA, hK, hN⟩ := X0
  unfold wp_X2_struck_L92 at w
  refine lv_iadd hx hb dX2_struck_92 ?_
  refine lv_istore_n (lv' := [(2, .int (is1 + is0)), (0, .ref (a 0)), (1, .int i1), (3, .int i3)]) hx hb dX2_struck_93 rfl hl (by decide) rfl (fun ls hl => ?_)
  refine lv_iinc (v := (i3 + 1)) (lv' := [(3, .int (i3 + 1)), (2, .int (is1 + is0)), (0, .ref (a 0)), (1, .int i1)]) hx hb dX2_struck_94 hl (k := 3) rfl rfl (by decide) rfl (fun ls hl => ?_)
  refine lv_goto (tgt := 17) hx hb dX2_struck_97 (by decide) ?_
  exact hK17 _ _ _ _ _ w _ _ _ hP hS (lv_sub hl [2, 3, 1, 0] rfl)
set_option maxHeartbeats 4000000 in
set_option maxRecDepth 100000 in
theorem wk_X2_struck_S38 {p : Program} {l : Launch} {e : Env} {s : State} {m : MethodId} {args : Array Value} {below : List Frame} {meth : Method} {c : Code} {dC : Nat → ClassId} {dI : Nat → Nat → Nat} {ct : Nat → ClassId} {A : Nat → Prop} {a : Nat → Nat} {Post : Int32 → V → VL → Prop} {K17 : Int32 → Int32 → Int32 → V → VL → Prop} {K38 : Int32 → Int32 → Int32 → Int32 → V → VL → Prop}  (X : CxW p s m args meth c cX2_struck 5 (some .int) RX2 dC dI ct A) (hD : ∀ (z : V) (g : VL), va_D A (MW a ct z g)) (hK17 : ∀ (i1 : Int32) (i2 : Int32) (i3 : Int32) (z : V) (g : VL), K17 i1 i2 i3 z g → ∀ (H : Heap) (locs : List Loc) (ls : Array Slot), va_P (dC, dI) vwCl (MW a ct z g) H → va_S A s.heap H locs → lv_has ls 5 [(0, .ref (a 0)), (1, .int i1), (2, .int i2), (3, .int i3)] → W p l e rm_X2_struck s m args below meth c H locs 0 0 (MQ below (va_Qi (fun (r : Int32) (u : V × VL) => Post r u.1 u.2) (fun (u : V × VL) t => WPos dC dI ct (MW a ct u.1 u.2) A t) A) args s 0 0 A) (F0 m 17 ls [])) (hK38 : ∀ (i1 : Int32) (i2 : Int32) (i3 : Int32) (i4 : Int32) (z : V) (g : VL), K38 i1 i2 i3 i4 z g → ∀ (H : Heap) (locs : List Loc) (ls : Array Slot), va_P (dC, dI) vwCl (MW a ct z g) H → va_S A s.heap H locs → lv_has ls 5 [(0, .ref (a 0)), (1, .int i1), (2, .int i2), (3, .int i3), (4, .int i4)] → W p l e rm_X2_struck s m args below meth c H locs 0 0 (MQ below (va_Qi (fun (r : Int32) (u : V × VL) => Post r u.1 u.2) (fun (u : V × VL) t => WPos dC dI ct (MW a ct u.1 u.2) A t) A) args s 0 0 A) (F0 m 38 ls [])) (i1 : Int32) (i2 : Int32) (i3 : Int32) (i4 : Int32) (z : V) (g : VL) (w : wp_X2_struck_S38  Post K17 K38 i1 i2 i3 i4 z g) : ∀ (H : Heap) (locs : List Loc) (ls : Array Slot), va_P (dC, dI) vwCl (MW a ct z g) H → va_S A s.heap H locs → lv_has ls 5 [(0, .ref (a 0)), (1, .int i1), (2, .int i2), (3, .int i3), (4, .int i4)] → W p l e rm_X2_struck s m args below meth c H locs 0 0 (MQ below (va_Qi (fun (r : Int32) (u : V × VL) => Post r u.1 u.2) (fun (u : V × VL) t => WPos dC dI ct (MW a ct u.1 u.2) A t) A) args s 0 0 A) (F0 m 38 ls []) := by
  intro H locs ls hP hS hl
  have X0 := X
  obtain ⟨⟨hx, hb, hml, hr, hlk, hown, hts⟩, hA, hK, hN⟩ := X0
  unfold wp_X2_struck_S38 at w
  refine lv_iload hx hb dX2_struck_38 (lv_at hl 4 rfl) ?_
  refine lv_bipush (v := 6) hx hb dX2_struck_40 (by decide) ?_
  refine lv_icmp_ge (tgt := 72) hx hb dX2_struck_42 (by decide) (fun c => ?_) (fun c => ?_)
  · have w := And.left w c
    refine lv_iload_n hx hb dX2_struck_72 rfl (lv_at hl 2 rfl) ?_
    refine lv_aload_n hx hb dX2_struck_73 rfl (lv_at hl 0 rfl) ?_
    refine va_get (D := (dC, dI)) (ci := 2) (v := .ref (a 15)) (C := RX2) (T := TX2) (N := 34) hx hb hts in_X2 hown hK hP 0 rfl rfl 24 (by decide) (hts _ q482) (fun _ h9 => h9) rfl dX2_struck_74 ?_
    refine lv_iload_n hx hb dX2_struck_77 rfl (lv_at hl 3 rfl) ?_
    obtain ⟨gi, w⟩ := w
    refine va_iald hx hb hK hP 15 0 rfl rfl gi dX2_struck_78 ?_
    refine lv_if_le (tgt := 91) hx hb dX2_struck_79 (by decide) (fun c => ?_) (fun c => ?_)
    · have w := And.left w c
      refine lv_iconst (v := 0) hx hb dX2_struck_91 (by decide) ?_
      exact wk_X2_struck_L92 X hD hK17 _ _ _ _ _ _ w _ _ _ hP hS (lv_sub hl [0, 1, 3] rfl)
    · have w := And.right w c
      refine lv_aload_n hx hb dX2_struck_82 rfl (lv_at hl 0 rfl) ?_
      refine va_get (D := (dC, dI)) (ci := 2) (v := .ref (a 15)) (C := RX2) (T := TX2) (N := 34) hx hb hts in_X2 hown hK hP 0 rfl rfl 24 (by decide) (hts _ q482) (fun _ h9 => h9) rfl dX2_struck_83 ?_
      refine lv_iload_n hx hb dX2_struck_86 rfl (lv_at hl 3 rfl) ?_
      obtain ⟨gi, w⟩ := w
      refine va_iald hx hb hK hP 15 0 rfl rfl gi dX2_struck_87 ?_
      refine lv_goto (tgt := 92) hx hb dX2_struck_88 (by decide) ?_
      exact wk_X2_struck_L92 X hD hK17 _ _ _ _ _ _ w _ _ _ hP hS (lv_sub hl [0, 1, 3] rfl)
  · have w := And.right w c
    refine lv_aload_n hx hb dX2_struck_45 rfl (lv_at hl 0 rfl) ?_
    refine va_get (D := (dC, dI)) (ci := 2) (v := .ref (a 15)) (C := RX2) (T := TX2) (N := 34) hx hb hts in_X2 hown hK hP 0 rfl rfl 24 (by decide) (hts _ q482) (fun _ h9 => h9) rfl dX2_struck_46 ?_
    refine lv_iload_n hx hb dX2_struck_49 rfl (lv_at hl 3 rfl) ?_
    refine lv_dup2_11 hx hb dX2_struck_50 rfl rfl ?_
    obtain ⟨gi, w⟩ := w
    refine va_iald hx hb hK hP 15 0 rfl rfl gi dX2_struck_51 ?_
    refine lv_aload_n hx hb dX2_struck_52 rfl (lv_at hl 0 rfl) ?_
    refine va_get (D := (dC, dI)) (ci := 2) (v := .ref (a 3)) (C := RX2) (T := TX2) (N := 34) hx hb hts in_X2 hown hK hP 0 rfl rfl 2 (by decide) (hts _ q460) (fun _ h9 => h9) rfl dX2_struck_53 ?_
    refine lv_bipush (v := 6) hx hb dX2_struck_56 (by decide) ?_
    refine lv_iload hx hb dX2_struck_58 (lv_at hl 4 rfl) ?_
    refine lv_imul hx hb dX2_struck_60 ?_
    refine lv_iload_n hx hb dX2_struck_61 rfl (lv_at hl 3 rfl) ?_
    refine lv_iadd hx hb dX2_struck_62 ?_
    obtain ⟨gi, w⟩ := w
    refine va_iald hx hb hK hP 3 0 rfl rfl gi dX2_struck_63 ?_
    refine lv_iadd hx hb dX2_struck_64 ?_
    obtain ⟨gi, w⟩ := w
    refine va_iast hx hb hK hP (hD _ _) hS 15 0 rfl rfl gi dX2_struck_65 (fun H locs hP _ hS => ?_)
    have hP : va_P (dC, dI) vwCl (MW a ct (up2 z 14 i3.toNatClampNeg ((z 14 i3.toNatClampNeg) + (z 2 (((6 : Int32) * i4) + i3).toNatClampNeg))) g) H := MW_u_z_14 hP
    refine lv_iinc (v := (i4 + 1)) (lv' := [(4, .int (i4 + 1)), (0, .ref (a 0)), (1, .int i1), (2, .int i2), (3, .int i3)]) hx hb dX2_struck_66 hl (k := 4) rfl rfl (by decide) rfl (fun ls hl => ?_)
    refine lv_goto (tgt := 38) hx hb dX2_struck_69 (by decide) ?_
    exact hK38 _ _ _ _ _ _ w _ _ _ hP hS (lv_sub hl [1, 2, 3, 4, 0] rfl)
set_option maxHeartbeats 4000000 in
set_option maxRecDepth 100000 in
theorem wk_X2_struck_L38 {p : Program} {l : Launch} {e : Env} {s : State} {m : MethodId} {args : Array Value} {below : List Frame} {meth : Method} {c : Code} {dC : Nat → ClassId} {dI : Nat → Nat → Nat} {ct : Nat → ClassId} {A : Nat → Prop} {a : Nat → Nat} {Post : Int32 → V → VL → Prop} {K17 : Int32 → Int32 → Int32 → V → VL → Prop}  (X : CxW p s m args meth c cX2_struck 5 (some .int) RX2 dC dI ct A) (hD : ∀ (z : V) (g : VL), va_D A (MW a ct z g)) (hK17 : ∀ (i1 : Int32) (i2 : Int32) (i3 : Int32) (z : V) (g : VL), K17 i1 i2 i3 z g → ∀ (H : Heap) (locs : List Loc) (ls : Array Slot), va_P (dC, dI) vwCl (MW a ct z g) H → va_S A s.heap H locs → lv_has ls 5 [(0, .ref (a 0)), (1, .int i1), (2, .int i2), (3, .int i3)] → W p l e rm_X2_struck s m args below meth c H locs 0 0 (MQ below (va_Qi (fun (r : Int32) (u : V × VL) => Post r u.1 u.2) (fun (u : V × VL) t => WPos dC dI ct (MW a ct u.1 u.2) A t) A) args s 0 0 A) (F0 m 17 ls [])) : ∀ (n : Nat) (i1 : Int32) (i2 : Int32) (i3 : Int32) (i4 : Int32) (z : V) (g : VL), wp_X2_struck_L38  Post K17 n i1 i2 i3 i4 z g → ∀ (H : Heap) (locs : List Loc) (ls : Array Slot), va_P (dC, dI) vwCl (MW a ct z g) H → va_S A s.heap H locs → lv_has ls 5 [(0, .ref (a 0)), (1, .int i1), (2, .int i2), (3, .int i3), (4, .int i4)] → W p l e rm_X2_struck s m args below meth c H locs 0 0 (MQ below (va_Qi (fun (r : Int32) (u : V × VL) => Post r u.1 u.2) (fun (u : V × VL) t => WPos dC dI ct (MW a ct u.1 u.2) A t) A) args s 0 0 A) (F0 m 38 ls []) := by
  intro n
  induction n with
  | zero => intro i1 i2 i3 i4 z g w; exact False.elim w
  | succ n ih => intro i1 i2 i3 i4 z g w H locs ls hP hS hl; exact wk_X2_struck_S38 X hD hK17 ih i1 i2 i3 i4 z g w H locs ls hP hS hl
set_option maxHeartbeats 4000000 in
set_option maxRecDepth 100000 in
theorem wk_X2_struck_S109 {p : Program} {l : Launch} {e : Env} {s : State} {m : MethodId} {args : Array Value} {below : List Frame} {meth : Method} {c : Code} {dC : Nat → ClassId} {dI : Nat → Nat → Nat} {ct : Nat → ClassId} {A : Nat → Prop} {a : Nat → Nat} {Post : Int32 → V → VL → Prop} {K109 : Int32 → V → VL → Prop}  (X : CxW p s m args meth c cX2_struck 5 (some .int) RX2 dC dI ct A) (hD : ∀ (z : V) (g : VL), va_D A (MW a ct z g)) (hK109 : ∀ (i3 : Int32) (z : V) (g : VL), K109 i3 z g → ∀ (H : Heap) (locs : List Loc) (ls : Array Slot), va_P (dC, dI) vwCl (MW a ct z g) H → va_S A s.heap H locs → lv_has ls 5 [(0, .ref (a 0)), (3, .int i3)] → W p l e rm_X2_struck s m args below meth c H locs 0 0 (MQ below (va_Qi (fun (r : Int32) (u : V × VL) => Post r u.1 u.2) (fun (u : V × VL) t => WPos dC dI ct (MW a ct u.1 u.2) A t) A) args s 0 0 A) (F0 m 109 ls [])) (i3 : Int32) (z : V) (g : VL) (w : wp_X2_struck_S109  Post K109 i3 z g) : ∀ (H : Heap) (locs : List Loc) (ls : Array Slot), va_P (dC, dI) vwCl (MW a ct z g) H → va_S A s.heap H locs → lv_has ls 5 [(0, .ref (a 0)), (3, .int i3)] → W p l e rm_X2_struck s m args below meth c H locs 0 0 (MQ below (va_Qi (fun (r : Int32) (u : V × VL) => Post r u.1 u.2) (fun (u : V × VL) t => WPos dC dI ct (MW a ct u.1 u.2) A t) A) args s 0 0 A) (F0 m 109 ls []) := by
  intro H locs ls hP hS hl
  have X0 := X
  obtain ⟨⟨hx, hb, hml, hr, hlk, hown, hts⟩, hA, hK, hN⟩ := X0
  unfold wp_X2_struck_S109 at w
  refine lv_iload_n hx hb dX2_struck_109 rfl (lv_at hl 1 rfl) ?_
  refine lv_bipush (v := 64) hx hb dX2_struck_110 (by decide) ?_
  refine lv_icmp_ge (tgt := 132) hx hb dX2_struck_112 (by decide) (fun c => ?_) (fun c => ?_)
  · have w := And.left w c
    refine lv_bipush (v := 6) hx hb dX2_struck_132 (by decide) ?_
    refine lv_aload_n hx hb dX2_struck_134 rfl (lv_at hl 0 rfl) ?_
    refine va_get (D := (dC, dI)) (ci := 2) (v := .ref (a 16)) (C := RX2) (T := TX2) (N := 34) hx hb hts in_X2 hown hK hP 0 rfl rfl 25 (by decide) (hts _ q483) (fun _ h9 => h9) rfl dX2_struck_135 ?_
    refine lv_bipush (v := 63) hx hb dX2_struck_138 (by decide) ?_
    refine va_iald hx hb hK hP 16 0 rfl rfl (x_vin (by decide)) dX2_struck_140 ?_
    refine lv_isub hx hb dX2_struck_141 ?_
    exact W.iret (v := ((6 : Int32) - (z 15 (63 : Int32).toNatClampNeg))) hx hb hr (fun t ht hW => ⟨⟨((6 : Int32) - (z 15 (63 : Int32).toNatClampNeg)), (z, g), rfl, w, by rw [ht]; exact hP, va_K.moved hW.alike hK, (hD _ _)⟩, hS.F ht⟩) hS.2.2 dX2_struck_142 hlk
  · have w := And.right w c
    refine lv_aload_n hx hb dX2_struck_115 rfl (lv_at hl 0 rfl) ?_
    refine va_get (D := (dC, dI)) (ci := 2) (v := .ref (a 16)) (C := RX2) (T := TX2) (N := 34) hx hb hts in_X2 hown hK hP 0 rfl rfl 25 (by decide) (hts _ q483) (fun _ h9 => h9) rfl dX2_struck_116 ?_
    refine lv_iload_n hx hb dX2_struck_119 rfl (lv_at hl 1 rfl) ?_
    refine lv_aload_n hx hb dX2_struck_120 rfl (lv_at hl 0 rfl) ?_
    refine lv_iload_n hx hb dX2_struck_121 rfl (lv_at hl 1 rfl) ?_
    refine va_calli (va_runV (As := [.int i3]) (rest := [.int i3, .ref (a 16)]) ⟨hx, hb, hml, hown, hts⟩ (met_X2_mostEven l dC dI ct a _ w) (cwV 1 hts (lw_V q748 q750 qs36 q51 q751) rfl rfl rfl hd_X2_mostEven ⟨Nat.le_of_ble_eq_true rfl, Nat.le_of_ble_eq_true rfl⟩) (pre_V hK hP (hD _ _) hN (va_recv hK hP (ci := 2) (q0 := 0) rfl rfl)) rfl rfl hl.1 rfl (lv_room (Nat.le_of_ble_eq_true rfl)) dX2_struck_122 ⟨Nat.le_refl _, Nat.le_refl _⟩) hS (fun q _ h => x_free (hD _ _) hS hA q h) (x_free (hD _ _) hS hA) (fun r1 u t H locs ht hvm w hB hz hk hS => ?_)
    obtain ⟨z_1, g_1⟩ := u
    dsimp only at w
    have hP : va_P (dC, dI) vwCl (MW a ct z_1 g_1) H := post_P hB ht
    obtain ⟨gi, w⟩ := w
    refine va_iast hx hb hK hP (hD _ _) hS 16 0 rfl rfl gi dX2_struck_125 (fun H locs hP _ hS => ?_)
    have hP : va_P (dC, dI) vwCl (MW a ct (up2 z_1 15 i3.toNatClampNeg r1) g_1) H := MW_u_z_15 hP
    refine lv_iinc (v := (i3 + 1)) (lv' := [(3, .int (i3 + 1)), (0, .ref (a 0))]) hx hb dX2_struck_126 hl (k := 1) rfl rfl (by decide) rfl (fun ls hl => ?_)
    refine lv_goto (tgt := 109) hx hb dX2_struck_129 (by decide) ?_
    exact hK109 _ _ _ w _ _ _ hP hS (lv_sub hl [1, 0] rfl)
set_option maxHeartbeats 4000000 in
set_option maxRecDepth 100000 in
theorem wk_X2_struck_L109 {p : Program} {l : Launch} {e : Env} {s : State} {m : MethodId} {args : Array Value} {below : List Frame} {meth : Method} {c : Code} {dC : Nat → ClassId} {dI : Nat → Nat → Nat} {ct : Nat → ClassId} {A : Nat → Prop} {a : Nat → Nat} {Post : Int32 → V → VL → Prop}   (X : CxW p s m args meth c cX2_struck 5 (some .int) RX2 dC dI ct A) (hD : ∀ (z : V) (g : VL), va_D A (MW a ct z g))  : ∀ (n : Nat) (i3 : Int32) (z : V) (g : VL), wp_X2_struck_L109  Post  n i3 z g → ∀ (H : Heap) (locs : List Loc) (ls : Array Slot), va_P (dC, dI) vwCl (MW a ct z g) H → va_S A s.heap H locs → lv_has ls 5 [(0, .ref (a 0)), (3, .int i3)] → W p l e rm_X2_struck s m args below meth c H locs 0 0 (MQ below (va_Qi (fun (r : Int32) (u : V × VL) => Post r u.1 u.2) (fun (u : V × VL) t => WPos dC dI ct (MW a ct u.1 u.2) A t) A) args s 0 0 A) (F0 m 109 ls []) := by
  intro n
  induction n with
  | zero => intro i3 z g w; exact False.elim w
  | succ n ih => intro i3 z g w H locs ls hP hS hl; exact wk_X2_struck_S109 X hD  ih i3 z g w H locs ls hP hS hl
set_option maxHeartbeats 4000000 in
set_option maxRecDepth 100000 in
theorem wk_X2_struck_S17 {p : Program} {l : Launch} {e : Env} {s : State} {m : MethodId} {args : Array Value} {below : List Frame} {meth : Method} {c : Code} {dC : Nat → ClassId} {dI : Nat → Nat → Nat} {ct : Nat → ClassId} {A : Nat → Prop} {a : Nat → Nat} {Post : Int32 → V → VL → Prop} {K17 : Int32 → Int32 → Int32 → V → VL → Prop}  (X : CxW p s m args meth c cX2_struck 5 (some .int) RX2 dC dI ct A) (hD : ∀ (z : V) (g : VL), va_D A (MW a ct z g)) (hK17 : ∀ (i1 : Int32) (i2 : Int32) (i3 : Int32) (z : V) (g : VL), K17 i1 i2 i3 z g → ∀ (H : Heap) (locs : List Loc) (ls : Array Slot), va_P (dC, dI) vwCl (MW a ct z g) H → va_S A s.heap H locs → lv_has ls 5 [(0, .ref (a 0)), (1, .int i1), (2, .int i2), (3, .int i3)] → W p l e rm_X2_struck s m args below meth c H locs 0 0 (MQ below (va_Qi (fun (r : Int32) (u : V × VL) => Post r u.1 u.2) (fun (u : V × VL) t => WPos dC dI ct (MW a ct u.1 u.2) A t) A) args s 0 0 A) (F0 m 17 ls [])) (i1 : Int32) (i2 : Int32) (i3 : Int32) (z : V) (g : VL) (w : wp_X2_struck_S17  Post K17 i1 i2 i3 z g) : ∀ (H : Heap) (locs : List Loc) (ls : Array Slot), va_P (dC, dI) vwCl (MW a ct z g) H → va_S A s.heap H locs → lv_has ls 5 [(0, .ref (a 0)), (1, .int i1), (2, .int i2), (3, .int i3)] → W p l e rm_X2_struck s m args below meth c H locs 0 0 (MQ below (va_Qi (fun (r : Int32) (u : V × VL) => Post r u.1 u.2) (fun (u : V × VL) t => WPos dC dI ct (MW a ct u.1 u.2) A t) A) args s 0 0 A) (F0 m 17 ls []) := by
  intro H locs ls hP hS hl
  have X0 := X
  obtain ⟨⟨hx, hb, hml, hr, hlk, hown, hts⟩, hA, hK, hN⟩ := X0
  unfold wp_X2_struck_S17 at w
  refine lv_iload_n hx hb dX2_struck_17 rfl (lv_at hl 3 rfl) ?_
  refine lv_bipush (v := 6) hx hb dX2_struck_18 (by decide) ?_
  refine lv_icmp_ge (tgt := 100) hx hb dX2_struck_20 (by decide) (fun c => ?_) (fun c => ?_)
  · have w := And.left w c
    refine lv_iload_n hx hb dX2_struck_100 rfl (lv_at hl 1 rfl) ?_
    refine lv_iconst (v := 1) hx hb dX2_struck_101 (by decide) ?_
    refine lv_icmp_ne (tgt := 107) hx hb dX2_struck_102 (by decide) (fun c => ?_) (fun c => ?_)
    · have w := And.right w c
      refine lv_iconst (v := 1) hx hb dX2_struck_107 (by decide) ?_
      refine lv_istore_n (lv' := [(3, .int (1 : Int32)), (0, .ref (a 0)), (1, .int i1), (2, .int i2)]) hx hb dX2_struck_108 rfl hl (by decide) rfl (fun ls hl => ?_)
      obtain ⟨n, w⟩ := w
      exact wk_X2_struck_L109 X hD  n _ _ _ w _ _ _ hP hS (lv_sub hl [1, 0] rfl)
    · have w := And.left w c
      refine lv_iload_n hx hb dX2_struck_105 rfl (lv_at hl 2 rfl) ?_
      exact W.iret (v := i2) hx hb hr (fun t ht hW => ⟨⟨i2, (z, g), rfl, w, by rw [ht]; exact hP, va_K.moved hW.alike hK, (hD _ _)⟩, hS.F ht⟩) hS.2.2 dX2_struck_106 hlk
  · have w := And.right w c
    refine lv_aload_n hx hb dX2_struck_23 rfl (lv_at hl 0 rfl) ?_
    refine va_get (D := (dC, dI)) (ci := 2) (v := .ref (a 15)) (C := RX2) (T := TX2) (N := 34) hx hb hts in_X2 hown hK hP 0 rfl rfl 24 (by decide) (hts _ q482) (fun _ h9 => h9) rfl dX2_struck_24 ?_
    refine lv_iload_n hx hb dX2_struck_27 rfl (lv_at hl 3 rfl) ?_
    refine lv_aload_n hx hb dX2_struck_28 rfl (lv_at hl 0 rfl) ?_
    refine lv_iload_n hx hb dX2_struck_29 rfl (lv_at hl 3 rfl) ?_
    refine va_calli (va_runV (As := [.int i3]) (rest := [.int i3, .ref (a 15)]) ⟨hx, hb, hml, hown, hts⟩ (met_X2_owesInAll l dC dI ct a _ w) (cwV 1 hts (lw_V q724 q726 qs34 q51 q727) rfl rfl rfl hd_X2_owesInAll ⟨Nat.le_of_ble_eq_true rfl, Nat.le_of_ble_eq_true rfl⟩) (pre_V hK hP (hD _ _) hN (va_recv hK hP (ci := 2) (q0 := 0) rfl rfl)) rfl rfl hl.1 rfl (lv_room (Nat.le_of_ble_eq_true rfl)) dX2_struck_30 ⟨Nat.le_refl _, Nat.le_refl _⟩) hS (fun q _ h => x_free (hD _ _) hS hA q h) (x_free (hD _ _) hS hA) (fun r1 u t H locs ht hvm w hB hz hk hS => ?_)
    obtain ⟨z_1, g_1⟩ := u
    dsimp only at w
    have hP : va_P (dC, dI) vwCl (MW a ct z_1 g_1) H := post_P hB ht
    refine lv_ineg hx hb dX2_struck_33 ?_
    obtain ⟨gi, w⟩ := w
    refine va_iast hx hb hK hP (hD _ _) hS 15 0 rfl rfl gi dX2_struck_34 (fun H locs hP _ hS => ?_)
    have hP : va_P (dC, dI) vwCl (MW a ct (up2 z_1 14 i3.toNatClampNeg (-r1)) g_1) H := MW_u_z_14 hP
    refine lv_iconst (v := 0) hx hb dX2_struck_35 (by decide) ?_
    refine lv_istore (lv' := [(4, .int (0 : Int32)), (0, .ref (a 0)), (1, .int i1), (2, .int i2), (3, .int i3)]) hx hb dX2_struck_36 hl (by decide) rfl (fun ls hl => ?_)
    obtain ⟨n, w⟩ := w
    exact wk_X2_struck_L38 X hD hK17 n _ _ _ _ _ _ w _ _ _ hP hS (lv_sub hl [1, 2, 3, 4, 0] rfl)
set_option maxHeartbeats 4000000 in
set_option maxRecDepth 100000 in
theorem wk_X2_struck_L17 {p : Program} {l : Launch} {e : Env} {s : State} {m : MethodId} {args : Array Value} {below : List Frame} {meth : Method} {c : Code} {dC : Nat → ClassId} {dI : Nat → Nat → Nat} {ct : Nat → ClassId} {A : Nat → Prop} {a : Nat → Nat} {Post : Int32 → V → VL → Prop}   (X : CxW p s m args meth c cX2_struck 5 (some .int) RX2 dC dI ct A) (hD : ∀ (z : V) (g : VL), va_D A (MW a ct z g))  : ∀ (n : Nat) (i1 : Int32) (i2 : Int32) (i3 : Int32) (z : V) (g : VL), wp_X2_struck_L17  Post  n i1 i2 i3 z g → ∀ (H : Heap) (locs : List Loc) (ls : Array Slot), va_P (dC, dI) vwCl (MW a ct z g) H → va_S A s.heap H locs → lv_has ls 5 [(0, .ref (a 0)), (1, .int i1), (2, .int i2), (3, .int i3)] → W p l e rm_X2_struck s m args below meth c H locs 0 0 (MQ below (va_Qi (fun (r : Int32) (u : V × VL) => Post r u.1 u.2) (fun (u : V × VL) t => WPos dC dI ct (MW a ct u.1 u.2) A t) A) args s 0 0 A) (F0 m 17 ls []) := by
  intro n
  induction n with
  | zero => intro i1 i2 i3 z g w; exact False.elim w
  | succ n ih => intro i1 i2 i3 z g w H locs ls hP hS hl; exact wk_X2_struck_S17 X hD  ih i1 i2 i3 z g w H locs ls hP hS hl
set_option maxHeartbeats 4000000 in
set_option maxRecDepth 100000 in
theorem met_X2_struck (l : Launch) (dC : Nat → ClassId) (dI : Nat → Nat → Nat) (ct : Nat → ClassId) (a : Nat → Nat) (sz : Nat) {i1 : Int32} {z : V} {g : VL} {Post : Int32 → V → VL → Prop} (w : wp_X2_struck i1 z g Post) : Met l yX2_struck (ws_ yX2_struck cX2_struck 5 (some .int)) rm_X2_struck (va_Pc [.ref (a 0), .int i1] (fun U => WPre dC dI ct (MW a ct z g) sz U)) ((fun A => (va_Qi (fun (r : Int32) (u : V × VL) => Post r u.1 u.2) (fun (u : V × VL) t => WPos dC dI ct (MW a ct u.1 u.2) A t) A)) (va_A (MW a ct z g) sz)) 0 0 (va_A (MW a ct z g) sz) := by
  refine open_W (fun A => (va_Qi (fun (r : Int32) (u : V × VL) => Post r u.1 u.2) (fun (u : V × VL) t => WPos dC dI ct (MW a ct u.1 u.2) A t) A)) (by decide) (Nat.le_of_ble_eq_true rfl) ?_
  intro p e s m args below meth c ls A X hD0 hP hS hl
  have X0 := X
  obtain ⟨⟨hx, hb, hml, hr, hlk, hown, hts⟩, hA, hK, hN⟩ := X0
  have hD : ∀ (z' : V) (g' : VL), va_D A (MW a ct z' g') := fun z' g' => va_D_addr hD0 rfl
  have hl : lv_has ls 5 [(0, .ref (a 0)), (1, .int i1)] := hl
  unfold wp_X2_struck at w
  have hS0 := hS
  refine lv_iload_n hx hb dX2_struck_0 rfl (lv_at hl 1 rfl) ?_
  refine lv_i2l hx hb dX2_struck_1 rfl ?_
  refine lv_lconst (v := 0) hx hb dX2_struck_2 (by decide) ?_
  refine lv_lconst (v := 1) hx hb dX2_struck_3 (by decide) ?_
  refine vp_callSi (W.runS (As := [.long i1.toInt64, .long (0 : Int64), .long (1 : Int64)]) (rest := []) ⟨hx, hb, hml, hown, hts⟩ (met_X2_in l w) (va_cwS 3 hts (lw_S q570 q571 q51 q572) rfl rfl rfl hd_X2_in ⟨Nat.le_of_ble_eq_true rfl, Nat.le_of_ble_eq_true rfl⟩) pre_S rfl rfl hl.1 rfl (lv_room (Nat.le_of_ble_eq_true rfl)) dX2_struck_4 ⟨Nat.le_refl _, Nat.le_refl _⟩) (fun r1 w => ?_)
  refine lv_if_ne (tgt := 13) hx hb dX2_struck_7 (by decide) (fun c => ?_) (fun c => ?_)
  · have w := And.right w c
    refine lv_iconst (v := 0) hx hb dX2_struck_13 (by decide) ?_
    refine lv_istore_n (lv' := [(2, .int (0 : Int32)), (0, .ref (a 0)), (1, .int i1)]) hx hb dX2_struck_14 rfl hl (by decide) rfl (fun ls hl => ?_)
    refine lv_iconst (v := 0) hx hb dX2_struck_15 (by decide) ?_
    refine lv_istore_n (lv' := [(3, .int (0 : Int32)), (2, .int (0 : Int32)), (0, .ref (a 0)), (1, .int i1)]) hx hb dX2_struck_16 rfl hl (by decide) rfl (fun ls hl => ?_)
    obtain ⟨n, w⟩ := w
    exact wk_X2_struck_L17 X hD  n _ _ _ _ _ w _ _ _ hP hS (lv_sub hl [2, 3, 1, 0] rfl)
  · have w := And.left w c
    refine lv_bipush (v := -2) hx hb dX2_struck_10 (by decide) ?_
    exact W.iret (v := (-2 : Int32)) hx hb hr (fun t ht hW => ⟨⟨(-2 : Int32), (z, g), rfl, w, by rw [ht]; exact hP, va_K.moved hW.alike hK, (hD _ _)⟩, hS.F ht⟩) hS.2.2 dX2_struck_12 hlk
abbrev rm_X2_prints : Room := { frames := 1, cells := 0, slots := 0, locals := 25 }
theorem hd_X2_prints : yX2_prints.cls = RX2 ∧ yX2_prints.cls ≠ "java/lang/invoke/MethodHandle" ∧ yX2_prints.cls ≠ "java/lang/invoke/VarHandle" ∧ (parseMethodDescriptor yX2_prints.desc).map (fun d => d.parameters.length) = some 1 := by decide +kernel
set_option maxHeartbeats 4000000 in
set_option maxRecDepth 100000 in
theorem wk_X2_prints_L55 {p : Program} {l : Launch} {e : Env} {s : State} {m : MethodId} {args : Array Value} {below : List Frame} {meth : Method} {c : Code} {dC : Nat → ClassId} {dI : Nat → Nat → Nat} {ct : Nat → ClassId} {A : Nat → Prop} {a : Nat → Nat} {Post : Int32 → V → VL → Prop} {K20 : Int32 → Int32 → Int32 → V → VL → Prop}  (X : CxW p s m args meth c cX2_prints 4 (some .int) RX2 dC dI ct A) (hD : ∀ (z : V) (g : VL), va_D A (MW a ct z g)) (hK20 : ∀ (i1 : Int32) (i2 : Int32) (i3 : Int32) (z : V) (g : VL), K20 i1 i2 i3 z g → ∀ (H : Heap) (locs : List Loc) (ls : Array Slot), va_P (dC, dI) vwCl (MW a ct z g) H → va_S A s.heap H locs → lv_has ls 4 [(0, .ref (a 0)), (1, .int i1), (2, .int i2), (3, .int i3)] → W p l e rm_X2_prints s m args below meth c H locs 0 0 (MQ below (va_Qi (fun (r : Int32) (u : V × VL) => Post r u.1 u.2) (fun (u : V × VL) t => WPos dC dI ct (MW a ct u.1 u.2) A t) A) args s 0 0 A) (F0 m 20 ls [])) (i1 : Int32) (i3 : Int32) (is0 : Int32) (z : V) (g : VL) (w : wp_X2_prints_L55  Post K20 i1 i3 is0 z g) : ∀ (H : Heap) (locs : List Loc) (ls : Array Slot), va_P (dC, dI) vwCl (MW a ct z g) H → va_S A s.heap H locs → lv_has ls 4 [(0, .ref (a 0)), (1, .int i1), (3, .int i3)] → W p l e rm_X2_prints s m args below meth c H locs 0 0 (MQ below (va_Qi (fun (r : Int32) (u : V × VL) => Post r u.1 u.2) (fun (u : V × VL) t => WPos dC dI ct (MW a ct u.1 u.2) A t) A) args s 0 0 A) (F0 m 55 ls [.int is0]) := by
  intro H locs ls hP hS hl
  have X0 := X
  obtain ⟨⟨hx, hb, hml, hr, hlk, hown, hts⟩, hA, hK, hN⟩ := X0
  unfold wp_X2_prints_L55 at w
  refine lv_istore_n (lv' := [(2, .int is0), (0, .ref (a 0)), (1, .int i1), (3, .int i3)]) hx hb dX2_prints_55 rfl hl (by decide) rfl (fun ls hl => ?_)
  refine lv_iinc (v := (i3 + 1)) (lv' := [(3, .int (i3 + 1)), (2, .int is0), (0, .ref (a 0)), (1, .int i1)]) hx hb dX2_prints_56 hl (k := 3) rfl rfl (by decide) rfl (fun ls hl => ?_)
  refine lv_goto (tgt := 20) hx hb dX2_prints_59 (by decide) ?_
  exact hK20 _ _ _ _ _ w _ _ _ hP hS (lv_sub hl [2, 3, 1, 0] rfl)
set_option maxHeartbeats 4000000 in
set_option maxRecDepth 100000 in
theorem wk_X2_prints_S20 {p : Program} {l : Launch} {e : Env} {s : State} {m : MethodId} {args : Array Value} {below : List Frame} {meth : Method} {c : Code} {dC : Nat → ClassId} {dI : Nat → Nat → Nat} {ct : Nat → ClassId} {A : Nat → Prop} {a : Nat → Nat} {Post : Int32 → V → VL → Prop} {K20 : Int32 → Int32 → Int32 → V → VL → Prop}  (X : CxW p s m args meth c cX2_prints 4 (some .int) RX2 dC dI ct A) (hD : ∀ (z : V) (g : VL), va_D A (MW a ct z g)) (hK20 : ∀ (i1 : Int32) (i2 : Int32) (i3 : Int32) (z : V) (g : VL), K20 i1 i2 i3 z g → ∀ (H : Heap) (locs : List Loc) (ls : Array Slot), va_P (dC, dI) vwCl (MW a ct z g) H → va_S A s.heap H locs → lv_has ls 4 [(0, .ref (a 0)), (1, .int i1), (2, .int i2), (3, .int i3)] → W p l e rm_X2_prints s m args below meth c H locs 0 0 (MQ below (va_Qi (fun (r : Int32) (u : V × VL) => Post r u.1 u.2) (fun (u : V × VL) t => WPos dC dI ct (MW a ct u.1 u.2) A t) A) args s 0 0 A) (F0 m 20 ls [])) (i1 : Int32) (i2 : Int32) (i3 : Int32) (z : V) (g : VL) (w : wp_X2_prints_S20  Post K20 i1 i2 i3 z g) : ∀ (H : Heap) (locs : List Loc) (ls : Array Slot), va_P (dC, dI) vwCl (MW a ct z g) H → va_S A s.heap H locs → lv_has ls 4 [(0, .ref (a 0)), (1, .int i1), (2, .int i2), (3, .int i3)] → W p l e rm_X2_prints s m args below meth c H locs 0 0 (MQ below (va_Qi (fun (r : Int32) (u : V × VL) => Post r u.1 u.2) (fun (u : V × VL) t => WPos dC dI ct (MW a ct u.1 u.2) A t) A) args s 0 0 A) (F0 m 20 ls []) := by
  intro H locs ls hP hS hl
  have X0 := X
  obtain ⟨⟨hx, hb, hml, hr, hlk, hown, hts⟩, hA, hK, hN⟩ := X0
  unfold wp_X2_prints_S20 at w
  refine lv_iload_n hx hb dX2_prints_20 rfl (lv_at hl 3 rfl) ?_
  refine lv_sipush (v := 999) hx hb dX2_prints_21 (by decide) ?_
  refine lv_icmp_gt (tgt := 62) hx hb dX2_prints_24 (by decide) (fun c => ?_) (fun c => ?_)
  · have w := And.left w c
    refine lv_iload_n hx hb dX2_prints_62 rfl (lv_at hl 2 rfl) ?_
    exact W.iret (v := i2) hx hb hr (fun t ht hW => ⟨⟨i2, (z, g), rfl, w, by rw [ht]; exact hP, va_K.moved hW.alike hK, (hD _ _)⟩, hS.F ht⟩) hS.2.2 dX2_prints_63 hlk
  · have w := And.right w c
    refine lv_aload_n hx hb dX2_prints_27 rfl (lv_at hl 0 rfl) ?_
    refine va_calli (va_runV (As := []) (rest := []) ⟨hx, hb, hml, hown, hts⟩ (met_X2_land l dC dI ct a _ w) (cwV 0 hts (lw_V q671 q673 qs23 q51 q674) rfl rfl rfl hd_X2_land ⟨Nat.le_of_ble_eq_true rfl, Nat.le_of_ble_eq_true rfl⟩) (pre_V hK hP (hD _ _) hN (va_recv hK hP (ci := 2) (q0 := 0) rfl rfl)) rfl rfl hl.1 rfl (lv_room (Nat.le_of_ble_eq_true rfl)) dX2_prints_28 ⟨Nat.le_refl _, Nat.le_refl _⟩) hS (fun q _ h => x_free (hD _ _) hS hA q h) (x_free (hD _ _) hS hA) (fun r1 u t H locs ht hvm w hB hz hk hS => ?_)
    obtain ⟨z_1, g_1⟩ := u
    dsimp only at w
    have hP : va_P (dC, dI) vwCl (MW a ct z_1 g_1) H := post_P hB ht
    refine lv_aload_n hx hb dX2_prints_31 rfl (lv_at hl 0 rfl) ?_
    refine va_calli (va_runV (As := []) (rest := [.int r1]) ⟨hx, hb, hml, hown, hts⟩ (met_X2_notes l dC dI ct a _ w) (cwV 0 hts (lw_V q675 q677 qs24 q51 q678) rfl rfl rfl hd_X2_notes ⟨Nat.le_of_ble_eq_true rfl, Nat.le_of_ble_eq_true rfl⟩) (pre_V hK hP (hD _ _) hN (va_recv hK hP (ci := 2) (q0 := 0) rfl rfl)) rfl rfl hl.1 rfl (lv_room (Nat.le_of_ble_eq_true rfl)) dX2_prints_32 ⟨Nat.le_refl _, Nat.le_refl _⟩) hS (fun q _ h => x_free (hD _ _) hS hA q h) (x_free (hD _ _) hS hA) (fun r2 u t H locs ht hvm w hB hz hk hS => ?_)
    obtain ⟨z_2, g_2⟩ := u
    dsimp only at w
    have hP : va_P (dC, dI) vwCl (MW a ct z_2 g_2) H := post_P hB ht
    refine lv_i2l hx hb dX2_prints_35 rfl ?_
    refine lv_ldc2 (v := 100) hx hb hown (hts _ q682) dX2_prints_36 ?_
    refine lv_iload_n hx hb dX2_prints_39 rfl (lv_at hl 3 rfl) ?_
    refine lv_i2l hx hb dX2_prints_40 rfl ?_
    refine lv_lmul hx hb dX2_prints_41 ?_
    refine lv_ladd hx hb dX2_prints_42 ?_
    refine vp_callSi (W.runS (As := [.int r1, .long (r2.toInt64 + ((100 : Int64) * i3.toInt64))]) (rest := []) ⟨hx, hb, hml, hown, hts⟩ (met_X2_rateOf l w) (va_cwS 2 hts (lw_S q679 q680 q51 q681) rfl rfl rfl hd_X2_rateOf ⟨Nat.le_of_ble_eq_true rfl, Nat.le_of_ble_eq_true rfl⟩) pre_S rfl rfl hl.1 rfl (lv_room (Nat.le_of_ble_eq_true rfl)) dX2_prints_43 ⟨Nat.le_refl _, Nat.le_refl _⟩) (fun r3 w => ?_)
    refine lv_iload_n hx hb dX2_prints_46 rfl (lv_at hl 1 rfl) ?_
    refine lv_icmp_lt (tgt := 54) hx hb dX2_prints_47 (by decide) (fun c => ?_) (fun c => ?_)
    · have w := And.left w c
      refine lv_iload_n hx hb dX2_prints_54 rfl (lv_at hl 2 rfl) ?_
      exact wk_X2_prints_L55 X hD hK20 _ _ _ _ _ w _ _ _ hP hS (lv_sub hl [0, 1, 3] rfl)
    · have w := And.right w c
      refine lv_iload_n hx hb dX2_prints_50 rfl (lv_at hl 3 rfl) ?_
      refine lv_goto (tgt := 55) hx hb dX2_prints_51 (by decide) ?_
      exact wk_X2_prints_L55 X hD hK20 _ _ _ _ _ w _ _ _ hP hS (lv_sub hl [0, 1, 3] rfl)
set_option maxHeartbeats 4000000 in
set_option maxRecDepth 100000 in
theorem wk_X2_prints_L20 {p : Program} {l : Launch} {e : Env} {s : State} {m : MethodId} {args : Array Value} {below : List Frame} {meth : Method} {c : Code} {dC : Nat → ClassId} {dI : Nat → Nat → Nat} {ct : Nat → ClassId} {A : Nat → Prop} {a : Nat → Nat} {Post : Int32 → V → VL → Prop}   (X : CxW p s m args meth c cX2_prints 4 (some .int) RX2 dC dI ct A) (hD : ∀ (z : V) (g : VL), va_D A (MW a ct z g))  : ∀ (n : Nat) (i1 : Int32) (i2 : Int32) (i3 : Int32) (z : V) (g : VL), wp_X2_prints_L20  Post  n i1 i2 i3 z g → ∀ (H : Heap) (locs : List Loc) (ls : Array Slot), va_P (dC, dI) vwCl (MW a ct z g) H → va_S A s.heap H locs → lv_has ls 4 [(0, .ref (a 0)), (1, .int i1), (2, .int i2), (3, .int i3)] → W p l e rm_X2_prints s m args below meth c H locs 0 0 (MQ below (va_Qi (fun (r : Int32) (u : V × VL) => Post r u.1 u.2) (fun (u : V × VL) t => WPos dC dI ct (MW a ct u.1 u.2) A t) A) args s 0 0 A) (F0 m 20 ls []) := by
  intro n
  induction n with
  | zero => intro i1 i2 i3 z g w; exact False.elim w
  | succ n ih => intro i1 i2 i3 z g w H locs ls hP hS hl; exact wk_X2_prints_S20 X hD  ih i1 i2 i3 z g w H locs ls hP hS hl
set_option maxHeartbeats 4000000 in
set_option maxRecDepth 100000 in
theorem met_X2_prints (l : Launch) (dC : Nat → ClassId) (dI : Nat → Nat → Nat) (ct : Nat → ClassId) (a : Nat → Nat) (sz : Nat) {i1 : Int32} {z : V} {g : VL} {Post : Int32 → V → VL → Prop} (w : wp_X2_prints i1 z g Post) : Met l yX2_prints (ws_ yX2_prints cX2_prints 4 (some .int)) rm_X2_prints (va_Pc [.ref (a 0), .int i1] (fun U => WPre dC dI ct (MW a ct z g) sz U)) ((fun A => (va_Qi (fun (r : Int32) (u : V × VL) => Post r u.1 u.2) (fun (u : V × VL) t => WPos dC dI ct (MW a ct u.1 u.2) A t) A)) (va_A (MW a ct z g) sz)) 0 0 (va_A (MW a ct z g) sz) := by
  refine open_W (fun A => (va_Qi (fun (r : Int32) (u : V × VL) => Post r u.1 u.2) (fun (u : V × VL) t => WPos dC dI ct (MW a ct u.1 u.2) A t) A)) (by decide) (Nat.le_of_ble_eq_true rfl) ?_
  intro p e s m args below meth c ls A X hD0 hP hS hl
  have X0 := X
  obtain ⟨⟨hx, hb, hml, hr, hlk, hown, hts⟩, hA, hK, hN⟩ := X0
  have hD : ∀ (z' : V) (g' : VL), va_D A (MW a ct z' g') := fun z' g' => va_D_addr hD0 rfl
  have hl : lv_has ls 4 [(0, .ref (a 0)), (1, .int i1)] := hl
  unfold wp_X2_prints at w
  have hS0 := hS
  refine lv_iload_n hx hb dX2_prints_0 rfl (lv_at hl 1 rfl) ?_
  refine lv_i2l hx hb dX2_prints_1 rfl ?_
  refine lv_lconst (v := 1) hx hb dX2_prints_2 (by decide) ?_
  refine lv_ldc2 (v := 100) hx hb hown (hts _ q682) dX2_prints_3 ?_
  refine vp_callSi (W.runS (As := [.long i1.toInt64, .long (1 : Int64), .long (100 : Int64)]) (rest := []) ⟨hx, hb, hml, hown, hts⟩ (met_X2_in l w) (va_cwS 3 hts (lw_S q570 q571 q51 q572) rfl rfl rfl hd_X2_in ⟨Nat.le_of_ble_eq_true rfl, Nat.le_of_ble_eq_true rfl⟩) pre_S rfl rfl hl.1 rfl (lv_room (Nat.le_of_ble_eq_true rfl)) dX2_prints_6 ⟨Nat.le_refl _, Nat.le_refl _⟩) (fun r1 w => ?_)
  refine lv_if_ne (tgt := 15) hx hb dX2_prints_9 (by decide) (fun c => ?_) (fun c => ?_)
  · have w := And.right w c
    refine lv_bipush (v := -6) hx hb dX2_prints_15 (by decide) ?_
    refine lv_istore_n (lv' := [(2, .int (-6 : Int32)), (0, .ref (a 0)), (1, .int i1)]) hx hb dX2_prints_17 rfl hl (by decide) rfl (fun ls hl => ?_)
    refine lv_iconst (v := 0) hx hb dX2_prints_18 (by decide) ?_
    refine lv_istore_n (lv' := [(3, .int (0 : Int32)), (2, .int (-6 : Int32)), (0, .ref (a 0)), (1, .int i1)]) hx hb dX2_prints_19 rfl hl (by decide) rfl (fun ls hl => ?_)
    obtain ⟨n, w⟩ := w
    exact wk_X2_prints_L20 X hD  n _ _ _ _ _ w _ _ _ hP hS (lv_sub hl [2, 3, 1, 0] rfl)
  · have w := And.left w c
    refine lv_bipush (v := -2) hx hb dX2_prints_12 (by decide) ?_
    exact W.iret (v := (-2 : Int32)) hx hb hr (fun t ht hW => ⟨⟨(-2 : Int32), (z, g), rfl, w, by rw [ht]; exact hP, va_K.moved hW.alike hK, (hD _ _)⟩, hS.F ht⟩) hS.2.2 dX2_prints_14 hlk
abbrev rm_X2_pricesOf : Room := { frames := 0, cells := 0, slots := 0, locals := 0 }
theorem hd_X2_pricesOf : yX2_pricesOf.cls = RX2 ∧ yX2_pricesOf.cls ≠ "java/lang/invoke/MethodHandle" ∧ yX2_pricesOf.cls ≠ "java/lang/invoke/VarHandle" ∧ (parseMethodDescriptor yX2_pricesOf.desc).map (fun d => d.parameters.length) = some 1 := by decide +kernel
set_option maxHeartbeats 4000000 in
set_option maxRecDepth 100000 in
theorem wk_X2_pricesOf_L30 {p : Program} {l : Launch} {e : Env} {s : State} {m : MethodId} {args : Array Value} {below : List Frame} {meth : Method} {c : Code} {dC : Nat → ClassId} {dI : Nat → Nat → Nat} {ct : Nat → ClassId} {A : Nat → Prop} {a : Nat → Nat} {Post : Int32 → V → VL → Prop} {K4 : Int32 → Int32 → Int32 → V → VL → Prop}  (X : CxW p s m args meth c cX2_pricesOf 4 (some .int) RX2 dC dI ct A) (hD : ∀ (z : V) (g : VL), va_D A (MW a ct z g)) (hK4 : ∀ (i1 : Int32) (i2 : Int32) (i3 : Int32) (z : V) (g : VL), K4 i1 i2 i3 z g → ∀ (H : Heap) (locs : List Loc) (ls : Array Slot), va_P (dC, dI) vwCl (MW a ct z g) H → va_S A s.heap H locs → lv_has ls 4 [(0, .ref (a 0)), (1, .int i1), (2, .int i2), (3, .int i3)] → W p l e rm_X2_pricesOf s m args below meth c H locs 0 0 (MQ below (va_Qi (fun (r : Int32) (u : V × VL) => Post r u.1 u.2) (fun (u : V × VL) t => WPos dC dI ct (MW a ct u.1 u.2) A t) A) args s 0 0 A) (F0 m 4 ls [])) (i1 : Int32) (i3 : Int32) (is0 : Int32) (is1 : Int32) (z : V) (g : VL) (w : wp_X2_pricesOf_L30  Post K4 i1 i3 is0 is1 z g) : ∀ (H : Heap) (locs : List Loc) (ls : Array Slot), va_P (dC, dI) vwCl (MW a ct z g) H → va_S A s.heap H locs → lv_has ls 4 [(0, .ref (a 0)), (1, .int i1), (3, .int i3)] → W p l e rm_X2_pricesOf s m args below meth c H locs 0 0 (MQ below (va_Qi (fun (r : Int32) (u : V × VL) => Post r u.1 u.2) (fun (u : V × VL) t => WPos dC dI ct (MW a ct u.1 u.2) A t) A) args s 0 0 A) (F0 m 30 ls [.int is0, .int is1]) := by
  intro H locs ls hP hS hl
  have X0 := X
  obtain ⟨⟨hx, hb, hml, hr, hlk, hown, hts⟩, hA, hK, hN⟩ := X0
  unfold wp_X2_pricesOf_L30 at w
  refine lv_iadd hx hb dX2_pricesOf_30 ?_
  refine lv_istore_n (lv' := [(2, .int (is1 + is0)), (0, .ref (a 0)), (1, .int i1), (3, .int i3)]) hx hb dX2_pricesOf_31 rfl hl (by decide) rfl (fun ls hl => ?_)
  refine lv_iinc (v := (i3 + 1)) (lv' := [(3, .int (i3 + 1)), (2, .int (is1 + is0)), (0, .ref (a 0)), (1, .int i1)]) hx hb dX2_pricesOf_32 hl (k := 3) rfl rfl (by decide) rfl (fun ls hl => ?_)
  refine lv_goto (tgt := 4) hx hb dX2_pricesOf_35 (by decide) ?_
  exact hK4 _ _ _ _ _ w _ _ _ hP hS (lv_sub hl [2, 3, 1, 0] rfl)
set_option maxHeartbeats 4000000 in
set_option maxRecDepth 100000 in
theorem wk_X2_pricesOf_S4 {p : Program} {l : Launch} {e : Env} {s : State} {m : MethodId} {args : Array Value} {below : List Frame} {meth : Method} {c : Code} {dC : Nat → ClassId} {dI : Nat → Nat → Nat} {ct : Nat → ClassId} {A : Nat → Prop} {a : Nat → Nat} {Post : Int32 → V → VL → Prop} {K4 : Int32 → Int32 → Int32 → V → VL → Prop}  (X : CxW p s m args meth c cX2_pricesOf 4 (some .int) RX2 dC dI ct A) (hD : ∀ (z : V) (g : VL), va_D A (MW a ct z g)) (hK4 : ∀ (i1 : Int32) (i2 : Int32) (i3 : Int32) (z : V) (g : VL), K4 i1 i2 i3 z g → ∀ (H : Heap) (locs : List Loc) (ls : Array Slot), va_P (dC, dI) vwCl (MW a ct z g) H → va_S A s.heap H locs → lv_has ls 4 [(0, .ref (a 0)), (1, .int i1), (2, .int i2), (3, .int i3)] → W p l e rm_X2_pricesOf s m args below meth c H locs 0 0 (MQ below (va_Qi (fun (r : Int32) (u : V × VL) => Post r u.1 u.2) (fun (u : V × VL) t => WPos dC dI ct (MW a ct u.1 u.2) A t) A) args s 0 0 A) (F0 m 4 ls [])) (i1 : Int32) (i2 : Int32) (i3 : Int32) (z : V) (g : VL) (w : wp_X2_pricesOf_S4  Post K4 i1 i2 i3 z g) : ∀ (H : Heap) (locs : List Loc) (ls : Array Slot), va_P (dC, dI) vwCl (MW a ct z g) H → va_S A s.heap H locs → lv_has ls 4 [(0, .ref (a 0)), (1, .int i1), (2, .int i2), (3, .int i3)] → W p l e rm_X2_pricesOf s m args below meth c H locs 0 0 (MQ below (va_Qi (fun (r : Int32) (u : V × VL) => Post r u.1 u.2) (fun (u : V × VL) t => WPos dC dI ct (MW a ct u.1 u.2) A t) A) args s 0 0 A) (F0 m 4 ls []) := by
  intro H locs ls hP hS hl
  have X0 := X
  obtain ⟨⟨hx, hb, hml, hr, hlk, hown, hts⟩, hA, hK, hN⟩ := X0
  unfold wp_X2_pricesOf_S4 at w
  refine lv_iload_n hx hb dX2_pricesOf_4 rfl (lv_at hl 3 rfl) ?_
  refine lv_bipush (v := 8) hx hb dX2_pricesOf_5 (by decide) ?_
  refine lv_icmp_ge (tgt := 38) hx hb dX2_pricesOf_7 (by decide) (fun c => ?_) (fun c => ?_)
  · have w := And.left w c
    refine lv_iload_n hx hb dX2_pricesOf_38 rfl (lv_at hl 2 rfl) ?_
    exact W.iret (v := i2) hx hb hr (fun t ht hW => ⟨⟨i2, (z, g), rfl, w, by rw [ht]; exact hP, va_K.moved hW.alike hK, (hD _ _)⟩, hS.F ht⟩) hS.2.2 dX2_pricesOf_39 hlk
  · have w := And.right w c
    refine lv_iload_n hx hb dX2_pricesOf_10 rfl (lv_at hl 2 rfl) ?_
    refine lv_iload_n hx hb dX2_pricesOf_11 rfl (lv_at hl 1 rfl) ?_
    refine lv_iload_n hx hb dX2_pricesOf_12 rfl (lv_at hl 3 rfl) ?_
    refine lv_ishr hx hb dX2_pricesOf_13 ?_
    refine lv_iconst (v := 1) hx hb dX2_pricesOf_14 (by decide) ?_
    refine lv_iand hx hb dX2_pricesOf_15 ?_
    refine lv_iconst (v := 1) hx hb dX2_pricesOf_16 (by decide) ?_
    refine lv_icmp_ne (tgt := 29) hx hb dX2_pricesOf_17 (by decide) (fun c => ?_) (fun c => ?_)
    · have w := And.right w c
      refine lv_iconst (v := 0) hx hb dX2_pricesOf_29 (by decide) ?_
      exact wk_X2_pricesOf_L30 X hD hK4 _ _ _ _ _ _ w _ _ _ hP hS (lv_sub hl [0, 1, 3] rfl)
    · have w := And.left w c
      refine lv_aload_n hx hb dX2_pricesOf_20 rfl (lv_at hl 0 rfl) ?_
      refine va_get (D := (dC, dI)) (ci := 2) (v := .ref (a 4)) (C := RX2) (T := TX2) (N := 34) hx hb hts in_X2 hown hK hP 0 rfl rfl 3 (by decide) (hts _ q461) (fun _ h9 => h9) rfl dX2_pricesOf_21 ?_
      refine lv_iload_n hx hb dX2_pricesOf_24 rfl (lv_at hl 3 rfl) ?_
      obtain ⟨gi, w⟩ := w
      refine va_iald hx hb hK hP 4 0 rfl rfl gi dX2_pricesOf_25 ?_
      refine lv_goto (tgt := 30) hx hb dX2_pricesOf_26 (by decide) ?_
      exact wk_X2_pricesOf_L30 X hD hK4 _ _ _ _ _ _ w _ _ _ hP hS (lv_sub hl [0, 1, 3] rfl)
set_option maxHeartbeats 4000000 in
set_option maxRecDepth 100000 in
theorem wk_X2_pricesOf_L4 {p : Program} {l : Launch} {e : Env} {s : State} {m : MethodId} {args : Array Value} {below : List Frame} {meth : Method} {c : Code} {dC : Nat → ClassId} {dI : Nat → Nat → Nat} {ct : Nat → ClassId} {A : Nat → Prop} {a : Nat → Nat} {Post : Int32 → V → VL → Prop}   (X : CxW p s m args meth c cX2_pricesOf 4 (some .int) RX2 dC dI ct A) (hD : ∀ (z : V) (g : VL), va_D A (MW a ct z g))  : ∀ (n : Nat) (i1 : Int32) (i2 : Int32) (i3 : Int32) (z : V) (g : VL), wp_X2_pricesOf_L4  Post  n i1 i2 i3 z g → ∀ (H : Heap) (locs : List Loc) (ls : Array Slot), va_P (dC, dI) vwCl (MW a ct z g) H → va_S A s.heap H locs → lv_has ls 4 [(0, .ref (a 0)), (1, .int i1), (2, .int i2), (3, .int i3)] → W p l e rm_X2_pricesOf s m args below meth c H locs 0 0 (MQ below (va_Qi (fun (r : Int32) (u : V × VL) => Post r u.1 u.2) (fun (u : V × VL) t => WPos dC dI ct (MW a ct u.1 u.2) A t) A) args s 0 0 A) (F0 m 4 ls []) := by
  intro n
  induction n with
  | zero => intro i1 i2 i3 z g w; exact False.elim w
  | succ n ih => intro i1 i2 i3 z g w H locs ls hP hS hl; exact wk_X2_pricesOf_S4 X hD  ih i1 i2 i3 z g w H locs ls hP hS hl
set_option maxHeartbeats 4000000 in
set_option maxRecDepth 100000 in
theorem met_X2_pricesOf (l : Launch) (dC : Nat → ClassId) (dI : Nat → Nat → Nat) (ct : Nat → ClassId) (a : Nat → Nat) (sz : Nat) {i1 : Int32} {z : V} {g : VL} {Post : Int32 → V → VL → Prop} (w : wp_X2_pricesOf i1 z g Post) : Met l yX2_pricesOf (ws_ yX2_pricesOf cX2_pricesOf 4 (some .int)) rm_X2_pricesOf (va_Pc [.ref (a 0), .int i1] (fun U => WPre dC dI ct (MW a ct z g) sz U)) ((fun A => (va_Qi (fun (r : Int32) (u : V × VL) => Post r u.1 u.2) (fun (u : V × VL) t => WPos dC dI ct (MW a ct u.1 u.2) A t) A)) (va_A (MW a ct z g) sz)) 0 0 (va_A (MW a ct z g) sz) := by
  refine open_W (fun A => (va_Qi (fun (r : Int32) (u : V × VL) => Post r u.1 u.2) (fun (u : V × VL) t => WPos dC dI ct (MW a ct u.1 u.2) A t) A)) (by decide) (Nat.le_of_ble_eq_true rfl) ?_
  intro p e s m args below meth c ls A X hD0 hP hS hl
  have X0 := X
  obtain ⟨⟨hx, hb, hml, hr, hlk, hown, hts⟩, hA, hK, hN⟩ := X0
  have hD : ∀ (z' : V) (g' : VL), va_D A (MW a ct z' g') := fun z' g' => va_D_addr hD0 rfl
  have hl : lv_has ls 4 [(0, .ref (a 0)), (1, .int i1)] := hl
  unfold wp_X2_pricesOf at w
  have hS0 := hS
  refine lv_iconst (v := 0) hx hb dX2_pricesOf_0 (by decide) ?_
  refine lv_istore_n (lv' := [(2, .int (0 : Int32)), (0, .ref (a 0)), (1, .int i1)]) hx hb dX2_pricesOf_1 rfl hl (by decide) rfl (fun ls hl => ?_)
  refine lv_iconst (v := 0) hx hb dX2_pricesOf_2 (by decide) ?_
  refine lv_istore_n (lv' := [(3, .int (0 : Int32)), (2, .int (0 : Int32)), (0, .ref (a 0)), (1, .int i1)]) hx hb dX2_pricesOf_3 rfl hl (by decide) rfl (fun ls hl => ?_)
  obtain ⟨n, w⟩ := w
  exact wk_X2_pricesOf_L4 X hD  n _ _ _ _ _ w _ _ _ hP hS (lv_sub hl [2, 3, 1, 0] rfl)
abbrev rm_X2_buys : Room := { frames := 1, cells := 0, slots := 0, locals := 25 }
theorem hd_X2_buys : yX2_buys.cls = RX2 ∧ yX2_buys.cls ≠ "java/lang/invoke/MethodHandle" ∧ yX2_buys.cls ≠ "java/lang/invoke/VarHandle" ∧ (parseMethodDescriptor yX2_buys.desc).map (fun d => d.parameters.length) = some 2 := by decide +kernel
set_option maxHeartbeats 4000000 in
set_option maxRecDepth 100000 in
theorem wk_X2_buys_L22 {p : Program} {l : Launch} {e : Env} {s : State} {m : MethodId} {args : Array Value} {below : List Frame} {meth : Method} {c : Code} {dC : Nat → ClassId} {dI : Nat → Nat → Nat} {ct : Nat → ClassId} {A : Nat → Prop} {a : Nat → Nat} {Post : Int32 → V → VL → Prop}   (X : CxW p s m args meth c cX2_buys 7 (some .int) RX2 dC dI ct A) (hD : ∀ (z : V) (g : VL), va_D A (MW a ct z g))  (z : V) (g : VL) (w : wp_X2_buys_L22  Post  z g) : ∀ (H : Heap) (locs : List Loc) (ls : Array Slot), va_P (dC, dI) vwCl (MW a ct z g) H → va_S A s.heap H locs → lv_has ls 7 [] → W p l e rm_X2_buys s m args below meth c H locs 0 0 (MQ below (va_Qi (fun (r : Int32) (u : V × VL) => Post r u.1 u.2) (fun (u : V × VL) t => WPos dC dI ct (MW a ct u.1 u.2) A t) A) args s 0 0 A) (F0 m 22 ls []) := by
  intro H locs ls hP hS hl
  have X0 := X
  obtain ⟨⟨hx, hb, hml, hr, hlk, hown, hts⟩, hA, hK, hN⟩ := X0
  unfold wp_X2_buys_L22 at w
  refine lv_bipush (v := -2) hx hb dX2_buys_22 (by decide) ?_
  exact W.iret (v := (-2 : Int32)) hx hb hr (fun t ht hW => ⟨⟨(-2 : Int32), (z, g), rfl, w, by rw [ht]; exact hP, va_K.moved hW.alike hK, (hD _ _)⟩, hS.F ht⟩) hS.2.2 dX2_buys_24 hlk
set_option maxHeartbeats 4000000 in
set_option maxRecDepth 100000 in
theorem wk_X2_buys_L99 {p : Program} {l : Launch} {e : Env} {s : State} {m : MethodId} {args : Array Value} {below : List Frame} {meth : Method} {c : Code} {dC : Nat → ClassId} {dI : Nat → Nat → Nat} {ct : Nat → ClassId} {A : Nat → Prop} {a : Nat → Nat} {Post : Int32 → V → VL → Prop} {K38 : Int32 → Int32 → Int32 → Int32 → Int32 → V → VL → Prop}  (X : CxW p s m args meth c cX2_buys 7 (some .int) RX2 dC dI ct A) (hD : ∀ (z : V) (g : VL), va_D A (MW a ct z g)) (hK38 : ∀ (i1 : Int32) (i2 : Int32) (i3 : Int32) (i4 : Int32) (i5 : Int32) (z : V) (g : VL), K38 i1 i2 i3 i4 i5 z g → ∀ (H : Heap) (locs : List Loc) (ls : Array Slot), va_P (dC, dI) vwCl (MW a ct z g) H → va_S A s.heap H locs → lv_has ls 7 [(0, .ref (a 0)), (1, .int i1), (2, .int i2), (3, .int i3), (4, .int i4), (5, .int i5)] → W p l e rm_X2_buys s m args below meth c H locs 0 0 (MQ below (va_Qi (fun (r : Int32) (u : V × VL) => Post r u.1 u.2) (fun (u : V × VL) t => WPos dC dI ct (MW a ct u.1 u.2) A t) A) args s 0 0 A) (F0 m 38 ls [])) (i1 : Int32) (i2 : Int32) (i3 : Int32) (i5 : Int32) (is0 : Int32) (z : V) (g : VL) (w : wp_X2_buys_L99  Post K38 i1 i2 i3 i5 is0 z g) : ∀ (H : Heap) (locs : List Loc) (ls : Array Slot), va_P (dC, dI) vwCl (MW a ct z g) H → va_S A s.heap H locs → lv_has ls 7 [(0, .ref (a 0)), (1, .int i1), (2, .int i2), (3, .int i3), (5, .int i5)] → W p l e rm_X2_buys s m args below meth c H locs 0 0 (MQ below (va_Qi (fun (r : Int32) (u : V × VL) => Post r u.1 u.2) (fun (u : V × VL) t => WPos dC dI ct (MW a ct u.1 u.2) A t) A) args s 0 0 A) (F0 m 99 ls [.int is0]) := by
  intro H locs ls hP hS hl
  have X0 := X
  obtain ⟨⟨hx, hb, hml, hr, hlk, hown, hts⟩, hA, hK, hN⟩ := X0
  unfold wp_X2_buys_L99 at w
  refine lv_istore (lv' := [(4, .int is0), (0, .ref (a 0)), (1, .int i1), (2, .int i2), (3, .int i3), (5, .int i5)]) hx hb dX2_buys_99 hl (by decide) rfl (fun ls hl => ?_)
  refine lv_iinc (v := (i5 + 1)) (lv' := [(5, .int (i5 + 1)), (4, .int is0), (0, .ref (a 0)), (1, .int i1), (2, .int i2), (3, .int i3)]) hx hb dX2_buys_101 hl (k := 5) rfl rfl (by decide) rfl (fun ls hl => ?_)
  refine lv_goto (tgt := 38) hx hb dX2_buys_104 (by decide) ?_
  exact hK38 _ _ _ _ _ _ _ w _ _ _ hP hS (lv_sub hl [2, 3, 4, 5, 1, 0] rfl)
set_option maxHeartbeats 4000000 in
set_option maxRecDepth 100000 in
theorem wk_X2_buys_L97 {p : Program} {l : Launch} {e : Env} {s : State} {m : MethodId} {args : Array Value} {below : List Frame} {meth : Method} {c : Code} {dC : Nat → ClassId} {dI : Nat → Nat → Nat} {ct : Nat → ClassId} {A : Nat → Prop} {a : Nat → Nat} {Post : Int32 → V → VL → Prop} {K38 : Int32 → Int32 → Int32 → Int32 → Int32 → V → VL → Prop}  (X : CxW p s m args meth c cX2_buys 7 (some .int) RX2 dC dI ct A) (hD : ∀ (z : V) (g : VL), va_D A (MW a ct z g)) (hK38 : ∀ (i1 : Int32) (i2 : Int32) (i3 : Int32) (i4 : Int32) (i5 : Int32) (z : V) (g : VL), K38 i1 i2 i3 i4 i5 z g → ∀ (H : Heap) (locs : List Loc) (ls : Array Slot), va_P (dC, dI) vwCl (MW a ct z g) H → va_S A s.heap H locs → lv_has ls 7 [(0, .ref (a 0)), (1, .int i1), (2, .int i2), (3, .int i3), (4, .int i4), (5, .int i5)] → W p l e rm_X2_buys s m args below meth c H locs 0 0 (MQ below (va_Qi (fun (r : Int32) (u : V × VL) => Post r u.1 u.2) (fun (u : V × VL) t => WPos dC dI ct (MW a ct u.1 u.2) A t) A) args s 0 0 A) (F0 m 38 ls [])) (i1 : Int32) (i2 : Int32) (i3 : Int32) (i4 : Int32) (i5 : Int32) (z : V) (g : VL) (w : wp_X2_buys_L97  Post K38 i1 i2 i3 i4 i5 z g) : ∀ (H : Heap) (locs : List Loc) (ls : Array Slot), va_P (dC, dI) vwCl (MW a ct z g) H → va_S A s.heap H locs → lv_has ls 7 [(0, .ref (a 0)), (1, .int i1), (2, .int i2), (3, .int i3), (4, .int i4), (5, .int i5)] → W p l e rm_X2_buys s m args below meth c H locs 0 0 (MQ below (va_Qi (fun (r : Int32) (u : V × VL) => Post r u.1 u.2) (fun (u : V × VL) t => WPos dC dI ct (MW a ct u.1 u.2) A t) A) args s 0 0 A) (F0 m 97 ls []) := by
  intro H locs ls hP hS hl
  have X0 := X
  obtain ⟨⟨hx, hb, hml, hr, hlk, hown, hts⟩, hA, hK, hN⟩ := X0
  unfold wp_X2_buys_L97 at w
  refine lv_iload hx hb dX2_buys_97 (lv_at hl 4 rfl) ?_
  exact wk_X2_buys_L99 X hD hK38 _ _ _ _ _ _ _ w _ _ _ hP hS (lv_sub hl [0, 1, 2, 3, 5] rfl)
set_option maxHeartbeats 4000000 in
set_option maxRecDepth 100000 in
theorem wk_X2_buys_L70 {p : Program} {l : Launch} {e : Env} {s : State} {m : MethodId} {args : Array Value} {below : List Frame} {meth : Method} {c : Code} {dC : Nat → ClassId} {dI : Nat → Nat → Nat} {ct : Nat → ClassId} {A : Nat → Prop} {a : Nat → Nat} {Post : Int32 → V → VL → Prop} {K38 : Int32 → Int32 → Int32 → Int32 → Int32 → V → VL → Prop}  (X : CxW p s m args meth c cX2_buys 7 (some .int) RX2 dC dI ct A) (hD : ∀ (z : V) (g : VL), va_D A (MW a ct z g)) (hK38 : ∀ (i1 : Int32) (i2 : Int32) (i3 : Int32) (i4 : Int32) (i5 : Int32) (z : V) (g : VL), K38 i1 i2 i3 i4 i5 z g → ∀ (H : Heap) (locs : List Loc) (ls : Array Slot), va_P (dC, dI) vwCl (MW a ct z g) H → va_S A s.heap H locs → lv_has ls 7 [(0, .ref (a 0)), (1, .int i1), (2, .int i2), (3, .int i3), (4, .int i4), (5, .int i5)] → W p l e rm_X2_buys s m args below meth c H locs 0 0 (MQ below (va_Qi (fun (r : Int32) (u : V × VL) => Post r u.1 u.2) (fun (u : V × VL) t => WPos dC dI ct (MW a ct u.1 u.2) A t) A) args s 0 0 A) (F0 m 38 ls [])) (i1 : Int32) (i2 : Int32) (i3 : Int32) (i4 : Int32) (i5 : Int32) (is0 : Int32) (z : V) (g : VL) (w : wp_X2_buys_L70  Post K38 i1 i2 i3 i4 i5 is0 z g) : ∀ (H : Heap) (locs : List Loc) (ls : Array Slot), va_P (dC, dI) vwCl (MW a ct z g) H → va_S A s.heap H locs → lv_has ls 7 [(0, .ref (a 0)), (1, .int i1), (2, .int i2), (3, .int i3), (4, .int i4), (5, .int i5)] → W p l e rm_X2_buys s m args below meth c H locs 0 0 (MQ below (va_Qi (fun (r : Int32) (u : V × VL) => Post r u.1 u.2) (fun (u : V × VL) t => WPos dC dI ct (MW a ct u.1 u.2) A t) A) args s 0 0 A) (F0 m 70 ls [.int is0]) := by
  intro H locs ls hP hS hl
  have X0 := X
  obtain ⟨⟨hx, hb, hml, hr, hlk, hown, hts⟩, hA, hK, hN⟩ := X0
  unfold wp_X2_buys_L70 at w
  refine lv_istore (lv' := [(6, .int is0), (0, .ref (a 0)), (1, .int i1), (2, .int i2), (3, .int i3), (4, .int i4), (5, .int i5)]) hx hb dX2_buys_70 hl (by decide) rfl (fun ls hl => ?_)
  refine lv_iload hx hb dX2_buys_72 (lv_at hl 0 rfl) ?_
  refine lv_if_eq (tgt := 97) hx hb dX2_buys_74 (by decide) (fun c => ?_) (fun c => ?_)
  · have w := And.left w c
    exact wk_X2_buys_L97 X hD hK38 _ _ _ _ _ _ _ w _ _ _ hP hS (lv_sub hl [1, 2, 3, 4, 5, 6] rfl)
  · have w := And.right w c
    refine lv_aload_n hx hb dX2_buys_77 rfl (lv_at hl 1 rfl) ?_
    refine lv_iload hx hb dX2_buys_78 (lv_at hl 6 rfl) ?_
    refine va_calli (va_runV (As := [.int i5]) (rest := []) ⟨hx, hb, hml, hown, hts⟩ (met_X2_pricesOf l dC dI ct a _ w) (cwV 1 hts (lw_V q764 q766 qs38 q51 q767) rfl rfl rfl hd_X2_pricesOf ⟨Nat.le_of_ble_eq_true rfl, Nat.le_of_ble_eq_true rfl⟩) (pre_V hK hP (hD _ _) hN (va_recv hK hP (ci := 2) (q0 := 0) rfl rfl)) rfl rfl hl.1 rfl (lv_room (Nat.le_of_ble_eq_true rfl)) dX2_buys_80 ⟨Nat.le_refl _, Nat.le_refl _⟩) hS (fun q _ h => x_free (hD _ _) hS hA q h) (x_free (hD _ _) hS hA) (fun r1 u t H locs ht hvm w hB hz hk hS => ?_)
    obtain ⟨z_1, g_1⟩ := u
    dsimp only at w
    have hP : va_P (dC, dI) vwCl (MW a ct z_1 g_1) H := post_P hB ht
    refine lv_aload_n hx hb dX2_buys_83 rfl (lv_at hl 1 rfl) ?_
    refine lv_iload hx hb dX2_buys_84 (lv_at hl 5 rfl) ?_
    refine va_calli (va_runV (As := [.int i4]) (rest := [.int r1]) ⟨hx, hb, hml, hown, hts⟩ (met_X2_pricesOf l dC dI ct a _ w) (cwV 1 hts (lw_V q764 q766 qs38 q51 q767) rfl rfl rfl hd_X2_pricesOf ⟨Nat.le_of_ble_eq_true rfl, Nat.le_of_ble_eq_true rfl⟩) (pre_V hK hP (hD _ _) hN (va_recv hK hP (ci := 2) (q0 := 0) rfl rfl)) rfl rfl hl.1 rfl (lv_room (Nat.le_of_ble_eq_true rfl)) dX2_buys_86 ⟨Nat.le_refl _, Nat.le_refl _⟩) hS (fun q _ h => x_free (hD _ _) hS hA q h) (x_free (hD _ _) hS hA) (fun r2 u t H locs ht hvm w hB hz hk hS => ?_)
    obtain ⟨z_2, g_2⟩ := u
    dsimp only at w
    have hP : va_P (dC, dI) vwCl (MW a ct z_2 g_2) H := post_P hB ht
    refine lv_icmp_le (tgt := 97) hx hb dX2_buys_89 (by decide) (fun c => ?_) (fun c => ?_)
    · have w := And.left w c
      exact wk_X2_buys_L97 X hD hK38 _ _ _ _ _ _ _ w _ _ _ hP hS (lv_sub hl [1, 2, 3, 4, 5, 6] rfl)
    · have w := And.right w c
      refine lv_iload hx hb dX2_buys_92 (lv_at hl 6 rfl) ?_
      refine lv_goto (tgt := 99) hx hb dX2_buys_94 (by decide) ?_
      exact wk_X2_buys_L99 X hD hK38 _ _ _ _ _ _ _ w _ _ _ hP hS (lv_sub hl [1, 2, 3, 4, 6] rfl)
set_option maxHeartbeats 4000000 in
set_option maxRecDepth 100000 in
theorem wk_X2_buys_L69 {p : Program} {l : Launch} {e : Env} {s : State} {m : MethodId} {args : Array Value} {below : List Frame} {meth : Method} {c : Code} {dC : Nat → ClassId} {dI : Nat → Nat → Nat} {ct : Nat → ClassId} {A : Nat → Prop} {a : Nat → Nat} {Post : Int32 → V → VL → Prop} {K38 : Int32 → Int32 → Int32 → Int32 → Int32 → V → VL → Prop}  (X : CxW p s m args meth c cX2_buys 7 (some .int) RX2 dC dI ct A) (hD : ∀ (z : V) (g : VL), va_D A (MW a ct z g)) (hK38 : ∀ (i1 : Int32) (i2 : Int32) (i3 : Int32) (i4 : Int32) (i5 : Int32) (z : V) (g : VL), K38 i1 i2 i3 i4 i5 z g → ∀ (H : Heap) (locs : List Loc) (ls : Array Slot), va_P (dC, dI) vwCl (MW a ct z g) H → va_S A s.heap H locs → lv_has ls 7 [(0, .ref (a 0)), (1, .int i1), (2, .int i2), (3, .int i3), (4, .int i4), (5, .int i5)] → W p l e rm_X2_buys s m args below meth c H locs 0 0 (MQ below (va_Qi (fun (r : Int32) (u : V × VL) => Post r u.1 u.2) (fun (u : V × VL) t => WPos dC dI ct (MW a ct u.1 u.2) A t) A) args s 0 0 A) (F0 m 38 ls [])) (i1 : Int32) (i2 : Int32) (i3 : Int32) (i4 : Int32) (i5 : Int32) (z : V) (g : VL) (w : wp_X2_buys_L69  Post K38 i1 i2 i3 i4 i5 z g) : ∀ (H : Heap) (locs : List Loc) (ls : Array Slot), va_P (dC, dI) vwCl (MW a ct z g) H → va_S A s.heap H locs → lv_has ls 7 [(0, .ref (a 0)), (1, .int i1), (2, .int i2), (3, .int i3), (4, .int i4), (5, .int i5)] → W p l e rm_X2_buys s m args below meth c H locs 0 0 (MQ below (va_Qi (fun (r : Int32) (u : V × VL) => Post r u.1 u.2) (fun (u : V × VL) t => WPos dC dI ct (MW a ct u.1 u.2) A t) A) args s 0 0 A) (F0 m 69 ls []) := by
  intro H locs ls hP hS hl
  have X0 := X
  obtain ⟨⟨hx, hb, hml, hr, hlk, hown, hts⟩, hA, hK, hN⟩ := X0
  unfold wp_X2_buys_L69 at w
  refine lv_iconst (v := 0) hx hb dX2_buys_69 (by decide) ?_
  exact wk_X2_buys_L70 X hD hK38 _ _ _ _ _ _ _ _ w _ _ _ hP hS (lv_sub hl [0, 1, 2, 3, 4, 5] rfl)
set_option maxHeartbeats 4000000 in
set_option maxRecDepth 100000 in
theorem wk_X2_buys_L122 {p : Program} {l : Launch} {e : Env} {s : State} {m : MethodId} {args : Array Value} {below : List Frame} {meth : Method} {c : Code} {dC : Nat → ClassId} {dI : Nat → Nat → Nat} {ct : Nat → ClassId} {A : Nat → Prop} {a : Nat → Nat} {Post : Int32 → V → VL → Prop}   (X : CxW p s m args meth c cX2_buys 7 (some .int) RX2 dC dI ct A) (hD : ∀ (z : V) (g : VL), va_D A (MW a ct z g))  (is0 : Int32) (z : V) (g : VL) (w : wp_X2_buys_L122  Post  is0 z g) : ∀ (H : Heap) (locs : List Loc) (ls : Array Slot), va_P (dC, dI) vwCl (MW a ct z g) H → va_S A s.heap H locs → lv_has ls 7 [] → W p l e rm_X2_buys s m args below meth c H locs 0 0 (MQ below (va_Qi (fun (r : Int32) (u : V × VL) => Post r u.1 u.2) (fun (u : V × VL) t => WPos dC dI ct (MW a ct u.1 u.2) A t) A) args s 0 0 A) (F0 m 122 ls [.int is0]) := by
  intro H locs ls hP hS hl
  have X0 := X
  obtain ⟨⟨hx, hb, hml, hr, hlk, hown, hts⟩, hA, hK, hN⟩ := X0
  unfold wp_X2_buys_L122 at w
  exact W.iret (v := is0) hx hb hr (fun t ht hW => ⟨⟨is0, (z, g), rfl, w, by rw [ht]; exact hP, va_K.moved hW.alike hK, (hD _ _)⟩, hS.F ht⟩) hS.2.2 dX2_buys_122 hlk
set_option maxHeartbeats 4000000 in
set_option maxRecDepth 100000 in
theorem wk_X2_buys_S38 {p : Program} {l : Launch} {e : Env} {s : State} {m : MethodId} {args : Array Value} {below : List Frame} {meth : Method} {c : Code} {dC : Nat → ClassId} {dI : Nat → Nat → Nat} {ct : Nat → ClassId} {A : Nat → Prop} {a : Nat → Nat} {Post : Int32 → V → VL → Prop} {K38 : Int32 → Int32 → Int32 → Int32 → Int32 → V → VL → Prop}  (X : CxW p s m args meth c cX2_buys 7 (some .int) RX2 dC dI ct A) (hD : ∀ (z : V) (g : VL), va_D A (MW a ct z g)) (hK38 : ∀ (i1 : Int32) (i2 : Int32) (i3 : Int32) (i4 : Int32) (i5 : Int32) (z : V) (g : VL), K38 i1 i2 i3 i4 i5 z g → ∀ (H : Heap) (locs : List Loc) (ls : Array Slot), va_P (dC, dI) vwCl (MW a ct z g) H → va_S A s.heap H locs → lv_has ls 7 [(0, .ref (a 0)), (1, .int i1), (2, .int i2), (3, .int i3), (4, .int i4), (5, .int i5)] → W p l e rm_X2_buys s m args below meth c H locs 0 0 (MQ below (va_Qi (fun (r : Int32) (u : V × VL) => Post r u.1 u.2) (fun (u : V × VL) t => WPos dC dI ct (MW a ct u.1 u.2) A t) A) args s 0 0 A) (F0 m 38 ls [])) (i1 : Int32) (i2 : Int32) (i3 : Int32) (i4 : Int32) (i5 : Int32) (z : V) (g : VL) (w : wp_X2_buys_S38  Post K38 i1 i2 i3 i4 i5 z g) : ∀ (H : Heap) (locs : List Loc) (ls : Array Slot), va_P (dC, dI) vwCl (MW a ct z g) H → va_S A s.heap H locs → lv_has ls 7 [(0, .ref (a 0)), (1, .int i1), (2, .int i2), (3, .int i3), (4, .int i4), (5, .int i5)] → W p l e rm_X2_buys s m args below meth c H locs 0 0 (MQ below (va_Qi (fun (r : Int32) (u : V × VL) => Post r u.1 u.2) (fun (u : V × VL) t => WPos dC dI ct (MW a ct u.1 u.2) A t) A) args s 0 0 A) (F0 m 38 ls []) := by
  intro H locs ls hP hS hl
  have X0 := X
  obtain ⟨⟨hx, hb, hml, hr, hlk, hown, hts⟩, hA, hK, hN⟩ := X0
  unfold wp_X2_buys_S38 at w
  refine lv_iload hx hb dX2_buys_38 (lv_at hl 5 rfl) ?_
  refine lv_sipush (v := 256) hx hb dX2_buys_40 (by decide) ?_
  refine lv_icmp_ge (tgt := 107) hx hb dX2_buys_43 (by decide) (fun c => ?_) (fun c => ?_)
  · have w := And.left w c
    refine lv_iload_n hx hb dX2_buys_107 rfl (lv_at hl 2 rfl) ?_
    refine lv_if_ne (tgt := 120) hx hb dX2_buys_108 (by decide) (fun c => ?_) (fun c => ?_)
    · have w := And.right w c
      refine lv_iload hx hb dX2_buys_120 (lv_at hl 4 rfl) ?_
      exact wk_X2_buys_L122 X hD  _ _ _ w _ _ _ hP hS (lv_sub hl [] rfl)
    · have w := And.left w c
      refine lv_aload_n hx hb dX2_buys_111 rfl (lv_at hl 0 rfl) ?_
      refine lv_iload hx hb dX2_buys_112 (lv_at hl 4 rfl) ?_
      refine va_calli (va_runV (As := [.int i4]) (rest := []) ⟨hx, hb, hml, hown, hts⟩ (met_X2_pricesOf l dC dI ct a _ w) (cwV 1 hts (lw_V q764 q766 qs38 q51 q767) rfl rfl rfl hd_X2_pricesOf ⟨Nat.le_of_ble_eq_true rfl, Nat.le_of_ble_eq_true rfl⟩) (pre_V hK hP (hD _ _) hN (va_recv hK hP (ci := 2) (q0 := 0) rfl rfl)) rfl rfl hl.1 rfl (lv_room (Nat.le_of_ble_eq_true rfl)) dX2_buys_114 ⟨Nat.le_refl _, Nat.le_refl _⟩) hS (fun q _ h => x_free (hD _ _) hS hA q h) (x_free (hD _ _) hS hA) (fun r1 u t H locs ht hvm w hB hz hk hS => ?_)
      obtain ⟨z_1, g_1⟩ := u
      dsimp only at w
      have hP : va_P (dC, dI) vwCl (MW a ct z_1 g_1) H := post_P hB ht
      refine lv_goto (tgt := 122) hx hb dX2_buys_117 (by decide) ?_
      exact wk_X2_buys_L122 X hD  _ _ _ w _ _ _ hP hS (lv_sub hl [] rfl)
  · have w := And.right w c
    refine lv_iload hx hb dX2_buys_46 (lv_at hl 5 rfl) ?_
    refine lv_iload_n hx hb dX2_buys_48 rfl (lv_at hl 3 rfl) ?_
    refine lv_iconst (v := -1) hx hb dX2_buys_49 (by decide) ?_
    refine lv_ixor hx hb dX2_buys_50 ?_
    refine lv_iand hx hb dX2_buys_51 ?_
    refine lv_if_ne (tgt := 69) hx hb dX2_buys_52 (by decide) (fun c => ?_) (fun c => ?_)
    · have w := And.right w c
      exact wk_X2_buys_L69 X hD hK38 _ _ _ _ _ _ _ w _ _ _ hP hS (lv_sub hl [0, 1, 2, 3, 4, 5] rfl)
    · have w := And.left w c
      refine lv_aload_n hx hb dX2_buys_55 rfl (lv_at hl 0 rfl) ?_
      refine lv_iload hx hb dX2_buys_56 (lv_at hl 5 rfl) ?_
      refine va_calli (va_runV (As := [.int i5]) (rest := []) ⟨hx, hb, hml, hown, hts⟩ (met_X2_pricesOf l dC dI ct a _ w) (cwV 1 hts (lw_V q764 q766 qs38 q51 q767) rfl rfl rfl hd_X2_pricesOf ⟨Nat.le_of_ble_eq_true rfl, Nat.le_of_ble_eq_true rfl⟩) (pre_V hK hP (hD _ _) hN (va_recv hK hP (ci := 2) (q0 := 0) rfl rfl)) rfl rfl hl.1 rfl (lv_room (Nat.le_of_ble_eq_true rfl)) dX2_buys_58 ⟨Nat.le_refl _, Nat.le_refl _⟩) hS (fun q _ h => x_free (hD _ _) hS hA q h) (x_free (hD _ _) hS hA) (fun r2 u t H locs ht hvm w hB hz hk hS => ?_)
      obtain ⟨z_2, g_2⟩ := u
      dsimp only at w
      have hP : va_P (dC, dI) vwCl (MW a ct z_2 g_2) H := post_P hB ht
      refine lv_iload_n hx hb dX2_buys_61 rfl (lv_at hl 1 rfl) ?_
      refine lv_icmp_gt (tgt := 69) hx hb dX2_buys_62 (by decide) (fun c => ?_) (fun c => ?_)
      · have w := And.left w c
        exact wk_X2_buys_L69 X hD hK38 _ _ _ _ _ _ _ w _ _ _ hP hS (lv_sub hl [0, 1, 2, 3, 4, 5] rfl)
      · have w := And.right w c
        refine lv_iconst (v := 1) hx hb dX2_buys_65 (by decide) ?_
        refine lv_goto (tgt := 70) hx hb dX2_buys_66 (by decide) ?_
        exact wk_X2_buys_L70 X hD hK38 _ _ _ _ _ _ _ _ w _ _ _ hP hS (lv_sub hl [0, 1, 2, 3, 4, 5] rfl)
set_option maxHeartbeats 4000000 in
set_option maxRecDepth 100000 in
theorem wk_X2_buys_L38 {p : Program} {l : Launch} {e : Env} {s : State} {m : MethodId} {args : Array Value} {below : List Frame} {meth : Method} {c : Code} {dC : Nat → ClassId} {dI : Nat → Nat → Nat} {ct : Nat → ClassId} {A : Nat → Prop} {a : Nat → Nat} {Post : Int32 → V → VL → Prop}   (X : CxW p s m args meth c cX2_buys 7 (some .int) RX2 dC dI ct A) (hD : ∀ (z : V) (g : VL), va_D A (MW a ct z g))  : ∀ (n : Nat) (i1 : Int32) (i2 : Int32) (i3 : Int32) (i4 : Int32) (i5 : Int32) (z : V) (g : VL), wp_X2_buys_L38  Post  n i1 i2 i3 i4 i5 z g → ∀ (H : Heap) (locs : List Loc) (ls : Array Slot), va_P (dC, dI) vwCl (MW a ct z g) H → va_S A s.heap H locs → lv_has ls 7 [(0, .ref (a 0)), (1, .int i1), (2, .int i2), (3, .int i3), (4, .int i4), (5, .int i5)] → W p l e rm_X2_buys s m args below meth c H locs 0 0 (MQ below (va_Qi (fun (r : Int32) (u : V × VL) => Post r u.1 u.2) (fun (u : V × VL) t => WPos dC dI ct (MW a ct u.1 u.2) A t) A) args s 0 0 A) (F0 m 38 ls []) := by
  intro n
  induction n with
  | zero => intro i1 i2 i3 i4 i5 z g w; exact False.elim w
  | succ n ih => intro i1 i2 i3 i4 i5 z g w H locs ls hP hS hl; exact wk_X2_buys_S38 X hD  ih i1 i2 i3 i4 i5 z g w H locs ls hP hS hl
set_option maxHeartbeats 4000000 in
set_option maxRecDepth 100000 in
theorem met_X2_buys (l : Launch) (dC : Nat → ClassId) (dI : Nat → Nat → Nat) (ct : Nat → ClassId) (a : Nat → Nat) (sz : Nat) {i1 : Int32} {i2 : Int32} {z : V} {g : VL} {Post : Int32 → V → VL → Prop} (w : wp_X2_buys i1 i2 z g Post) : Met l yX2_buys (ws_ yX2_buys cX2_buys 7 (some .int)) rm_X2_buys (va_Pc [.ref (a 0), .int i1, .int i2] (fun U => WPre dC dI ct (MW a ct z g) sz U)) ((fun A => (va_Qi (fun (r : Int32) (u : V × VL) => Post r u.1 u.2) (fun (u : V × VL) t => WPos dC dI ct (MW a ct u.1 u.2) A t) A)) (va_A (MW a ct z g) sz)) 0 0 (va_A (MW a ct z g) sz) := by
  refine open_W (fun A => (va_Qi (fun (r : Int32) (u : V × VL) => Post r u.1 u.2) (fun (u : V × VL) t => WPos dC dI ct (MW a ct u.1 u.2) A t) A)) (by decide) (Nat.le_of_ble_eq_true rfl) ?_
  intro p e s m args below meth c ls A X hD0 hP hS hl
  have X0 := X
  obtain ⟨⟨hx, hb, hml, hr, hlk, hown, hts⟩, hA, hK, hN⟩ := X0
  have hD : ∀ (z' : V) (g' : VL), va_D A (MW a ct z' g') := fun z' g' => va_D_addr hD0 rfl
  have hl : lv_has ls 7 [(0, .ref (a 0)), (1, .int i1), (2, .int i2)] := hl
  unfold wp_X2_buys at w
  have hS0 := hS
  refine lv_iload_n hx hb dX2_buys_0 rfl (lv_at hl 1 rfl) ?_
  refine lv_i2l hx hb dX2_buys_1 rfl ?_
  refine lv_lconst (v := 0) hx hb dX2_buys_2 (by decide) ?_
  refine lv_ldc2 (v := 9999) hx hb hown (hts _ q573) dX2_buys_3 ?_
  refine vp_callSi (W.runS (As := [.long i1.toInt64, .long (0 : Int64), .long (9999 : Int64)]) (rest := []) ⟨hx, hb, hml, hown, hts⟩ (met_X2_in l w) (va_cwS 3 hts (lw_S q570 q571 q51 q572) rfl rfl rfl hd_X2_in ⟨Nat.le_of_ble_eq_true rfl, Nat.le_of_ble_eq_true rfl⟩) pre_S rfl rfl hl.1 rfl (lv_room (Nat.le_of_ble_eq_true rfl)) dX2_buys_6 ⟨Nat.le_refl _, Nat.le_refl _⟩) (fun r1 w => ?_)
  refine lv_if_eq (tgt := 22) hx hb dX2_buys_9 (by decide) (fun c => ?_) (fun c => ?_)
  · have w := And.left w c
    exact wk_X2_buys_L22 X hD  _ _ w _ _ _ hP hS (lv_sub hl [] rfl)
  · have w := And.right w c
    refine lv_iload_n hx hb dX2_buys_12 rfl (lv_at hl 2 rfl) ?_
    refine lv_i2l hx hb dX2_buys_13 rfl ?_
    refine lv_lconst (v := 0) hx hb dX2_buys_14 (by decide) ?_
    refine lv_lconst (v := 1) hx hb dX2_buys_15 (by decide) ?_
    refine vp_callSi (W.runS (As := [.long i2.toInt64, .long (0 : Int64), .long (1 : Int64)]) (rest := []) ⟨hx, hb, hml, hown, hts⟩ (met_X2_in l w) (va_cwS 3 hts (lw_S q570 q571 q51 q572) rfl rfl rfl hd_X2_in ⟨Nat.le_of_ble_eq_true rfl, Nat.le_of_ble_eq_true rfl⟩) pre_S rfl rfl hl.1 rfl (lv_room (Nat.le_of_ble_eq_true rfl)) dX2_buys_16 ⟨Nat.le_refl _, Nat.le_refl _⟩) (fun r2 w => ?_)
    refine lv_if_ne (tgt := 25) hx hb dX2_buys_19 (by decide) (fun c => ?_) (fun c => ?_)
    · have w := And.right w c
      refine lv_aload_n hx hb dX2_buys_25 rfl (lv_at hl 0 rfl) ?_
      refine lv_bipush (v := -6) hx hb dX2_buys_26 (by decide) ?_
      refine va_calli (va_runV (As := [.int (-6 : Int32)]) (rest := []) ⟨hx, hb, hml, hown, hts⟩ (met_X2_lotsOf l dC dI ct a _ w) (cwV 1 hts (lw_V q720 q722 qs33 q51 q723) rfl rfl rfl hd_X2_lotsOf ⟨Nat.le_of_ble_eq_true rfl, Nat.le_of_ble_eq_true rfl⟩) (pre_V hK hP (hD _ _) hN (va_recv hK hP (ci := 2) (q0 := 0) rfl rfl)) rfl rfl hl.1 rfl (lv_room (Nat.le_of_ble_eq_true rfl)) dX2_buys_28 ⟨Nat.le_refl _, Nat.le_refl _⟩) hS (fun q _ h => x_free (hD _ _) hS hA q h) (x_free (hD _ _) hS hA) (fun r3 u t H locs ht hvm w hB hz hk hS => ?_)
      obtain ⟨z_3, g_3⟩ := u
      dsimp only at w
      have hP : va_P (dC, dI) vwCl (MW a ct z_3 g_3) H := post_P hB ht
      refine lv_istore_n (lv' := [(3, .int r3), (0, .ref (a 0)), (1, .int i1), (2, .int i2)]) hx hb dX2_buys_31 rfl hl (by decide) rfl (fun ls hl => ?_)
      refine lv_iconst (v := 0) hx hb dX2_buys_32 (by decide) ?_
      refine lv_istore (lv' := [(4, .int (0 : Int32)), (3, .int r3), (0, .ref (a 0)), (1, .int i1), (2, .int i2)]) hx hb dX2_buys_33 hl (by decide) rfl (fun ls hl => ?_)
      refine lv_iconst (v := 1) hx hb dX2_buys_35 (by decide) ?_
      refine lv_istore (lv' := [(5, .int (1 : Int32)), (4, .int (0 : Int32)), (3, .int r3), (0, .ref (a 0)), (1, .int i1), (2, .int i2)]) hx hb dX2_buys_36 hl (by decide) rfl (fun ls hl => ?_)
      obtain ⟨n, w⟩ := w
      exact wk_X2_buys_L38 X hD  n _ _ _ _ _ _ _ w _ _ _ hP hS (lv_sub hl [3, 4, 5, 2, 1, 0] rfl)
    · have w := And.left w c
      exact wk_X2_buys_L22 X hD  _ _ w _ _ _ hP hS (lv_sub hl [] rfl)
abbrev rm_X2_runs : Room := { frames := 1, cells := 0, slots := 0, locals := 25 }
theorem hd_X2_runs : yX2_runs.cls = RX2 ∧ yX2_runs.cls ≠ "java/lang/invoke/MethodHandle" ∧ yX2_runs.cls ≠ "java/lang/invoke/VarHandle" ∧ (parseMethodDescriptor yX2_runs.desc).map (fun d => d.parameters.length) = some 3 := by decide +kernel
set_option maxHeartbeats 4000000 in
set_option maxRecDepth 100000 in
theorem wk_X2_runs_L36 {p : Program} {l : Launch} {e : Env} {s : State} {m : MethodId} {args : Array Value} {below : List Frame} {meth : Method} {c : Code} {dC : Nat → ClassId} {dI : Nat → Nat → Nat} {ct : Nat → ClassId} {A : Nat → Prop} {a : Nat → Nat} {Post : Int32 → V → VL → Prop}   (X : CxW p s m args meth c cX2_runs 8 (some .int) RX2 dC dI ct A) (hD : ∀ (z : V) (g : VL), va_D A (MW a ct z g))  (z : V) (g : VL) (w : wp_X2_runs_L36  Post  z g) : ∀ (H : Heap) (locs : List Loc) (ls : Array Slot), va_P (dC, dI) vwCl (MW a ct z g) H → va_S A s.heap H locs → lv_has ls 8 [] → W p l e rm_X2_runs s m args below meth c H locs 0 0 (MQ below (va_Qi (fun (r : Int32) (u : V × VL) => Post r u.1 u.2) (fun (u : V × VL) t => WPos dC dI ct (MW a ct u.1 u.2) A t) A) args s 0 0 A) (F0 m 36 ls []) := by
  intro H locs ls hP hS hl
  have X0 := X
  obtain ⟨⟨hx, hb, hml, hr, hlk, hown, hts⟩, hA, hK, hN⟩ := X0
  unfold wp_X2_runs_L36 at w
  refine lv_bipush (v := -2) hx hb dX2_runs_36 (by decide) ?_
  exact W.iret (v := (-2 : Int32)) hx hb hr (fun t ht hW => ⟨⟨(-2 : Int32), (z, g), rfl, w, by rw [ht]; exact hP, va_K.moved hW.alike hK, (hD _ _)⟩, hS.F ht⟩) hS.2.2 dX2_runs_38 hlk
set_option maxHeartbeats 4000000 in
set_option maxRecDepth 100000 in
theorem wk_X2_runs_S46 {p : Program} {l : Launch} {e : Env} {s : State} {m : MethodId} {args : Array Value} {below : List Frame} {meth : Method} {c : Code} {dC : Nat → ClassId} {dI : Nat → Nat → Nat} {ct : Nat → ClassId} {A : Nat → Prop} {a : Nat → Nat} {Post : Int32 → V → VL → Prop} {K46 : Int32 → Int32 → Int64 → Int32 → V → VL → Prop}  (X : CxW p s m args meth c cX2_runs 8 (some .int) RX2 dC dI ct A) (hD : ∀ (z : V) (g : VL), va_D A (MW a ct z g)) (hK46 : ∀ (i2 : Int32) (i3 : Int32) (l4 : Int64) (i6 : Int32) (z : V) (g : VL), K46 i2 i3 l4 i6 z g → ∀ (H : Heap) (locs : List Loc) (ls : Array Slot), va_P (dC, dI) vwCl (MW a ct z g) H → va_S A s.heap H locs → lv_has ls 8 [(0, .ref (a 0)), (2, .int i2), (3, .int i3), (4, .long l4), (6, .int i6)] → W p l e rm_X2_runs s m args below meth c H locs 0 0 (MQ below (va_Qi (fun (r : Int32) (u : V × VL) => Post r u.1 u.2) (fun (u : V × VL) t => WPos dC dI ct (MW a ct u.1 u.2) A t) A) args s 0 0 A) (F0 m 46 ls [])) (i2 : Int32) (i3 : Int32) (l4 : Int64) (i6 : Int32) (z : V) (g : VL) (w : wp_X2_runs_S46  Post K46 i2 i3 l4 i6 z g) : ∀ (H : Heap) (locs : List Loc) (ls : Array Slot), va_P (dC, dI) vwCl (MW a ct z g) H → va_S A s.heap H locs → lv_has ls 8 [(0, .ref (a 0)), (2, .int i2), (3, .int i3), (4, .long l4), (6, .int i6)] → W p l e rm_X2_runs s m args below meth c H locs 0 0 (MQ below (va_Qi (fun (r : Int32) (u : V × VL) => Post r u.1 u.2) (fun (u : V × VL) t => WPos dC dI ct (MW a ct u.1 u.2) A t) A) args s 0 0 A) (F0 m 46 ls []) := by
  intro H locs ls hP hS hl
  have X0 := X
  obtain ⟨⟨hx, hb, hml, hr, hlk, hown, hts⟩, hA, hK, hN⟩ := X0
  unfold wp_X2_runs_S46 at w
  refine lv_iload hx hb dX2_runs_46 (lv_at hl 4 rfl) ?_
  refine lv_bipush (v := 100) hx hb dX2_runs_48 (by decide) ?_
  refine lv_icmp_gt (tgt := 104) hx hb dX2_runs_50 (by decide) (fun c => ?_) (fun c => ?_)
  · have w := And.left w c
    refine lv_bipush (v := -6) hx hb dX2_runs_104 (by decide) ?_
    exact W.iret (v := (-6 : Int32)) hx hb hr (fun t ht hW => ⟨⟨(-6 : Int32), (z, g), rfl, w, by rw [ht]; exact hP, va_K.moved hW.alike hK, (hD _ _)⟩, hS.F ht⟩) hS.2.2 dX2_runs_106 hlk
  · have w := And.right w c
    refine lv_aload_n hx hb dX2_runs_53 rfl (lv_at hl 0 rfl) ?_
    refine va_calli (va_runV (As := []) (rest := []) ⟨hx, hb, hml, hown, hts⟩ (met_X2_land l dC dI ct a _ w) (cwV 0 hts (lw_V q671 q673 qs23 q51 q674) rfl rfl rfl hd_X2_land ⟨Nat.le_of_ble_eq_true rfl, Nat.le_of_ble_eq_true rfl⟩) (pre_V hK hP (hD _ _) hN (va_recv hK hP (ci := 2) (q0 := 0) rfl rfl)) rfl rfl hl.1 rfl (lv_room (Nat.le_of_ble_eq_true rfl)) dX2_runs_54 ⟨Nat.le_refl _, Nat.le_refl _⟩) hS (fun q _ h => x_free (hD _ _) hS hA q h) (x_free (hD _ _) hS hA) (fun r1 u t H locs ht hvm w hB hz hk hS => ?_)
    obtain ⟨z_1, g_1⟩ := u
    dsimp only at w
    have hP : va_P (dC, dI) vwCl (MW a ct z_1 g_1) H := post_P hB ht
    refine lv_lload hx hb dX2_runs_57 (lv_at hl 3 rfl) ?_
    refine vp_callSi (W.runS (As := [.int r1, .long l4]) (rest := []) ⟨hx, hb, hml, hown, hts⟩ (met_X2_rateOf l w) (va_cwS 2 hts (lw_S q679 q680 q51 q681) rfl rfl rfl hd_X2_rateOf ⟨Nat.le_of_ble_eq_true rfl, Nat.le_of_ble_eq_true rfl⟩) pre_S rfl rfl hl.1 rfl (lv_room (Nat.le_of_ble_eq_true rfl)) dX2_runs_59 ⟨Nat.le_refl _, Nat.le_refl _⟩) (fun r2 w => ?_)
    refine lv_istore (lv' := [(7, .int r2), (0, .ref (a 0)), (2, .int i2), (3, .int i3), (4, .long l4), (6, .int i6)]) hx hb dX2_runs_62 hl (by decide) rfl (fun ls hl => ?_)
    refine lv_iload hx hb dX2_runs_64 (lv_at hl 0 rfl) ?_
    refine lv_iload_n hx hb dX2_runs_66 rfl (lv_at hl 3 rfl) ?_
    refine lv_icmp_ge (tgt := 73) hx hb dX2_runs_67 (by decide) (fun c => ?_) (fun c => ?_)
    · have w := And.left w c
      refine lv_lload hx hb dX2_runs_73 (lv_at hl 4 rfl) ?_
      refine lv_lload hx hb dX2_runs_75 (lv_at hl 4 rfl) ?_
      refine lv_iload_n hx hb dX2_runs_77 rfl (lv_at hl 2 rfl) ?_
      refine lv_i2l hx hb dX2_runs_78 rfl ?_
      refine lv_lmul hx hb dX2_runs_79 ?_
      refine lv_ldc2 (v := 100) hx hb hown (hts _ q682) dX2_runs_80 ?_
      refine lv_ldiv hx hb dX2_runs_83 (by decide) ?_
      refine lv_ldc2 (v := 100) hx hb hown (hts _ q682) dX2_runs_84 ?_
      refine lv_bipush (v := 100) hx hb dX2_runs_87 (by decide) ?_
      refine lv_iload hx hb dX2_runs_89 (lv_at hl 0 rfl) ?_
      refine lv_isub hx hb dX2_runs_91 ?_
      refine lv_i2l hx hb dX2_runs_92 rfl ?_
      refine lv_lmul hx hb dX2_runs_93 ?_
      refine lv_ladd hx hb dX2_runs_94 ?_
      refine lv_ladd hx hb dX2_runs_95 ?_
      refine lv_topl (fun n3 en3 => ?_)
      have w := w n3 en3
      refine lv_lstore (lv' := [(4, .long n3), (7, .int r2), (0, .ref (a 0)), (2, .int i2), (3, .int i3), (6, .int i6)]) hx hb dX2_runs_96 hl (by decide) rfl (fun ls hl => ?_)
      refine lv_iinc (v := (i6 + 1)) (lv' := [(6, .int (i6 + 1)), (4, .long n3), (7, .int r2), (0, .ref (a 0)), (2, .int i2), (3, .int i3)]) hx hb dX2_runs_98 hl (k := 5) rfl rfl (by decide) rfl (fun ls hl => ?_)
      refine lv_goto (tgt := 46) hx hb dX2_runs_101 (by decide) ?_
      exact hK46 _ _ _ _ _ _ w _ _ _ hP hS (lv_sub hl [3, 4, 5, 1, 0] rfl)
    · have w := And.right w c
      refine lv_iload hx hb dX2_runs_70 (lv_at hl 5 rfl) ?_
      exact W.iret (v := i6) hx hb hr (fun t ht hW => ⟨⟨i6, (z_1, g_1), rfl, w, by rw [ht]; exact hP, va_K.moved hW.alike hK, (hD _ _)⟩, hS.F ht⟩) hS.2.2 dX2_runs_72 hlk
set_option maxHeartbeats 4000000 in
set_option maxRecDepth 100000 in
theorem wk_X2_runs_L46 {p : Program} {l : Launch} {e : Env} {s : State} {m : MethodId} {args : Array Value} {below : List Frame} {meth : Method} {c : Code} {dC : Nat → ClassId} {dI : Nat → Nat → Nat} {ct : Nat → ClassId} {A : Nat → Prop} {a : Nat → Nat} {Post : Int32 → V → VL → Prop}   (X : CxW p s m args meth c cX2_runs 8 (some .int) RX2 dC dI ct A) (hD : ∀ (z : V) (g : VL), va_D A (MW a ct z g))  : ∀ (n : Nat) (i2 : Int32) (i3 : Int32) (l4 : Int64) (i6 : Int32) (z : V) (g : VL), wp_X2_runs_L46  Post  n i2 i3 l4 i6 z g → ∀ (H : Heap) (locs : List Loc) (ls : Array Slot), va_P (dC, dI) vwCl (MW a ct z g) H → va_S A s.heap H locs → lv_has ls 8 [(0, .ref (a 0)), (2, .int i2), (3, .int i3), (4, .long l4), (6, .int i6)] → W p l e rm_X2_runs s m args below meth c H locs 0 0 (MQ below (va_Qi (fun (r : Int32) (u : V × VL) => Post r u.1 u.2) (fun (u : V × VL) t => WPos dC dI ct (MW a ct u.1 u.2) A t) A) args s 0 0 A) (F0 m 46 ls []) := by
  intro n
  induction n with
  | zero => intro i2 i3 l4 i6 z g w; exact False.elim w
  | succ n ih => intro i2 i3 l4 i6 z g w H locs ls hP hS hl; exact wk_X2_runs_S46 X hD  ih i2 i3 l4 i6 z g w H locs ls hP hS hl
set_option maxHeartbeats 4000000 in
set_option maxRecDepth 100000 in
theorem met_X2_runs (l : Launch) (dC : Nat → ClassId) (dI : Nat → Nat → Nat) (ct : Nat → ClassId) (a : Nat → Nat) (sz : Nat) {i1 : Int32} {i2 : Int32} {i3 : Int32} {z : V} {g : VL} {Post : Int32 → V → VL → Prop} (w : wp_X2_runs i1 i2 i3 z g Post) : Met l yX2_runs (ws_ yX2_runs cX2_runs 8 (some .int)) rm_X2_runs (va_Pc [.ref (a 0), .int i1, .int i2, .int i3] (fun U => WPre dC dI ct (MW a ct z g) sz U)) ((fun A => (va_Qi (fun (r : Int32) (u : V × VL) => Post r u.1 u.2) (fun (u : V × VL) t => WPos dC dI ct (MW a ct u.1 u.2) A t) A)) (va_A (MW a ct z g) sz)) 0 0 (va_A (MW a ct z g) sz) := by
  refine open_W (fun A => (va_Qi (fun (r : Int32) (u : V × VL) => Post r u.1 u.2) (fun (u : V × VL) t => WPos dC dI ct (MW a ct u.1 u.2) A t) A)) (by decide) (Nat.le_of_ble_eq_true rfl) ?_
  intro p e s m args below meth c ls A X hD0 hP hS hl
  have X0 := X
  obtain ⟨⟨hx, hb, hml, hr, hlk, hown, hts⟩, hA, hK, hN⟩ := X0
  have hD : ∀ (z' : V) (g' : VL), va_D A (MW a ct z' g') := fun z' g' => va_D_addr hD0 rfl
  have hl : lv_has ls 8 [(0, .ref (a 0)), (1, .int i1), (2, .int i2), (3, .int i3)] := hl
  unfold wp_X2_runs at w
  have hS0 := hS
  refine lv_iload_n hx hb dX2_runs_0 rfl (lv_at hl 1 rfl) ?_
  refine lv_i2l hx hb dX2_runs_1 rfl ?_
  refine lv_lconst (v := 1) hx hb dX2_runs_2 (by decide) ?_
  refine lv_ldc2 (v := 99999) hx hb hown (hts _ q589) dX2_runs_3 ?_
  refine vp_callSi (W.runS (As := [.long i1.toInt64, .long (1 : Int64), .long (99999 : Int64)]) (rest := []) ⟨hx, hb, hml, hown, hts⟩ (met_X2_in l w) (va_cwS 3 hts (lw_S q570 q571 q51 q572) rfl rfl rfl hd_X2_in ⟨Nat.le_of_ble_eq_true rfl, Nat.le_of_ble_eq_true rfl⟩) pre_S rfl rfl hl.1 rfl (lv_room (Nat.le_of_ble_eq_true rfl)) dX2_runs_6 ⟨Nat.le_refl _, Nat.le_refl _⟩) (fun r1 w => ?_)
  refine lv_if_eq (tgt := 36) hx hb dX2_runs_9 (by decide) (fun c => ?_) (fun c => ?_)
  · have w := And.left w c
    exact wk_X2_runs_L36 X hD  _ _ w _ _ _ hP hS (lv_sub hl [] rfl)
  · have w := And.right w c
    refine lv_iload_n hx hb dX2_runs_12 rfl (lv_at hl 2 rfl) ?_
    refine lv_i2l hx hb dX2_runs_13 rfl ?_
    refine lv_lconst (v := 0) hx hb dX2_runs_14 (by decide) ?_
    refine lv_ldc2 (v := 99) hx hb hown (hts _ q772) dX2_runs_15 ?_
    refine vp_callSi (W.runS (As := [.long i2.toInt64, .long (0 : Int64), .long (99 : Int64)]) (rest := []) ⟨hx, hb, hml, hown, hts⟩ (met_X2_in l w) (va_cwS 3 hts (lw_S q570 q571 q51 q572) rfl rfl rfl hd_X2_in ⟨Nat.le_of_ble_eq_true rfl, Nat.le_of_ble_eq_true rfl⟩) pre_S rfl rfl hl.1 rfl (lv_room (Nat.le_of_ble_eq_true rfl)) dX2_runs_18 ⟨Nat.le_refl _, Nat.le_refl _⟩) (fun r2 w => ?_)
    refine lv_if_eq (tgt := 36) hx hb dX2_runs_21 (by decide) (fun c => ?_) (fun c => ?_)
    · have w := And.left w c
      exact wk_X2_runs_L36 X hD  _ _ w _ _ _ hP hS (lv_sub hl [] rfl)
    · have w := And.right w c
      refine lv_iload_n hx hb dX2_runs_24 rfl (lv_at hl 3 rfl) ?_
      refine lv_i2l hx hb dX2_runs_25 rfl ?_
      refine lv_lconst (v := 1) hx hb dX2_runs_26 (by decide) ?_
      refine lv_ldc2 (v := 100) hx hb hown (hts _ q682) dX2_runs_27 ?_
      refine vp_callSi (W.runS (As := [.long i3.toInt64, .long (1 : Int64), .long (100 : Int64)]) (rest := []) ⟨hx, hb, hml, hown, hts⟩ (met_X2_in l w) (va_cwS 3 hts (lw_S q570 q571 q51 q572) rfl rfl rfl hd_X2_in ⟨Nat.le_of_ble_eq_true rfl, Nat.le_of_ble_eq_true rfl⟩) pre_S rfl rfl hl.1 rfl (lv_room (Nat.le_of_ble_eq_true rfl)) dX2_runs_30 ⟨Nat.le_refl _, Nat.le_refl _⟩) (fun r3 w => ?_)
      refine lv_if_ne (tgt := 39) hx hb dX2_runs_33 (by decide) (fun c => ?_) (fun c => ?_)
      · have w := And.right w c
        refine lv_iload_n hx hb dX2_runs_39 rfl (lv_at hl 1 rfl) ?_
        refine lv_i2l hx hb dX2_runs_40 rfl ?_
        refine lv_lstore (lv' := [(4, .long i1.toInt64), (0, .ref (a 0)), (1, .int i1), (2, .int i2), (3, .int i3)]) hx hb dX2_runs_41 hl (by decide) rfl (fun ls hl => ?_)
        refine lv_iconst (v := 0) hx hb dX2_runs_43 (by decide) ?_
        refine lv_istore (lv' := [(6, .int (0 : Int32)), (4, .long i1.toInt64), (0, .ref (a 0)), (1, .int i1), (2, .int i2), (3, .int i3)]) hx hb dX2_runs_44 hl (by decide) rfl (fun ls hl => ?_)
        obtain ⟨n, w⟩ := w
        exact wk_X2_runs_L46 X hD  n _ _ _ _ _ _ w _ _ _ hP hS (lv_sub hl [2, 4, 5, 1, 0] rfl)
      · have w := And.left w c
        exact wk_X2_runs_L36 X hD  _ _ w _ _ _ hP hS (lv_sub hl [] rfl)
abbrev rm_X2_wages : Room := { frames := 1, cells := 0, slots := 0, locals := 25 }
theorem hd_X2_wages : yX2_wages.cls = RX2 ∧ yX2_wages.cls ≠ "java/lang/invoke/MethodHandle" ∧ yX2_wages.cls ≠ "java/lang/invoke/VarHandle" ∧ (parseMethodDescriptor yX2_wages.desc).map (fun d => d.parameters.length) = some 2 := by decide +kernel
set_option maxHeartbeats 4000000 in
set_option maxRecDepth 100000 in
theorem wk_X2_wages_L24 {p : Program} {l : Launch} {e : Env} {s : State} {m : MethodId} {args : Array Value} {below : List Frame} {meth : Method} {c : Code} {dC : Nat → ClassId} {dI : Nat → Nat → Nat} {ct : Nat → ClassId} {A : Nat → Prop} {a : Nat → Nat} {Post : Int32 → V → VL → Prop}   (X : CxW p s m args meth c cX2_wages 7 (some .int) RX2 dC dI ct A) (hD : ∀ (z : V) (g : VL), va_D A (MW a ct z g))  (z : V) (g : VL) (w : wp_X2_wages_L24  Post  z g) : ∀ (H : Heap) (locs : List Loc) (ls : Array Slot), va_P (dC, dI) vwCl (MW a ct z g) H → va_S A s.heap H locs → lv_has ls 7 [] → W p l e rm_X2_wages s m args below meth c H locs 0 0 (MQ below (va_Qi (fun (r : Int32) (u : V × VL) => Post r u.1 u.2) (fun (u : V × VL) t => WPos dC dI ct (MW a ct u.1 u.2) A t) A) args s 0 0 A) (F0 m 24 ls []) := by
  intro H locs ls hP hS hl
  have X0 := X
  obtain ⟨⟨hx, hb, hml, hr, hlk, hown, hts⟩, hA, hK, hN⟩ := X0
  unfold wp_X2_wages_L24 at w
  refine lv_bipush (v := -2) hx hb dX2_wages_24 (by decide) ?_
  exact W.iret (v := (-2 : Int32)) hx hb hr (fun t ht hW => ⟨⟨(-2 : Int32), (z, g), rfl, w, by rw [ht]; exact hP, va_K.moved hW.alike hK, (hD _ _)⟩, hS.F ht⟩) hS.2.2 dX2_wages_26 hlk
set_option maxHeartbeats 4000000 in
set_option maxRecDepth 100000 in
theorem wk_X2_wages_L122 {p : Program} {l : Launch} {e : Env} {s : State} {m : MethodId} {args : Array Value} {below : List Frame} {meth : Method} {c : Code} {dC : Nat → ClassId} {dI : Nat → Nat → Nat} {ct : Nat → ClassId} {A : Nat → Prop} {a : Nat → Nat} {Post : Int32 → V → VL → Prop} {K66 : Int32 → Int32 → Int32 → V → VL → Prop}  (X : CxW p s m args meth c cX2_wages 7 (some .int) RX2 dC dI ct A) (hD : ∀ (z : V) (g : VL), va_D A (MW a ct z g)) (hK66 : ∀ (i2 : Int32) (i4 : Int32) (i5 : Int32) (z : V) (g : VL), K66 i2 i4 i5 z g → ∀ (H : Heap) (locs : List Loc) (ls : Array Slot), va_P (dC, dI) vwCl (MW a ct z g) H → va_S A s.heap H locs → lv_has ls 7 [(0, .ref (a 0)), (2, .int i2), (4, .int i4), (5, .int i5)] → W p l e rm_X2_wages s m args below meth c H locs 0 0 (MQ below (va_Qi (fun (r : Int32) (u : V × VL) => Post r u.1 u.2) (fun (u : V × VL) t => WPos dC dI ct (MW a ct u.1 u.2) A t) A) args s 0 0 A) (F0 m 66 ls [])) (i2 : Int32) (i5 : Int32) (is0 : Int32) (is1 : Int32) (z : V) (g : VL) (w : wp_X2_wages_L122  Post K66 i2 i5 is0 is1 z g) : ∀ (H : Heap) (locs : List Loc) (ls : Array Slot), va_P (dC, dI) vwCl (MW a ct z g) H → va_S A s.heap H locs → lv_has ls 7 [(0, .ref (a 0)), (2, .int i2), (5, .int i5)] → W p l e rm_X2_wages s m args below meth c H locs 0 0 (MQ below (va_Qi (fun (r : Int32) (u : V × VL) => Post r u.1 u.2) (fun (u : V × VL) t => WPos dC dI ct (MW a ct u.1 u.2) A t) A) args s 0 0 A) (F0 m 122 ls [.int is0, .int is1]) := by
  intro H locs ls hP hS hl
  have X0 := X
  obtain ⟨⟨hx, hb, hml, hr, hlk, hown, hts⟩, hA, hK, hN⟩ := X0
  unfold wp_X2_wages_L122 at w
  refine lv_iadd hx hb dX2_wages_122 ?_
  refine lv_istore (lv' := [(4, .int (is1 + is0)), (0, .ref (a 0)), (2, .int i2), (5, .int i5)]) hx hb dX2_wages_123 hl (by decide) rfl (fun ls hl => ?_)
  refine lv_iinc (v := (i5 + 1)) (lv' := [(5, .int (i5 + 1)), (4, .int (is1 + is0)), (0, .ref (a 0)), (2, .int i2)]) hx hb dX2_wages_125 hl (k := 3) rfl rfl (by decide) rfl (fun ls hl => ?_)
  refine lv_goto (tgt := 66) hx hb dX2_wages_128 (by decide) ?_
  exact hK66 _ _ _ _ _ w _ _ _ hP hS (lv_sub hl [2, 3, 1, 0] rfl)
set_option maxHeartbeats 4000000 in
set_option maxRecDepth 100000 in
theorem wk_X2_wages_L92 {p : Program} {l : Launch} {e : Env} {s : State} {m : MethodId} {args : Array Value} {below : List Frame} {meth : Method} {c : Code} {dC : Nat → ClassId} {dI : Nat → Nat → Nat} {ct : Nat → ClassId} {A : Nat → Prop} {a : Nat → Nat} {Post : Int32 → V → VL → Prop} {K66 : Int32 → Int32 → Int32 → V → VL → Prop}  (X : CxW p s m args meth c cX2_wages 7 (some .int) RX2 dC dI ct A) (hD : ∀ (z : V) (g : VL), va_D A (MW a ct z g)) (hK66 : ∀ (i2 : Int32) (i4 : Int32) (i5 : Int32) (z : V) (g : VL), K66 i2 i4 i5 z g → ∀ (H : Heap) (locs : List Loc) (ls : Array Slot), va_P (dC, dI) vwCl (MW a ct z g) H → va_S A s.heap H locs → lv_has ls 7 [(0, .ref (a 0)), (2, .int i2), (4, .int i4), (5, .int i5)] → W p l e rm_X2_wages s m args below meth c H locs 0 0 (MQ below (va_Qi (fun (r : Int32) (u : V × VL) => Post r u.1 u.2) (fun (u : V × VL) t => WPos dC dI ct (MW a ct u.1 u.2) A t) A) args s 0 0 A) (F0 m 66 ls [])) (i2 : Int32) (i4 : Int32) (i5 : Int32) (is0 : Int32) (z : V) (g : VL) (w : wp_X2_wages_L92  Post K66 i2 i4 i5 is0 z g) : ∀ (H : Heap) (locs : List Loc) (ls : Array Slot), va_P (dC, dI) vwCl (MW a ct z g) H → va_S A s.heap H locs → lv_has ls 7 [(0, .ref (a 0)), (2, .int i2), (4, .int i4), (5, .int i5)] → W p l e rm_X2_wages s m args below meth c H locs 0 0 (MQ below (va_Qi (fun (r : Int32) (u : V × VL) => Post r u.1 u.2) (fun (u : V × VL) t => WPos dC dI ct (MW a ct u.1 u.2) A t) A) args s 0 0 A) (F0 m 92 ls [.int is0]) := by
  intro H locs ls hP hS hl
  have X0 := X
  obtain ⟨⟨hx, hb, hml, hr, hlk, hown, hts⟩, hA, hK, hN⟩ := X0
  unfold wp_X2_wages_L92 at w
  refine lv_istore (lv' := [(6, .int is0), (0, .ref (a 0)), (2, .int i2), (4, .int i4), (5, .int i5)]) hx hb dX2_wages_92 hl (by decide) rfl (fun ls hl => ?_)
  refine lv_iload hx hb dX2_wages_94 (lv_at hl 3 rfl) ?_
  refine lv_aload_n hx hb dX2_wages_96 rfl (lv_at hl 1 rfl) ?_
  refine va_get (D := (dC, dI)) (ci := 2) (v := .ref (a 17)) (C := RX2) (T := TX2) (N := 34) hx hb hts in_X2 hown hK hP 0 rfl rfl 26 (by decide) (hts _ q484) (fun _ h9 => h9) rfl dX2_wages_97 ?_
  refine lv_iload hx hb dX2_wages_100 (lv_at hl 4 rfl) ?_
  obtain ⟨gi, w⟩ := w
  refine va_iald hx hb hK hP 17 0 rfl rfl gi dX2_wages_102 ?_
  refine lv_iload hx hb dX2_wages_103 (lv_at hl 0 rfl) ?_
  refine lv_icmp_le (tgt := 121) hx hb dX2_wages_105 (by decide) (fun c => ?_) (fun c => ?_)
  · have w := And.left w c
    refine lv_iconst (v := 0) hx hb dX2_wages_121 (by decide) ?_
    exact wk_X2_wages_L122 X hD hK66 _ _ _ _ _ _ w _ _ _ hP hS (lv_sub hl [1, 2, 4] rfl)
  · have w := And.right w c
    refine lv_aload_n hx hb dX2_wages_108 rfl (lv_at hl 1 rfl) ?_
    refine va_get (D := (dC, dI)) (ci := 2) (v := .ref (a 17)) (C := RX2) (T := TX2) (N := 34) hx hb hts in_X2 hown hK hP 0 rfl rfl 26 (by decide) (hts _ q484) (fun _ h9 => h9) rfl dX2_wages_109 ?_
    refine lv_iload hx hb dX2_wages_112 (lv_at hl 4 rfl) ?_
    obtain ⟨gi, w⟩ := w
    refine va_iald hx hb hK hP 17 0 rfl rfl gi dX2_wages_114 ?_
    refine lv_iload hx hb dX2_wages_115 (lv_at hl 0 rfl) ?_
    refine lv_isub hx hb dX2_wages_117 ?_
    refine lv_goto (tgt := 122) hx hb dX2_wages_118 (by decide) ?_
    exact wk_X2_wages_L122 X hD hK66 _ _ _ _ _ _ w _ _ _ hP hS (lv_sub hl [1, 2, 4] rfl)
set_option maxHeartbeats 4000000 in
set_option maxRecDepth 100000 in
theorem wk_X2_wages_S66 {p : Program} {l : Launch} {e : Env} {s : State} {m : MethodId} {args : Array Value} {below : List Frame} {meth : Method} {c : Code} {dC : Nat → ClassId} {dI : Nat → Nat → Nat} {ct : Nat → ClassId} {A : Nat → Prop} {a : Nat → Nat} {Post : Int32 → V → VL → Prop} {K66 : Int32 → Int32 → Int32 → V → VL → Prop}  (X : CxW p s m args meth c cX2_wages 7 (some .int) RX2 dC dI ct A) (hD : ∀ (z : V) (g : VL), va_D A (MW a ct z g)) (hK66 : ∀ (i2 : Int32) (i4 : Int32) (i5 : Int32) (z : V) (g : VL), K66 i2 i4 i5 z g → ∀ (H : Heap) (locs : List Loc) (ls : Array Slot), va_P (dC, dI) vwCl (MW a ct z g) H → va_S A s.heap H locs → lv_has ls 7 [(0, .ref (a 0)), (2, .int i2), (4, .int i4), (5, .int i5)] → W p l e rm_X2_wages s m args below meth c H locs 0 0 (MQ below (va_Qi (fun (r : Int32) (u : V × VL) => Post r u.1 u.2) (fun (u : V × VL) t => WPos dC dI ct (MW a ct u.1 u.2) A t) A) args s 0 0 A) (F0 m 66 ls [])) (i2 : Int32) (i4 : Int32) (i5 : Int32) (z : V) (g : VL) (w : wp_X2_wages_S66  Post K66 i2 i4 i5 z g) : ∀ (H : Heap) (locs : List Loc) (ls : Array Slot), va_P (dC, dI) vwCl (MW a ct z g) H → va_S A s.heap H locs → lv_has ls 7 [(0, .ref (a 0)), (2, .int i2), (4, .int i4), (5, .int i5)] → W p l e rm_X2_wages s m args below meth c H locs 0 0 (MQ below (va_Qi (fun (r : Int32) (u : V × VL) => Post r u.1 u.2) (fun (u : V × VL) t => WPos dC dI ct (MW a ct u.1 u.2) A t) A) args s 0 0 A) (F0 m 66 ls []) := by
  intro H locs ls hP hS hl
  have X0 := X
  obtain ⟨⟨hx, hb, hml, hr, hlk, hown, hts⟩, hA, hK, hN⟩ := X0
  unfold wp_X2_wages_S66 at w
  refine lv_iload hx hb dX2_wages_66 (lv_at hl 3 rfl) ?_
  refine lv_bipush (v := 9) hx hb dX2_wages_68 (by decide) ?_
  refine lv_icmp_ge (tgt := 131) hx hb dX2_wages_70 (by decide) (fun c => ?_) (fun c => ?_)
  · have w := And.left w c
    refine lv_iload hx hb dX2_wages_131 (lv_at hl 2 rfl) ?_
    exact W.iret (v := i4) hx hb hr (fun t ht hW => ⟨⟨i4, (z, g), rfl, w, by rw [ht]; exact hP, va_K.moved hW.alike hK, (hD _ _)⟩, hS.F ht⟩) hS.2.2 dX2_wages_133 hlk
  · have w := And.right w c
    refine lv_iload hx hb dX2_wages_73 (lv_at hl 3 rfl) ?_
    refine lv_iload_n hx hb dX2_wages_75 rfl (lv_at hl 1 rfl) ?_
    refine lv_icmp_ge (tgt := 83) hx hb dX2_wages_76 (by decide) (fun c => ?_) (fun c => ?_)
    · have w := And.left w c
      refine lv_aload_n hx hb dX2_wages_83 rfl (lv_at hl 0 rfl) ?_
      refine va_get (D := (dC, dI)) (ci := 2) (v := .ref (a 17)) (C := RX2) (T := TX2) (N := 34) hx hb hts in_X2 hown hK hP 0 rfl rfl 26 (by decide) (hts _ q484) (fun _ h9 => h9) rfl dX2_wages_84 ?_
      refine lv_iload hx hb dX2_wages_87 (lv_at hl 3 rfl) ?_
      refine lv_iload_n hx hb dX2_wages_89 rfl (lv_at hl 1 rfl) ?_
      refine lv_isub hx hb dX2_wages_90 ?_
      obtain ⟨gi, w⟩ := w
      refine va_iald hx hb hK hP 17 0 rfl rfl gi dX2_wages_91 ?_
      exact wk_X2_wages_L92 X hD hK66 _ _ _ _ _ _ w _ _ _ hP hS (lv_sub hl [0, 1, 2, 3] rfl)
    · have w := And.right w c
      refine lv_iconst (v := 0) hx hb dX2_wages_79 (by decide) ?_
      refine lv_goto (tgt := 92) hx hb dX2_wages_80 (by decide) ?_
      exact wk_X2_wages_L92 X hD hK66 _ _ _ _ _ _ w _ _ _ hP hS (lv_sub hl [0, 1, 2, 3] rfl)
set_option maxHeartbeats 4000000 in
set_option maxRecDepth 100000 in
theorem wk_X2_wages_L66 {p : Program} {l : Launch} {e : Env} {s : State} {m : MethodId} {args : Array Value} {below : List Frame} {meth : Method} {c : Code} {dC : Nat → ClassId} {dI : Nat → Nat → Nat} {ct : Nat → ClassId} {A : Nat → Prop} {a : Nat → Nat} {Post : Int32 → V → VL → Prop}   (X : CxW p s m args meth c cX2_wages 7 (some .int) RX2 dC dI ct A) (hD : ∀ (z : V) (g : VL), va_D A (MW a ct z g))  : ∀ (n : Nat) (i2 : Int32) (i4 : Int32) (i5 : Int32) (z : V) (g : VL), wp_X2_wages_L66  Post  n i2 i4 i5 z g → ∀ (H : Heap) (locs : List Loc) (ls : Array Slot), va_P (dC, dI) vwCl (MW a ct z g) H → va_S A s.heap H locs → lv_has ls 7 [(0, .ref (a 0)), (2, .int i2), (4, .int i4), (5, .int i5)] → W p l e rm_X2_wages s m args below meth c H locs 0 0 (MQ below (va_Qi (fun (r : Int32) (u : V × VL) => Post r u.1 u.2) (fun (u : V × VL) t => WPos dC dI ct (MW a ct u.1 u.2) A t) A) args s 0 0 A) (F0 m 66 ls []) := by
  intro n
  induction n with
  | zero => intro i2 i4 i5 z g w; exact False.elim w
  | succ n ih => intro i2 i4 i5 z g w H locs ls hP hS hl; exact wk_X2_wages_S66 X hD  ih i2 i4 i5 z g w H locs ls hP hS hl
set_option maxHeartbeats 4000000 in
set_option maxRecDepth 100000 in
theorem wk_X2_wages_S33 {p : Program} {l : Launch} {e : Env} {s : State} {m : MethodId} {args : Array Value} {below : List Frame} {meth : Method} {c : Code} {dC : Nat → ClassId} {dI : Nat → Nat → Nat} {ct : Nat → ClassId} {A : Nat → Prop} {a : Nat → Nat} {Post : Int32 → V → VL → Prop} {K33 : Int32 → Int32 → Int32 → V → VL → Prop}  (X : CxW p s m args meth c cX2_wages 7 (some .int) RX2 dC dI ct A) (hD : ∀ (z : V) (g : VL), va_D A (MW a ct z g)) (hK33 : ∀ (i2 : Int32) (i3 : Int32) (i4 : Int32) (z : V) (g : VL), K33 i2 i3 i4 z g → ∀ (H : Heap) (locs : List Loc) (ls : Array Slot), va_P (dC, dI) vwCl (MW a ct z g) H → va_S A s.heap H locs → lv_has ls 7 [(0, .ref (a 0)), (2, .int i2), (3, .int i3), (4, .int i4)] → W p l e rm_X2_wages s m args below meth c H locs 0 0 (MQ below (va_Qi (fun (r : Int32) (u : V × VL) => Post r u.1 u.2) (fun (u : V × VL) t => WPos dC dI ct (MW a ct u.1 u.2) A t) A) args s 0 0 A) (F0 m 33 ls [])) (i2 : Int32) (i3 : Int32) (i4 : Int32) (z : V) (g : VL) (w : wp_X2_wages_S33  Post K33 i2 i3 i4 z g) : ∀ (H : Heap) (locs : List Loc) (ls : Array Slot), va_P (dC, dI) vwCl (MW a ct z g) H → va_S A s.heap H locs → lv_has ls 7 [(0, .ref (a 0)), (2, .int i2), (3, .int i3), (4, .int i4)] → W p l e rm_X2_wages s m args below meth c H locs 0 0 (MQ below (va_Qi (fun (r : Int32) (u : V × VL) => Post r u.1 u.2) (fun (u : V × VL) t => WPos dC dI ct (MW a ct u.1 u.2) A t) A) args s 0 0 A) (F0 m 33 ls []) := by
  intro H locs ls hP hS hl
  have X0 := X
  obtain ⟨⟨hx, hb, hml, hr, hlk, hown, hts⟩, hA, hK, hN⟩ := X0
  unfold wp_X2_wages_S33 at w
  refine lv_iload hx hb dX2_wages_33 (lv_at hl 3 rfl) ?_
  refine lv_if_lt (tgt := 60) hx hb dX2_wages_35 (by decide) (fun c => ?_) (fun c => ?_)
  · have w := And.left w c
    refine lv_iconst (v := 0) hx hb dX2_wages_60 (by decide) ?_
    refine lv_istore (lv' := [(4, .int (0 : Int32)), (0, .ref (a 0)), (2, .int i2), (3, .int i3)]) hx hb dX2_wages_61 hl (by decide) rfl (fun ls hl => ?_)
    refine lv_iconst (v := 0) hx hb dX2_wages_63 (by decide) ?_
    refine lv_istore (lv' := [(5, .int (0 : Int32)), (4, .int (0 : Int32)), (0, .ref (a 0)), (2, .int i2), (3, .int i3)]) hx hb dX2_wages_64 hl (by decide) rfl (fun ls hl => ?_)
    obtain ⟨n, w⟩ := w
    exact wk_X2_wages_L66 X hD  n _ _ _ _ _ w _ _ _ hP hS (lv_sub hl [2, 3, 1, 0] rfl)
  · have w := And.right w c
    refine lv_aload_n hx hb dX2_wages_38 rfl (lv_at hl 0 rfl) ?_
    refine va_get (D := (dC, dI)) (ci := 2) (v := .ref (a 17)) (C := RX2) (T := TX2) (N := 34) hx hb hts in_X2 hown hK hP 0 rfl rfl 26 (by decide) (hts _ q484) (fun _ h9 => h9) rfl dX2_wages_39 ?_
    refine lv_iload hx hb dX2_wages_42 (lv_at hl 3 rfl) ?_
    refine lv_iload_n hx hb dX2_wages_44 rfl (lv_at hl 2 rfl) ?_
    refine lv_bipush (v := 10) hx hb dX2_wages_45 (by decide) ?_
    refine lv_irem hx hb dX2_wages_47 (by decide) ?_
    obtain ⟨gi, w⟩ := w
    refine va_iast hx hb hK hP (hD _ _) hS 17 0 rfl rfl gi dX2_wages_48 (fun H locs hP _ hS => ?_)
    have hP : va_P (dC, dI) vwCl (MW a ct (up2 z 16 i4.toNatClampNeg (i3 - i3 / (10 : Int32) * (10 : Int32))) g) H := MW_u_z_16 hP
    refine lv_iload_n hx hb dX2_wages_49 rfl (lv_at hl 2 rfl) ?_
    refine lv_bipush (v := 10) hx hb dX2_wages_50 (by decide) ?_
    refine lv_idiv hx hb dX2_wages_52 (by decide) ?_
    refine lv_istore_n (lv' := [(3, .int (i3 / (10 : Int32))), (0, .ref (a 0)), (2, .int i2), (4, .int i4)]) hx hb dX2_wages_53 rfl hl (by decide) rfl (fun ls hl => ?_)
    refine lv_iinc (v := (i4 + (-1))) (lv' := [(4, .int (i4 + (-1))), (3, .int (i3 / (10 : Int32))), (0, .ref (a 0)), (2, .int i2)]) hx hb dX2_wages_54 hl (k := 3) rfl rfl (by decide) rfl (fun ls hl => ?_)
    refine lv_goto (tgt := 33) hx hb dX2_wages_57 (by decide) ?_
    exact hK33 _ _ _ _ _ w _ _ _ hP hS (lv_sub hl [2, 3, 1, 0] rfl)
set_option maxHeartbeats 4000000 in
set_option maxRecDepth 100000 in
theorem wk_X2_wages_L33 {p : Program} {l : Launch} {e : Env} {s : State} {m : MethodId} {args : Array Value} {below : List Frame} {meth : Method} {c : Code} {dC : Nat → ClassId} {dI : Nat → Nat → Nat} {ct : Nat → ClassId} {A : Nat → Prop} {a : Nat → Nat} {Post : Int32 → V → VL → Prop}   (X : CxW p s m args meth c cX2_wages 7 (some .int) RX2 dC dI ct A) (hD : ∀ (z : V) (g : VL), va_D A (MW a ct z g))  : ∀ (n : Nat) (i2 : Int32) (i3 : Int32) (i4 : Int32) (z : V) (g : VL), wp_X2_wages_L33  Post  n i2 i3 i4 z g → ∀ (H : Heap) (locs : List Loc) (ls : Array Slot), va_P (dC, dI) vwCl (MW a ct z g) H → va_S A s.heap H locs → lv_has ls 7 [(0, .ref (a 0)), (2, .int i2), (3, .int i3), (4, .int i4)] → W p l e rm_X2_wages s m args below meth c H locs 0 0 (MQ below (va_Qi (fun (r : Int32) (u : V × VL) => Post r u.1 u.2) (fun (u : V × VL) t => WPos dC dI ct (MW a ct u.1 u.2) A t) A) args s 0 0 A) (F0 m 33 ls []) := by
  intro n
  induction n with
  | zero => intro i2 i3 i4 z g w; exact False.elim w
  | succ n ih => intro i2 i3 i4 z g w H locs ls hP hS hl; exact wk_X2_wages_S33 X hD  ih i2 i3 i4 z g w H locs ls hP hS hl
set_option maxHeartbeats 4000000 in
set_option maxRecDepth 100000 in
theorem met_X2_wages (l : Launch) (dC : Nat → ClassId) (dI : Nat → Nat → Nat) (ct : Nat → ClassId) (a : Nat → Nat) (sz : Nat) {i1 : Int32} {i2 : Int32} {z : V} {g : VL} {Post : Int32 → V → VL → Prop} (w : wp_X2_wages i1 i2 z g Post) : Met l yX2_wages (ws_ yX2_wages cX2_wages 7 (some .int)) rm_X2_wages (va_Pc [.ref (a 0), .int i1, .int i2] (fun U => WPre dC dI ct (MW a ct z g) sz U)) ((fun A => (va_Qi (fun (r : Int32) (u : V × VL) => Post r u.1 u.2) (fun (u : V × VL) t => WPos dC dI ct (MW a ct u.1 u.2) A t) A)) (va_A (MW a ct z g) sz)) 0 0 (va_A (MW a ct z g) sz) := by
  refine open_W (fun A => (va_Qi (fun (r : Int32) (u : V × VL) => Post r u.1 u.2) (fun (u : V × VL) t => WPos dC dI ct (MW a ct u.1 u.2) A t) A)) (by decide) (Nat.le_of_ble_eq_true rfl) ?_
  intro p e s m args below meth c ls A X hD0 hP hS hl
  have X0 := X
  obtain ⟨⟨hx, hb, hml, hr, hlk, hown, hts⟩, hA, hK, hN⟩ := X0
  have hD : ∀ (z' : V) (g' : VL), va_D A (MW a ct z' g') := fun z' g' => va_D_addr hD0 rfl
  have hl : lv_has ls 7 [(0, .ref (a 0)), (1, .int i1), (2, .int i2)] := hl
  unfold wp_X2_wages at w
  have hS0 := hS
  refine lv_iload_n hx hb dX2_wages_0 rfl (lv_at hl 1 rfl) ?_
  refine lv_i2l hx hb dX2_wages_1 rfl ?_
  refine lv_lconst (v := 0) hx hb dX2_wages_2 (by decide) ?_
  refine lv_ldc2 (v := 999999999) hx hb hown (hts _ q777) dX2_wages_3 ?_
  refine vp_callSi (W.runS (As := [.long i1.toInt64, .long (0 : Int64), .long (999999999 : Int64)]) (rest := []) ⟨hx, hb, hml, hown, hts⟩ (met_X2_in l w) (va_cwS 3 hts (lw_S q570 q571 q51 q572) rfl rfl rfl hd_X2_in ⟨Nat.le_of_ble_eq_true rfl, Nat.le_of_ble_eq_true rfl⟩) pre_S rfl rfl hl.1 rfl (lv_room (Nat.le_of_ble_eq_true rfl)) dX2_wages_6 ⟨Nat.le_refl _, Nat.le_refl _⟩) (fun r1 w => ?_)
  refine lv_if_eq (tgt := 24) hx hb dX2_wages_9 (by decide) (fun c => ?_) (fun c => ?_)
  · have w := And.left w c
    exact wk_X2_wages_L24 X hD  _ _ w _ _ _ hP hS (lv_sub hl [] rfl)
  · have w := And.right w c
    refine lv_iload_n hx hb dX2_wages_12 rfl (lv_at hl 2 rfl) ?_
    refine lv_i2l hx hb dX2_wages_13 rfl ?_
    refine lv_lconst (v := 0) hx hb dX2_wages_14 (by decide) ?_
    refine lv_ldc2 (v := 8) hx hb hown (hts _ q778) dX2_wages_15 ?_
    refine vp_callSi (W.runS (As := [.long i2.toInt64, .long (0 : Int64), .long (8 : Int64)]) (rest := []) ⟨hx, hb, hml, hown, hts⟩ (met_X2_in l w) (va_cwS 3 hts (lw_S q570 q571 q51 q572) rfl rfl rfl hd_X2_in ⟨Nat.le_of_ble_eq_true rfl, Nat.le_of_ble_eq_true rfl⟩) pre_S rfl rfl hl.1 rfl (lv_room (Nat.le_of_ble_eq_true rfl)) dX2_wages_18 ⟨Nat.le_refl _, Nat.le_refl _⟩) (fun r2 w => ?_)
    refine lv_if_ne (tgt := 27) hx hb dX2_wages_21 (by decide) (fun c => ?_) (fun c => ?_)
    · have w := And.right w c
      refine lv_iload_n hx hb dX2_wages_27 rfl (lv_at hl 1 rfl) ?_
      refine lv_istore_n (lv' := [(3, .int i1), (0, .ref (a 0)), (1, .int i1), (2, .int i2)]) hx hb dX2_wages_28 rfl hl (by decide) rfl (fun ls hl => ?_)
      refine lv_bipush (v := 8) hx hb dX2_wages_29 (by decide) ?_
      refine lv_istore (lv' := [(4, .int (8 : Int32)), (3, .int i1), (0, .ref (a 0)), (1, .int i1), (2, .int i2)]) hx hb dX2_wages_31 hl (by decide) rfl (fun ls hl => ?_)
      obtain ⟨n, w⟩ := w
      exact wk_X2_wages_L33 X hD  n _ _ _ _ _ w _ _ _ hP hS (lv_sub hl [2, 4, 1, 0] rfl)
    · have w := And.left w c
      exact wk_X2_wages_L24 X hD  _ _ w _ _ _ hP hS (lv_sub hl [] rfl)
abbrev rm_X2_change : Room := { frames := 1, cells := 0, slots := 0, locals := 30 }
theorem hd_X2_change : yX2_change.cls = RX2 ∧ yX2_change.cls ≠ "java/lang/invoke/MethodHandle" ∧ yX2_change.cls ≠ "java/lang/invoke/VarHandle" ∧ (parseMethodDescriptor yX2_change.desc).map (fun d => d.parameters.length) = some 5 := by decide +kernel
set_option maxHeartbeats 4000000 in
set_option maxRecDepth 100000 in
theorem wk_X2_change_L58 {p : Program} {l : Launch} {e : Env} {s : State} {m : MethodId} {args : Array Value} {below : List Frame} {meth : Method} {c : Code} {dC : Nat → ClassId} {dI : Nat → Nat → Nat} {ct : Nat → ClassId} {A : Nat → Prop} {a : Nat → Nat} {Post : Int64 → V → VL → Prop}   (X : CxW p s m args meth c cX2_change 13 (some .long) RX2 dC dI ct A) (hD : ∀ (z : V) (g : VL), va_D A (MW a ct z g))  (z : V) (g : VL) (w : wp_X2_change_L58  Post  z g) : ∀ (H : Heap) (locs : List Loc) (ls : Array Slot), va_P (dC, dI) vwCl (MW a ct z g) H → va_S A s.heap H locs → lv_has ls 13 [] → W p l e rm_X2_change s m args below meth c H locs 0 0 (MQ below (va_Ql (fun (r : Int64) (u : V × VL) => Post r u.1 u.2) (fun (u : V × VL) t => WPos dC dI ct (MW a ct u.1 u.2) A t) A) args s 0 0 A) (F0 m 58 ls []) := by
  intro H locs ls hP hS hl
  have X0 := X
  obtain ⟨⟨hx, hb, hml, hr, hlk, hown, hts⟩, hA, hK, hN⟩ := X0
  unfold wp_X2_change_L58 at w
  refine lv_ldc2 (v := -1000000000000000002) hx hb hown (hts _ q785) dX2_change_58 ?_
  exact W.lret (v := (-1000000000000000002 : Int64)) hx hb hr (fun t ht hW => ⟨⟨(-1000000000000000002 : Int64), (z, g), rfl, w, by rw [ht]; exact hP, va_K.moved hW.alike hK, (hD _ _)⟩, hS.F ht⟩) hS.2.2 dX2_change_61 hlk
set_option maxHeartbeats 4000000 in
set_option maxRecDepth 100000 in
theorem wk_X2_change_L224 {p : Program} {l : Launch} {e : Env} {s : State} {m : MethodId} {args : Array Value} {below : List Frame} {meth : Method} {c : Code} {dC : Nat → ClassId} {dI : Nat → Nat → Nat} {ct : Nat → ClassId} {A : Nat → Prop} {a : Nat → Nat} {Post : Int64 → V → VL → Prop} {K97 : Int32 → Int32 → Int32 → Int32 → Int32 → Int64 → Int32 → Int32 → V → VL → Prop} {K114 : Int32 → Int32 → Int32 → Int32 → Int32 → Int64 → Int32 → Int32 → Int32 → V → VL → Prop}  (X : CxW p s m args meth c cX2_change 13 (some .long) RX2 dC dI ct A) (hD : ∀ (z : V) (g : VL), va_D A (MW a ct z g)) (hK97 : ∀ (i1 : Int32) (i2 : Int32) (i3 : Int32) (i4 : Int32) (i5 : Int32) (l6 : Int64) (i8 : Int32) (i9 : Int32) (z : V) (g : VL), K97 i1 i2 i3 i4 i5 l6 i8 i9 z g → ∀ (H : Heap) (locs : List Loc) (ls : Array Slot), va_P (dC, dI) vwCl (MW a ct z g) H → va_S A s.heap H locs → lv_has ls 13 [(0, .ref (a 0)), (1, .int i1), (2, .int i2), (3, .int i3), (4, .int i4), (5, .int i5), (6, .long l6), (8, .int i8), (9, .int i9)] → W p l e rm_X2_change s m args below meth c H locs 0 0 (MQ below (va_Ql (fun (r : Int64) (u : V × VL) => Post r u.1 u.2) (fun (u : V × VL) t => WPos dC dI ct (MW a ct u.1 u.2) A t) A) args s 0 0 A) (F0 m 97 ls [])) (hK114 : ∀ (i1 : Int32) (i2 : Int32) (i3 : Int32) (i4 : Int32) (i5 : Int32) (l6 : Int64) (i8 : Int32) (i9 : Int32) (i10 : Int32) (z : V) (g : VL), K114 i1 i2 i3 i4 i5 l6 i8 i9 i10 z g → ∀ (H : Heap) (locs : List Loc) (ls : Array Slot), va_P (dC, dI) vwCl (MW a ct z g) H → va_S A s.heap H locs → lv_has ls 13 [(0, .ref (a 0)), (1, .int i1), (2, .int i2), (3, .int i3), (4, .int i4), (5, .int i5), (6, .long l6), (8, .int i8), (9, .int i9), (10, .int i10)] → W p l e rm_X2_change s m args below meth c H locs 0 0 (MQ below (va_Ql (fun (r : Int64) (u : V × VL) => Post r u.1 u.2) (fun (u : V × VL) t => WPos dC dI ct (MW a ct u.1 u.2) A t) A) args s 0 0 A) (F0 m 114 ls [])) (i1 : Int32) (i2 : Int32) (i3 : Int32) (i4 : Int32) (i5 : Int32) (l6 : Int64) (i8 : Int32) (i9 : Int32) (i10 : Int32) (ls0 : Int64) (is1 : Int32) (z : V) (g : VL) (w : wp_X2_change_L224  Post K97 K114 i1 i2 i3 i4 i5 l6 i8 i9 i10 ls0 is1 z g) : ∀ (H : Heap) (locs : List Loc) (ls : Array Slot), va_P (dC, dI) vwCl (MW a ct z g) H → va_S A s.heap H locs → lv_has ls 13 [(0, .ref (a 0)), (1, .int i1), (2, .int i2), (3, .int i3), (4, .int i4), (5, .int i5), (6, .long l6), (8, .int i8), (9, .int i9), (10, .int i10)] → W p l e rm_X2_change s m args below meth c H locs 0 0 (MQ below (va_Ql (fun (r : Int64) (u : V × VL) => Post r u.1 u.2) (fun (u : V × VL) t => WPos dC dI ct (MW a ct u.1 u.2) A t) A) args s 0 0 A) (F0 m 224 ls [.long ls0, .int is1, .ref (a 21)]) := by
  intro H locs ls hP hS hl
  have X0 := X
  obtain ⟨⟨hx, hb, hml, hr, hlk, hown, hts⟩, hA, hK, hN⟩ := X0
  unfold wp_X2_change_L224 at w
  obtain ⟨gi, w⟩ := w
  refine va_last hx hb hK hP (hD _ _) hS 21 1 rfl rfl gi dX2_change_224 (fun H locs hP _ hS => ?_)
  have hP : va_P (dC, dI) vwCl (MW a ct z (upL2 g 1 is1.toNatClampNeg ls0)) H := MW_u_g_1 hP
  refine lv_iinc (v := (i10 + 1)) (lv' := [(10, .int (i10 + 1)), (0, .ref (a 0)), (1, .int i1), (2, .int i2), (3, .int i3), (4, .int i4), (5, .int i5), (6, .long l6), (8, .int i8), (9, .int i9)]) hx hb dX2_change_225 hl (k := 9) rfl rfl (by decide) rfl (fun ls hl => ?_)
  refine lv_goto (tgt := 114) hx hb dX2_change_228 (by decide) ?_
  exact hK114 _ _ _ _ _ _ _ _ _ _ _ w _ _ _ hP hS (lv_sub hl [1, 2, 3, 4, 5, 6, 7, 8, 9, 0] rfl)
set_option maxHeartbeats 4000000 in
set_option maxRecDepth 100000 in
theorem wk_X2_change_L193 {p : Program} {l : Launch} {e : Env} {s : State} {m : MethodId} {args : Array Value} {below : List Frame} {meth : Method} {c : Code} {dC : Nat → ClassId} {dI : Nat → Nat → Nat} {ct : Nat → ClassId} {A : Nat → Prop} {a : Nat → Nat} {Post : Int64 → V → VL → Prop} {K97 : Int32 → Int32 → Int32 → Int32 → Int32 → Int64 → Int32 → Int32 → V → VL → Prop} {K114 : Int32 → Int32 → Int32 → Int32 → Int32 → Int64 → Int32 → Int32 → Int32 → V → VL → Prop}  (X : CxW p s m args meth c cX2_change 13 (some .long) RX2 dC dI ct A) (hD : ∀ (z : V) (g : VL), va_D A (MW a ct z g)) (hK97 : ∀ (i1 : Int32) (i2 : Int32) (i3 : Int32) (i4 : Int32) (i5 : Int32) (l6 : Int64) (i8 : Int32) (i9 : Int32) (z : V) (g : VL), K97 i1 i2 i3 i4 i5 l6 i8 i9 z g → ∀ (H : Heap) (locs : List Loc) (ls : Array Slot), va_P (dC, dI) vwCl (MW a ct z g) H → va_S A s.heap H locs → lv_has ls 13 [(0, .ref (a 0)), (1, .int i1), (2, .int i2), (3, .int i3), (4, .int i4), (5, .int i5), (6, .long l6), (8, .int i8), (9, .int i9)] → W p l e rm_X2_change s m args below meth c H locs 0 0 (MQ below (va_Ql (fun (r : Int64) (u : V × VL) => Post r u.1 u.2) (fun (u : V × VL) t => WPos dC dI ct (MW a ct u.1 u.2) A t) A) args s 0 0 A) (F0 m 97 ls [])) (hK114 : ∀ (i1 : Int32) (i2 : Int32) (i3 : Int32) (i4 : Int32) (i5 : Int32) (l6 : Int64) (i8 : Int32) (i9 : Int32) (i10 : Int32) (z : V) (g : VL), K114 i1 i2 i3 i4 i5 l6 i8 i9 i10 z g → ∀ (H : Heap) (locs : List Loc) (ls : Array Slot), va_P (dC, dI) vwCl (MW a ct z g) H → va_S A s.heap H locs → lv_has ls 13 [(0, .ref (a 0)), (1, .int i1), (2, .int i2), (3, .int i3), (4, .int i4), (5, .int i5), (6, .long l6), (8, .int i8), (9, .int i9), (10, .int i10)] → W p l e rm_X2_change s m args below meth c H locs 0 0 (MQ below (va_Ql (fun (r : Int64) (u : V × VL) => Post r u.1 u.2) (fun (u : V × VL) t => WPos dC dI ct (MW a ct u.1 u.2) A t) A) args s 0 0 A) (F0 m 114 ls [])) (i1 : Int32) (i2 : Int32) (i3 : Int32) (i4 : Int32) (i5 : Int32) (l6 : Int64) (i9 : Int32) (i10 : Int32) (l11 : Int64) (is0 : Int32) (z : V) (g : VL) (w : wp_X2_change_L193  Post K97 K114 i1 i2 i3 i4 i5 l6 i9 i10 l11 is0 z g) : ∀ (H : Heap) (locs : List Loc) (ls : Array Slot), va_P (dC, dI) vwCl (MW a ct z g) H → va_S A s.heap H locs → lv_has ls 13 [(0, .ref (a 0)), (1, .int i1), (2, .int i2), (3, .int i3), (4, .int i4), (5, .int i5), (6, .long l6), (9, .int i9), (10, .int i10), (11, .long l11)] → W p l e rm_X2_change s m args below meth c H locs 0 0 (MQ below (va_Ql (fun (r : Int64) (u : V × VL) => Post r u.1 u.2) (fun (u : V × VL) t => WPos dC dI ct (MW a ct u.1 u.2) A t) A) args s 0 0 A) (F0 m 193 ls [.int is0]) := by
  intro H locs ls hP hS hl
  have X0 := X
  obtain ⟨⟨hx, hb, hml, hr, hlk, hown, hts⟩, hA, hK, hN⟩ := X0
  unfold wp_X2_change_L193 at w
  refine lv_istore (lv' := [(8, .int is0), (0, .ref (a 0)), (1, .int i1), (2, .int i2), (3, .int i3), (4, .int i4), (5, .int i5), (6, .long l6), (9, .int i9), (10, .int i10), (11, .long l11)]) hx hb dX2_change_193 hl (by decide) rfl (fun ls hl => ?_)
  refine lv_aload_n hx hb dX2_change_195 rfl (lv_at hl 1 rfl) ?_
  refine va_get (D := (dC, dI)) (ci := 2) (v := .ref (a 21)) (C := RX2) (T := TX2) (N := 34) hx hb hts in_X2 hown hK hP 0 rfl rfl 28 (by decide) (hts _ q486) (fun _ h9 => h9) rfl dX2_change_196 ?_
  refine lv_iload hx hb dX2_change_199 (lv_at hl 9 rfl) ?_
  refine lv_iload hx hb dX2_change_201 (lv_at hl 9 rfl) ?_
  refine lv_i2l hx hb dX2_change_203 rfl ?_
  refine lv_lload hx hb dX2_change_204 (lv_at hl 7 rfl) ?_
  refine lv_lmul hx hb dX2_change_206 ?_
  refine lv_lload hx hb dX2_change_207 (lv_at hl 10 rfl) ?_
  refine W.lcmp hx hb dX2_change_209 ?_
  refine lv_if_lt (tgt := 222) hx hb dX2_change_210 (by decide) (fun c => ?_) (fun c => ?_)
  · have w := And.left w c
    refine lv_lload hx hb dX2_change_222 (lv_at hl 10 rfl) ?_
    exact wk_X2_change_L224 X hD hK97 hK114 _ _ _ _ _ _ _ _ _ _ _ _ _ w _ _ _ hP hS (lv_sub hl [1, 2, 3, 4, 5, 6, 7, 0, 8, 9] rfl)
  · have w := And.right w c
    refine lv_iload hx hb dX2_change_213 (lv_at hl 9 rfl) ?_
    refine lv_i2l hx hb dX2_change_215 rfl ?_
    refine lv_lload hx hb dX2_change_216 (lv_at hl 7 rfl) ?_
    refine lv_lmul hx hb dX2_change_218 ?_
    refine lv_goto (tgt := 224) hx hb dX2_change_219 (by decide) ?_
    exact wk_X2_change_L224 X hD hK97 hK114 _ _ _ _ _ _ _ _ _ _ _ _ _ w _ _ _ hP hS (lv_sub hl [1, 2, 3, 4, 5, 6, 7, 0, 8, 9] rfl)
set_option maxHeartbeats 4000000 in
set_option maxRecDepth 100000 in
theorem wk_X2_change_L144 {p : Program} {l : Launch} {e : Env} {s : State} {m : MethodId} {args : Array Value} {below : List Frame} {meth : Method} {c : Code} {dC : Nat → ClassId} {dI : Nat → Nat → Nat} {ct : Nat → ClassId} {A : Nat → Prop} {a : Nat → Nat} {Post : Int64 → V → VL → Prop} {K97 : Int32 → Int32 → Int32 → Int32 → Int32 → Int64 → Int32 → Int32 → V → VL → Prop} {K114 : Int32 → Int32 → Int32 → Int32 → Int32 → Int64 → Int32 → Int32 → Int32 → V → VL → Prop}  (X : CxW p s m args meth c cX2_change 13 (some .long) RX2 dC dI ct A) (hD : ∀ (z : V) (g : VL), va_D A (MW a ct z g)) (hK97 : ∀ (i1 : Int32) (i2 : Int32) (i3 : Int32) (i4 : Int32) (i5 : Int32) (l6 : Int64) (i8 : Int32) (i9 : Int32) (z : V) (g : VL), K97 i1 i2 i3 i4 i5 l6 i8 i9 z g → ∀ (H : Heap) (locs : List Loc) (ls : Array Slot), va_P (dC, dI) vwCl (MW a ct z g) H → va_S A s.heap H locs → lv_has ls 13 [(0, .ref (a 0)), (1, .int i1), (2, .int i2), (3, .int i3), (4, .int i4), (5, .int i5), (6, .long l6), (8, .int i8), (9, .int i9)] → W p l e rm_X2_change s m args below meth c H locs 0 0 (MQ below (va_Ql (fun (r : Int64) (u : V × VL) => Post r u.1 u.2) (fun (u : V × VL) t => WPos dC dI ct (MW a ct u.1 u.2) A t) A) args s 0 0 A) (F0 m 97 ls [])) (hK114 : ∀ (i1 : Int32) (i2 : Int32) (i3 : Int32) (i4 : Int32) (i5 : Int32) (l6 : Int64) (i8 : Int32) (i9 : Int32) (i10 : Int32) (z : V) (g : VL), K114 i1 i2 i3 i4 i5 l6 i8 i9 i10 z g → ∀ (H : Heap) (locs : List Loc) (ls : Array Slot), va_P (dC, dI) vwCl (MW a ct z g) H → va_S A s.heap H locs → lv_has ls 13 [(0, .ref (a 0)), (1, .int i1), (2, .int i2), (3, .int i3), (4, .int i4), (5, .int i5), (6, .long l6), (8, .int i8), (9, .int i9), (10, .int i10)] → W p l e rm_X2_change s m args below meth c H locs 0 0 (MQ below (va_Ql (fun (r : Int64) (u : V × VL) => Post r u.1 u.2) (fun (u : V × VL) t => WPos dC dI ct (MW a ct u.1 u.2) A t) A) args s 0 0 A) (F0 m 114 ls [])) (i1 : Int32) (i2 : Int32) (i3 : Int32) (i4 : Int32) (i5 : Int32) (l6 : Int64) (i8 : Int32) (i9 : Int32) (i10 : Int32) (is0 : Int32) (ls2 : Int64) (z : V) (g : VL) (w : wp_X2_change_L144  Post K97 K114 i1 i2 i3 i4 i5 l6 i8 i9 i10 is0 ls2 z g) : ∀ (H : Heap) (locs : List Loc) (ls : Array Slot), va_P (dC, dI) vwCl (MW a ct z g) H → va_S A s.heap H locs → lv_has ls 13 [(0, .ref (a 0)), (1, .int i1), (2, .int i2), (3, .int i3), (4, .int i4), (5, .int i5), (6, .long l6), (8, .int i8), (9, .int i9), (10, .int i10)] → W p l e rm_X2_change s m args below meth c H locs 0 0 (MQ below (va_Ql (fun (r : Int64) (u : V × VL) => Post r u.1 u.2) (fun (u : V × VL) t => WPos dC dI ct (MW a ct u.1 u.2) A t) A) args s 0 0 A) (F0 m 144 ls [.int is0, .ref (a 20), .long ls2]) := by
  intro H locs ls hP hS hl
  have X0 := X
  obtain ⟨⟨hx, hb, hml, hr, hlk, hown, hts⟩, hA, hK, hN⟩ := X0
  unfold wp_X2_change_L144 at w
  obtain ⟨gi, w⟩ := w
  refine va_lald hx hb hK hP 20 1 rfl rfl gi dX2_change_144 ?_
  refine lv_lmul hx hb dX2_change_145 ?_
  refine lv_ldc2 (v := 10) hx hb hown (hts _ q784) dX2_change_146 ?_
  refine lv_iload_n hx hb dX2_change_149 rfl (lv_at hl 3 rfl) ?_
  refine lv_i2l hx hb dX2_change_150 rfl ?_
  refine lv_lsub hx hb dX2_change_151 ?_
  refine lv_aload_n hx hb dX2_change_152 rfl (lv_at hl 0 rfl) ?_
  refine va_get (D := (dC, dI)) (ci := 2) (v := .ref (a 20)) (C := RX2) (T := TX2) (N := 34) hx hb hts in_X2 hown hK hP 0 rfl rfl 27 (by decide) (hts _ q485) (fun _ h9 => h9) rfl dX2_change_153 ?_
  refine lv_iload hx hb dX2_change_156 (lv_at hl 9 rfl) ?_
  refine lv_iconst (v := 1) hx hb dX2_change_158 (by decide) ?_
  refine lv_iadd hx hb dX2_change_159 ?_
  obtain ⟨gi, w⟩ := w
  refine va_lald hx hb hK hP 20 1 rfl rfl gi dX2_change_160 ?_
  refine lv_lmul hx hb dX2_change_161 ?_
  refine lv_ladd hx hb dX2_change_162 ?_
  refine lv_topl (fun n1 en1 => ?_)
  have w := w n1 en1
  refine lv_lstore (lv' := [(11, .long n1), (0, .ref (a 0)), (1, .int i1), (2, .int i2), (3, .int i3), (4, .int i4), (5, .int i5), (6, .long l6), (8, .int i8), (9, .int i9), (10, .int i10)]) hx hb dX2_change_163 hl (by decide) rfl (fun ls hl => ?_)
  refine lv_iload hx hb dX2_change_165 (lv_at hl 10 rfl) ?_
  refine lv_iload_n hx hb dX2_change_167 rfl (lv_at hl 2 rfl) ?_
  refine lv_icmp_ne (tgt := 191) hx hb dX2_change_168 (by decide) (fun c => ?_) (fun c => ?_)
  · have w := And.right w c
    refine lv_iload hx hb dX2_change_191 (lv_at hl 8 rfl) ?_
    exact wk_X2_change_L193 X hD hK97 hK114 _ _ _ _ _ _ _ _ _ _ _ _ w _ _ _ hP hS (lv_sub hl [1, 2, 3, 4, 5, 6, 7, 9, 10, 0] rfl)
  · have w := And.left w c
    refine lv_iload hx hb dX2_change_171 (lv_at hl 10 rfl) ?_
    refine lv_i2l hx hb dX2_change_173 rfl ?_
    refine lv_lload hx hb dX2_change_174 (lv_at hl 7 rfl) ?_
    refine lv_lmul hx hb dX2_change_176 ?_
    refine lv_lload hx hb dX2_change_177 (lv_at hl 0 rfl) ?_
    refine W.lcmp hx hb dX2_change_179 ?_
    refine lv_if_lt (tgt := 187) hx hb dX2_change_180 (by decide) (fun c => ?_) (fun c => ?_)
    · have w := And.left w c
      refine lv_iconst (v := 0) hx hb dX2_change_187 (by decide) ?_
      refine lv_goto (tgt := 193) hx hb dX2_change_188 (by decide) ?_
      exact wk_X2_change_L193 X hD hK97 hK114 _ _ _ _ _ _ _ _ _ _ _ _ w _ _ _ hP hS (lv_sub hl [1, 2, 3, 4, 5, 6, 7, 9, 10, 0] rfl)
    · have w := And.right w c
      refine lv_iconst (v := 1) hx hb dX2_change_183 (by decide) ?_
      refine lv_goto (tgt := 193) hx hb dX2_change_184 (by decide) ?_
      exact wk_X2_change_L193 X hD hK97 hK114 _ _ _ _ _ _ _ _ _ _ _ _ w _ _ _ hP hS (lv_sub hl [1, 2, 3, 4, 5, 6, 7, 9, 10, 0] rfl)
set_option maxHeartbeats 4000000 in
set_option maxRecDepth 100000 in
theorem wk_X2_change_S234 {p : Program} {l : Launch} {e : Env} {s : State} {m : MethodId} {args : Array Value} {below : List Frame} {meth : Method} {c : Code} {dC : Nat → ClassId} {dI : Nat → Nat → Nat} {ct : Nat → ClassId} {A : Nat → Prop} {a : Nat → Nat} {Post : Int64 → V → VL → Prop} {K97 : Int32 → Int32 → Int32 → Int32 → Int32 → Int64 → Int32 → Int32 → V → VL → Prop} {K234 : Int32 → Int32 → Int32 → Int32 → Int32 → Int64 → Int32 → Int32 → Int32 → V → VL → Prop}  (X : CxW p s m args meth c cX2_change 13 (some .long) RX2 dC dI ct A) (hD : ∀ (z : V) (g : VL), va_D A (MW a ct z g)) (hK97 : ∀ (i1 : Int32) (i2 : Int32) (i3 : Int32) (i4 : Int32) (i5 : Int32) (l6 : Int64) (i8 : Int32) (i9 : Int32) (z : V) (g : VL), K97 i1 i2 i3 i4 i5 l6 i8 i9 z g → ∀ (H : Heap) (locs : List Loc) (ls : Array Slot), va_P (dC, dI) vwCl (MW a ct z g) H → va_S A s.heap H locs → lv_has ls 13 [(0, .ref (a 0)), (1, .int i1), (2, .int i2), (3, .int i3), (4, .int i4), (5, .int i5), (6, .long l6), (8, .int i8), (9, .int i9)] → W p l e rm_X2_change s m args below meth c H locs 0 0 (MQ below (va_Ql (fun (r : Int64) (u : V × VL) => Post r u.1 u.2) (fun (u : V × VL) t => WPos dC dI ct (MW a ct u.1 u.2) A t) A) args s 0 0 A) (F0 m 97 ls [])) (hK234 : ∀ (i1 : Int32) (i2 : Int32) (i3 : Int32) (i4 : Int32) (i5 : Int32) (l6 : Int64) (i8 : Int32) (i9 : Int32) (i10 : Int32) (z : V) (g : VL), K234 i1 i2 i3 i4 i5 l6 i8 i9 i10 z g → ∀ (H : Heap) (locs : List Loc) (ls : Array Slot), va_P (dC, dI) vwCl (MW a ct z g) H → va_S A s.heap H locs → lv_has ls 13 [(0, .ref (a 0)), (1, .int i1), (2, .int i2), (3, .int i3), (4, .int i4), (5, .int i5), (6, .long l6), (8, .int i8), (9, .int i9), (10, .int i10)] → W p l e rm_X2_change s m args below meth c H locs 0 0 (MQ below (va_Ql (fun (r : Int64) (u : V × VL) => Post r u.1 u.2) (fun (u : V × VL) t => WPos dC dI ct (MW a ct u.1 u.2) A t) A) args s 0 0 A) (F0 m 234 ls [])) (i1 : Int32) (i2 : Int32) (i3 : Int32) (i4 : Int32) (i5 : Int32) (l6 : Int64) (i8 : Int32) (i9 : Int32) (i10 : Int32) (z : V) (g : VL) (w : wp_X2_change_S234  Post K97 K234 i1 i2 i3 i4 i5 l6 i8 i9 i10 z g) : ∀ (H : Heap) (locs : List Loc) (ls : Array Slot), va_P (dC, dI) vwCl (MW a ct z g) H → va_S A s.heap H locs → lv_has ls 13 [(0, .ref (a 0)), (1, .int i1), (2, .int i2), (3, .int i3), (4, .int i4), (5, .int i5), (6, .long l6), (8, .int i8), (9, .int i9), (10, .int i10)] → W p l e rm_X2_change s m args below meth c H locs 0 0 (MQ below (va_Ql (fun (r : Int64) (u : V × VL) => Post r u.1 u.2) (fun (u : V × VL) t => WPos dC dI ct (MW a ct u.1 u.2) A t) A) args s 0 0 A) (F0 m 234 ls []) := by
  intro H locs ls hP hS hl
  have X0 := X
  obtain ⟨⟨hx, hb, hml, hr, hlk, hown, hts⟩, hA, hK, hN⟩ := X0
  unfold wp_X2_change_S234 at w
  refine lv_iload hx hb dX2_change_234 (lv_at hl 9 rfl) ?_
  refine lv_bipush (v := 69) hx hb dX2_change_236 (by decide) ?_
  refine lv_iload hx hb dX2_change_238 (lv_at hl 8 rfl) ?_
  refine lv_isub hx hb dX2_change_240 ?_
  refine lv_icmp_ge (tgt := 264) hx hb dX2_change_241 (by decide) (fun c => ?_) (fun c => ?_)
  · have w := And.left w c
    refine lv_iinc (v := (i9 + 1)) (lv' := [(9, .int (i9 + 1)), (0, .ref (a 0)), (1, .int i1), (2, .int i2), (3, .int i3), (4, .int i4), (5, .int i5), (6, .long l6), (8, .int i8), (10, .int i10)]) hx hb dX2_change_264 hl (k := 8) rfl rfl (by decide) rfl (fun ls hl => ?_)
    refine lv_goto (tgt := 97) hx hb dX2_change_267 (by decide) ?_
    exact hK97 _ _ _ _ _ _ _ _ _ _ w _ _ _ hP hS (lv_sub hl [1, 2, 3, 4, 5, 6, 7, 8, 0] rfl)
  · have w := And.right w c
    refine lv_aload_n hx hb dX2_change_244 rfl (lv_at hl 0 rfl) ?_
    refine va_get (D := (dC, dI)) (ci := 2) (v := .ref (a 20)) (C := RX2) (T := TX2) (N := 34) hx hb hts in_X2 hown hK hP 0 rfl rfl 27 (by decide) (hts _ q485) (fun _ h9 => h9) rfl dX2_change_245 ?_
    refine lv_iload hx hb dX2_change_248 (lv_at hl 9 rfl) ?_
    refine lv_aload_n hx hb dX2_change_250 rfl (lv_at hl 0 rfl) ?_
    refine va_get (D := (dC, dI)) (ci := 2) (v := .ref (a 21)) (C := RX2) (T := TX2) (N := 34) hx hb hts in_X2 hown hK hP 0 rfl rfl 28 (by decide) (hts _ q486) (fun _ h9 => h9) rfl dX2_change_251 ?_
    refine lv_iload hx hb dX2_change_254 (lv_at hl 9 rfl) ?_
    obtain ⟨gi, w⟩ := w
    refine va_lald hx hb hK hP 21 1 rfl rfl gi dX2_change_256 ?_
    obtain ⟨gi, w⟩ := w
    refine va_last hx hb hK hP (hD _ _) hS 20 1 rfl rfl gi dX2_change_257 (fun H locs hP _ hS => ?_)
    have hP : va_P (dC, dI) vwCl (MW a ct z (upL2 g 0 i10.toNatClampNeg (g 1 i10.toNatClampNeg))) H := MW_u_g_0 hP
    refine lv_iinc (v := (i10 + 1)) (lv' := [(10, .int (i10 + 1)), (0, .ref (a 0)), (1, .int i1), (2, .int i2), (3, .int i3), (4, .int i4), (5, .int i5), (6, .long l6), (8, .int i8), (9, .int i9)]) hx hb dX2_change_258 hl (k := 9) rfl rfl (by decide) rfl (fun ls hl => ?_)
    refine lv_goto (tgt := 234) hx hb dX2_change_261 (by decide) ?_
    exact hK234 _ _ _ _ _ _ _ _ _ _ _ w _ _ _ hP hS (lv_sub hl [1, 2, 3, 4, 5, 6, 7, 8, 9, 0] rfl)
set_option maxHeartbeats 4000000 in
set_option maxRecDepth 100000 in
theorem wk_X2_change_L234 {p : Program} {l : Launch} {e : Env} {s : State} {m : MethodId} {args : Array Value} {below : List Frame} {meth : Method} {c : Code} {dC : Nat → ClassId} {dI : Nat → Nat → Nat} {ct : Nat → ClassId} {A : Nat → Prop} {a : Nat → Nat} {Post : Int64 → V → VL → Prop} {K97 : Int32 → Int32 → Int32 → Int32 → Int32 → Int64 → Int32 → Int32 → V → VL → Prop}  (X : CxW p s m args meth c cX2_change 13 (some .long) RX2 dC dI ct A) (hD : ∀ (z : V) (g : VL), va_D A (MW a ct z g)) (hK97 : ∀ (i1 : Int32) (i2 : Int32) (i3 : Int32) (i4 : Int32) (i5 : Int32) (l6 : Int64) (i8 : Int32) (i9 : Int32) (z : V) (g : VL), K97 i1 i2 i3 i4 i5 l6 i8 i9 z g → ∀ (H : Heap) (locs : List Loc) (ls : Array Slot), va_P (dC, dI) vwCl (MW a ct z g) H → va_S A s.heap H locs → lv_has ls 13 [(0, .ref (a 0)), (1, .int i1), (2, .int i2), (3, .int i3), (4, .int i4), (5, .int i5), (6, .long l6), (8, .int i8), (9, .int i9)] → W p l e rm_X2_change s m args below meth c H locs 0 0 (MQ below (va_Ql (fun (r : Int64) (u : V × VL) => Post r u.1 u.2) (fun (u : V × VL) t => WPos dC dI ct (MW a ct u.1 u.2) A t) A) args s 0 0 A) (F0 m 97 ls [])) : ∀ (n : Nat) (i1 : Int32) (i2 : Int32) (i3 : Int32) (i4 : Int32) (i5 : Int32) (l6 : Int64) (i8 : Int32) (i9 : Int32) (i10 : Int32) (z : V) (g : VL), wp_X2_change_L234  Post K97 n i1 i2 i3 i4 i5 l6 i8 i9 i10 z g → ∀ (H : Heap) (locs : List Loc) (ls : Array Slot), va_P (dC, dI) vwCl (MW a ct z g) H → va_S A s.heap H locs → lv_has ls 13 [(0, .ref (a 0)), (1, .int i1), (2, .int i2), (3, .int i3), (4, .int i4), (5, .int i5), (6, .long l6), (8, .int i8), (9, .int i9), (10, .int i10)] → W p l e rm_X2_change s m args below meth c H locs 0 0 (MQ below (va_Ql (fun (r : Int64) (u : V × VL) => Post r u.1 u.2) (fun (u : V × VL) t => WPos dC dI ct (MW a ct u.1 u.2) A t) A) args s 0 0 A) (F0 m 234 ls []) := by
  intro n
  induction n with
  | zero => intro i1 i2 i3 i4 i5 l6 i8 i9 i10 z g w; exact False.elim w
  | succ n ih => intro i1 i2 i3 i4 i5 l6 i8 i9 i10 z g w H locs ls hP hS hl; exact wk_X2_change_S234 X hD hK97 ih i1 i2 i3 i4 i5 l6 i8 i9 i10 z g w H locs ls hP hS hl
set_option maxHeartbeats 4000000 in
set_option maxRecDepth 100000 in
theorem wk_X2_change_S114 {p : Program} {l : Launch} {e : Env} {s : State} {m : MethodId} {args : Array Value} {below : List Frame} {meth : Method} {c : Code} {dC : Nat → ClassId} {dI : Nat → Nat → Nat} {ct : Nat → ClassId} {A : Nat → Prop} {a : Nat → Nat} {Post : Int64 → V → VL → Prop} {K97 : Int32 → Int32 → Int32 → Int32 → Int32 → Int64 → Int32 → Int32 → V → VL → Prop} {K114 : Int32 → Int32 → Int32 → Int32 → Int32 → Int64 → Int32 → Int32 → Int32 → V → VL → Prop}  (X : CxW p s m args meth c cX2_change 13 (some .long) RX2 dC dI ct A) (hD : ∀ (z : V) (g : VL), va_D A (MW a ct z g)) (hK97 : ∀ (i1 : Int32) (i2 : Int32) (i3 : Int32) (i4 : Int32) (i5 : Int32) (l6 : Int64) (i8 : Int32) (i9 : Int32) (z : V) (g : VL), K97 i1 i2 i3 i4 i5 l6 i8 i9 z g → ∀ (H : Heap) (locs : List Loc) (ls : Array Slot), va_P (dC, dI) vwCl (MW a ct z g) H → va_S A s.heap H locs → lv_has ls 13 [(0, .ref (a 0)), (1, .int i1), (2, .int i2), (3, .int i3), (4, .int i4), (5, .int i5), (6, .long l6), (8, .int i8), (9, .int i9)] → W p l e rm_X2_change s m args below meth c H locs 0 0 (MQ below (va_Ql (fun (r : Int64) (u : V × VL) => Post r u.1 u.2) (fun (u : V × VL) t => WPos dC dI ct (MW a ct u.1 u.2) A t) A) args s 0 0 A) (F0 m 97 ls [])) (hK114 : ∀ (i1 : Int32) (i2 : Int32) (i3 : Int32) (i4 : Int32) (i5 : Int32) (l6 : Int64) (i8 : Int32) (i9 : Int32) (i10 : Int32) (z : V) (g : VL), K114 i1 i2 i3 i4 i5 l6 i8 i9 i10 z g → ∀ (H : Heap) (locs : List Loc) (ls : Array Slot), va_P (dC, dI) vwCl (MW a ct z g) H → va_S A s.heap H locs → lv_has ls 13 [(0, .ref (a 0)), (1, .int i1), (2, .int i2), (3, .int i3), (4, .int i4), (5, .int i5), (6, .long l6), (8, .int i8), (9, .int i9), (10, .int i10)] → W p l e rm_X2_change s m args below meth c H locs 0 0 (MQ below (va_Ql (fun (r : Int64) (u : V × VL) => Post r u.1 u.2) (fun (u : V × VL) t => WPos dC dI ct (MW a ct u.1 u.2) A t) A) args s 0 0 A) (F0 m 114 ls [])) (i1 : Int32) (i2 : Int32) (i3 : Int32) (i4 : Int32) (i5 : Int32) (l6 : Int64) (i8 : Int32) (i9 : Int32) (i10 : Int32) (z : V) (g : VL) (w : wp_X2_change_S114  Post K97 K114 i1 i2 i3 i4 i5 l6 i8 i9 i10 z g) : ∀ (H : Heap) (locs : List Loc) (ls : Array Slot), va_P (dC, dI) vwCl (MW a ct z g) H → va_S A s.heap H locs → lv_has ls 13 [(0, .ref (a 0)), (1, .int i1), (2, .int i2), (3, .int i3), (4, .int i4), (5, .int i5), (6, .long l6), (8, .int i8), (9, .int i9), (10, .int i10)] → W p l e rm_X2_change s m args below meth c H locs 0 0 (MQ below (va_Ql (fun (r : Int64) (u : V × VL) => Post r u.1 u.2) (fun (u : V × VL) t => WPos dC dI ct (MW a ct u.1 u.2) A t) A) args s 0 0 A) (F0 m 114 ls []) := by
  intro H locs ls hP hS hl
  have X0 := X
  obtain ⟨⟨hx, hb, hml, hr, hlk, hown, hts⟩, hA, hK, hN⟩ := X0
  unfold wp_X2_change_S114 at w
  refine lv_iload hx hb dX2_change_114 (lv_at hl 9 rfl) ?_
  refine lv_bipush (v := 69) hx hb dX2_change_116 (by decide) ?_
  refine lv_iload hx hb dX2_change_118 (lv_at hl 8 rfl) ?_
  refine lv_isub hx hb dX2_change_120 ?_
  refine lv_icmp_ge (tgt := 231) hx hb dX2_change_121 (by decide) (fun c => ?_) (fun c => ?_)
  · have w := And.left w c
    refine lv_iconst (v := 0) hx hb dX2_change_231 (by decide) ?_
    refine lv_istore (lv' := [(10, .int (0 : Int32)), (0, .ref (a 0)), (1, .int i1), (2, .int i2), (3, .int i3), (4, .int i4), (5, .int i5), (6, .long l6), (8, .int i8), (9, .int i9)]) hx hb dX2_change_232 hl (by decide) rfl (fun ls hl => ?_)
    obtain ⟨n, w⟩ := w
    exact wk_X2_change_L234 X hD hK97 n _ _ _ _ _ _ _ _ _ _ _ w _ _ _ hP hS (lv_sub hl [1, 2, 3, 4, 5, 6, 7, 8, 9, 0] rfl)
  · have w := And.right w c
    refine lv_iload_n hx hb dX2_change_124 rfl (lv_at hl 3 rfl) ?_
    refine lv_i2l hx hb dX2_change_125 rfl ?_
    refine lv_aload_n hx hb dX2_change_126 rfl (lv_at hl 0 rfl) ?_
    refine va_get (D := (dC, dI)) (ci := 2) (v := .ref (a 20)) (C := RX2) (T := TX2) (N := 34) hx hb hts in_X2 hown hK hP 0 rfl rfl 27 (by decide) (hts _ q485) (fun _ h9 => h9) rfl dX2_change_127 ?_
    refine lv_iload hx hb dX2_change_130 (lv_at hl 9 rfl) ?_
    refine lv_iconst (v := 3) hx hb dX2_change_132 (by decide) ?_
    refine lv_icmp_le (tgt := 143) hx hb dX2_change_133 (by decide) (fun c => ?_) (fun c => ?_)
    · have w := And.left w c
      refine lv_iconst (v := 0) hx hb dX2_change_143 (by decide) ?_
      exact wk_X2_change_L144 X hD hK97 hK114 _ _ _ _ _ _ _ _ _ _ _ _ _ w _ _ _ hP hS (lv_sub hl [0, 1, 2, 3, 4, 5, 6, 7, 8, 9] rfl)
    · have w := And.right w c
      refine lv_iload hx hb dX2_change_136 (lv_at hl 9 rfl) ?_
      refine lv_iconst (v := 3) hx hb dX2_change_138 (by decide) ?_
      refine lv_isub hx hb dX2_change_139 ?_
      refine lv_goto (tgt := 144) hx hb dX2_change_140 (by decide) ?_
      exact wk_X2_change_L144 X hD hK97 hK114 _ _ _ _ _ _ _ _ _ _ _ _ _ w _ _ _ hP hS (lv_sub hl [0, 1, 2, 3, 4, 5, 6, 7, 8, 9] rfl)
set_option maxHeartbeats 4000000 in
set_option maxRecDepth 100000 in
theorem wk_X2_change_L114 {p : Program} {l : Launch} {e : Env} {s : State} {m : MethodId} {args : Array Value} {below : List Frame} {meth : Method} {c : Code} {dC : Nat → ClassId} {dI : Nat → Nat → Nat} {ct : Nat → ClassId} {A : Nat → Prop} {a : Nat → Nat} {Post : Int64 → V → VL → Prop} {K97 : Int32 → Int32 → Int32 → Int32 → Int32 → Int64 → Int32 → Int32 → V → VL → Prop}  (X : CxW p s m args meth c cX2_change 13 (some .long) RX2 dC dI ct A) (hD : ∀ (z : V) (g : VL), va_D A (MW a ct z g)) (hK97 : ∀ (i1 : Int32) (i2 : Int32) (i3 : Int32) (i4 : Int32) (i5 : Int32) (l6 : Int64) (i8 : Int32) (i9 : Int32) (z : V) (g : VL), K97 i1 i2 i3 i4 i5 l6 i8 i9 z g → ∀ (H : Heap) (locs : List Loc) (ls : Array Slot), va_P (dC, dI) vwCl (MW a ct z g) H → va_S A s.heap H locs → lv_has ls 13 [(0, .ref (a 0)), (1, .int i1), (2, .int i2), (3, .int i3), (4, .int i4), (5, .int i5), (6, .long l6), (8, .int i8), (9, .int i9)] → W p l e rm_X2_change s m args below meth c H locs 0 0 (MQ below (va_Ql (fun (r : Int64) (u : V × VL) => Post r u.1 u.2) (fun (u : V × VL) t => WPos dC dI ct (MW a ct u.1 u.2) A t) A) args s 0 0 A) (F0 m 97 ls [])) : ∀ (n : Nat) (i1 : Int32) (i2 : Int32) (i3 : Int32) (i4 : Int32) (i5 : Int32) (l6 : Int64) (i8 : Int32) (i9 : Int32) (i10 : Int32) (z : V) (g : VL), wp_X2_change_L114  Post K97 n i1 i2 i3 i4 i5 l6 i8 i9 i10 z g → ∀ (H : Heap) (locs : List Loc) (ls : Array Slot), va_P (dC, dI) vwCl (MW a ct z g) H → va_S A s.heap H locs → lv_has ls 13 [(0, .ref (a 0)), (1, .int i1), (2, .int i2), (3, .int i3), (4, .int i4), (5, .int i5), (6, .long l6), (8, .int i8), (9, .int i9), (10, .int i10)] → W p l e rm_X2_change s m args below meth c H locs 0 0 (MQ below (va_Ql (fun (r : Int64) (u : V × VL) => Post r u.1 u.2) (fun (u : V × VL) t => WPos dC dI ct (MW a ct u.1 u.2) A t) A) args s 0 0 A) (F0 m 114 ls []) := by
  intro n
  induction n with
  | zero => intro i1 i2 i3 i4 i5 l6 i8 i9 i10 z g w; exact False.elim w
  | succ n ih => intro i1 i2 i3 i4 i5 l6 i8 i9 i10 z g w H locs ls hP hS hl; exact wk_X2_change_S114 X hD hK97 ih i1 i2 i3 i4 i5 l6 i8 i9 i10 z g w H locs ls hP hS hl
set_option maxHeartbeats 4000000 in
set_option maxRecDepth 100000 in
theorem wk_X2_change_L302 {p : Program} {l : Launch} {e : Env} {s : State} {m : MethodId} {args : Array Value} {below : List Frame} {meth : Method} {c : Code} {dC : Nat → ClassId} {dI : Nat → Nat → Nat} {ct : Nat → ClassId} {A : Nat → Prop} {a : Nat → Nat} {Post : Int64 → V → VL → Prop}   (X : CxW p s m args meth c cX2_change 13 (some .long) RX2 dC dI ct A) (hD : ∀ (z : V) (g : VL), va_D A (MW a ct z g))  (ls0 : Int64) (z : V) (g : VL) (w : wp_X2_change_L302  Post  ls0 z g) : ∀ (H : Heap) (locs : List Loc) (ls : Array Slot), va_P (dC, dI) vwCl (MW a ct z g) H → va_S A s.heap H locs → lv_has ls 13 [] → W p l e rm_X2_change s m args below meth c H locs 0 0 (MQ below (va_Ql (fun (r : Int64) (u : V × VL) => Post r u.1 u.2) (fun (u : V × VL) t => WPos dC dI ct (MW a ct u.1 u.2) A t) A) args s 0 0 A) (F0 m 302 ls [.long ls0]) := by
  intro H locs ls hP hS hl
  have X0 := X
  obtain ⟨⟨hx, hb, hml, hr, hlk, hown, hts⟩, hA, hK, hN⟩ := X0
  unfold wp_X2_change_L302 at w
  exact W.lret (v := ls0) hx hb hr (fun t ht hW => ⟨⟨ls0, (z, g), rfl, w, by rw [ht]; exact hP, va_K.moved hW.alike hK, (hD _ _)⟩, hS.F ht⟩) hS.2.2 dX2_change_302 hlk
set_option maxHeartbeats 4000000 in
set_option maxRecDepth 100000 in
theorem wk_X2_change_S97 {p : Program} {l : Launch} {e : Env} {s : State} {m : MethodId} {args : Array Value} {below : List Frame} {meth : Method} {c : Code} {dC : Nat → ClassId} {dI : Nat → Nat → Nat} {ct : Nat → ClassId} {A : Nat → Prop} {a : Nat → Nat} {Post : Int64 → V → VL → Prop} {K97 : Int32 → Int32 → Int32 → Int32 → Int32 → Int64 → Int32 → Int32 → V → VL → Prop}  (X : CxW p s m args meth c cX2_change 13 (some .long) RX2 dC dI ct A) (hD : ∀ (z : V) (g : VL), va_D A (MW a ct z g)) (hK97 : ∀ (i1 : Int32) (i2 : Int32) (i3 : Int32) (i4 : Int32) (i5 : Int32) (l6 : Int64) (i8 : Int32) (i9 : Int32) (z : V) (g : VL), K97 i1 i2 i3 i4 i5 l6 i8 i9 z g → ∀ (H : Heap) (locs : List Loc) (ls : Array Slot), va_P (dC, dI) vwCl (MW a ct z g) H → va_S A s.heap H locs → lv_has ls 13 [(0, .ref (a 0)), (1, .int i1), (2, .int i2), (3, .int i3), (4, .int i4), (5, .int i5), (6, .long l6), (8, .int i8), (9, .int i9)] → W p l e rm_X2_change s m args below meth c H locs 0 0 (MQ below (va_Ql (fun (r : Int64) (u : V × VL) => Post r u.1 u.2) (fun (u : V × VL) t => WPos dC dI ct (MW a ct u.1 u.2) A t) A) args s 0 0 A) (F0 m 97 ls [])) (i1 : Int32) (i2 : Int32) (i3 : Int32) (i4 : Int32) (i5 : Int32) (l6 : Int64) (i8 : Int32) (i9 : Int32) (z : V) (g : VL) (w : wp_X2_change_S97  Post K97 i1 i2 i3 i4 i5 l6 i8 i9 z g) : ∀ (H : Heap) (locs : List Loc) (ls : Array Slot), va_P (dC, dI) vwCl (MW a ct z g) H → va_S A s.heap H locs → lv_has ls 13 [(0, .ref (a 0)), (1, .int i1), (2, .int i2), (3, .int i3), (4, .int i4), (5, .int i5), (6, .long l6), (8, .int i8), (9, .int i9)] → W p l e rm_X2_change s m args below meth c H locs 0 0 (MQ below (va_Ql (fun (r : Int64) (u : V × VL) => Post r u.1 u.2) (fun (u : V × VL) t => WPos dC dI ct (MW a ct u.1 u.2) A t) A) args s 0 0 A) (F0 m 97 ls []) := by
  intro H locs ls hP hS hl
  have X0 := X
  obtain ⟨⟨hx, hb, hml, hr, hlk, hown, hts⟩, hA, hK, hN⟩ := X0
  unfold wp_X2_change_S97 at w
  refine lv_iload hx hb dX2_change_97 (lv_at hl 8 rfl) ?_
  refine lv_iload_n hx hb dX2_change_99 rfl (lv_at hl 2 rfl) ?_
  refine lv_icmp_gt (tgt := 270) hx hb dX2_change_100 (by decide) (fun c => ?_) (fun c => ?_)
  · have w := And.left w c
    refine lv_iload hx hb dX2_change_270 (lv_at hl 4 rfl) ?_
    refine lv_iconst (v := 1) hx hb dX2_change_272 (by decide) ?_
    refine lv_icmp_ne (tgt := 289) hx hb dX2_change_273 (by decide) (fun c => ?_) (fun c => ?_)
    · have w := And.right w c
      refine lv_aload_n hx hb dX2_change_289 rfl (lv_at hl 0 rfl) ?_
      refine va_get (D := (dC, dI)) (ci := 2) (v := .ref (a 20)) (C := RX2) (T := TX2) (N := 34) hx hb hts in_X2 hown hK hP 0 rfl rfl 27 (by decide) (hts _ q485) (fun _ h9 => h9) rfl dX2_change_290 ?_
      refine lv_iload_n hx hb dX2_change_293 rfl (lv_at hl 1 rfl) ?_
      obtain ⟨gi, w⟩ := w
      refine va_lald hx hb hK hP 20 1 rfl rfl gi dX2_change_294 ?_
      refine lv_lload hx hb dX2_change_295 (lv_at hl 6 rfl) ?_
      refine lv_iload hx hb dX2_change_297 (lv_at hl 5 rfl) ?_
      refine vp_callSl (W.runS (As := [.long (g 0 i1.toNatClampNeg), .long l6, .int i5]) (rest := []) ⟨hx, hb, hml, hown, hts⟩ (met_X2_lowest l w) (va_cwS 3 hts (lw_S q786 q787 q51 q788) rfl rfl rfl hd_X2_lowest ⟨Nat.le_of_ble_eq_true rfl, Nat.le_of_ble_eq_true rfl⟩) pre_S rfl rfl hl.1 rfl (lv_room (Nat.le_of_ble_eq_true rfl)) dX2_change_299 ⟨Nat.le_refl _, Nat.le_refl _⟩) (fun r1 w => ?_)
      exact wk_X2_change_L302 X hD  _ _ _ w _ _ _ hP hS (lv_sub hl [] rfl)
    · have w := And.left w c
      refine lv_iload hx hb dX2_change_276 (lv_at hl 7 rfl) ?_
      refine lv_if_eq (tgt := 285) hx hb dX2_change_278 (by decide) (fun c => ?_) (fun c => ?_)
      · have w := And.left w c
        refine lv_lconst (v := 0) hx hb dX2_change_285 (by decide) ?_
        refine lv_goto (tgt := 302) hx hb dX2_change_286 (by decide) ?_
        exact wk_X2_change_L302 X hD  _ _ _ w _ _ _ hP hS (lv_sub hl [] rfl)
      · have w := And.right w c
        refine lv_lconst (v := 1) hx hb dX2_change_281 (by decide) ?_
        refine lv_goto (tgt := 302) hx hb dX2_change_282 (by decide) ?_
        exact wk_X2_change_L302 X hD  _ _ _ w _ _ _ hP hS (lv_sub hl [] rfl)
  · have w := And.right w c
    refine lv_lload hx hb dX2_change_103 (lv_at hl 6 rfl) ?_
    refine lv_ldc2 (v := 10) hx hb hown (hts _ q784) dX2_change_105 ?_
    refine lv_lmul hx hb dX2_change_108 ?_
    refine lv_lstore (lv' := [(6, .long (l6 * (10 : Int64))), (0, .ref (a 0)), (1, .int i1), (2, .int i2), (3, .int i3), (4, .int i4), (5, .int i5), (8, .int i8), (9, .int i9)]) hx hb dX2_change_109 hl (by decide) rfl (fun ls hl => ?_)
    refine lv_iconst (v := 0) hx hb dX2_change_111 (by decide) ?_
    refine lv_istore (lv' := [(10, .int (0 : Int32)), (6, .long (l6 * (10 : Int64))), (0, .ref (a 0)), (1, .int i1), (2, .int i2), (3, .int i3), (4, .int i4), (5, .int i5), (8, .int i8), (9, .int i9)]) hx hb dX2_change_112 hl (by decide) rfl (fun ls hl => ?_)
    obtain ⟨n, w⟩ := w
    exact wk_X2_change_L114 X hD hK97 n _ _ _ _ _ _ _ _ _ _ _ w _ _ _ hP hS (lv_sub hl [2, 3, 4, 5, 6, 7, 1, 8, 9, 0] rfl)
set_option maxHeartbeats 4000000 in
set_option maxRecDepth 100000 in
theorem wk_X2_change_L97 {p : Program} {l : Launch} {e : Env} {s : State} {m : MethodId} {args : Array Value} {below : List Frame} {meth : Method} {c : Code} {dC : Nat → ClassId} {dI : Nat → Nat → Nat} {ct : Nat → ClassId} {A : Nat → Prop} {a : Nat → Nat} {Post : Int64 → V → VL → Prop}   (X : CxW p s m args meth c cX2_change 13 (some .long) RX2 dC dI ct A) (hD : ∀ (z : V) (g : VL), va_D A (MW a ct z g))  : ∀ (n : Nat) (i1 : Int32) (i2 : Int32) (i3 : Int32) (i4 : Int32) (i5 : Int32) (l6 : Int64) (i8 : Int32) (i9 : Int32) (z : V) (g : VL), wp_X2_change_L97  Post  n i1 i2 i3 i4 i5 l6 i8 i9 z g → ∀ (H : Heap) (locs : List Loc) (ls : Array Slot), va_P (dC, dI) vwCl (MW a ct z g) H → va_S A s.heap H locs → lv_has ls 13 [(0, .ref (a 0)), (1, .int i1), (2, .int i2), (3, .int i3), (4, .int i4), (5, .int i5), (6, .long l6), (8, .int i8), (9, .int i9)] → W p l e rm_X2_change s m args below meth c H locs 0 0 (MQ below (va_Ql (fun (r : Int64) (u : V × VL) => Post r u.1 u.2) (fun (u : V × VL) t => WPos dC dI ct (MW a ct u.1 u.2) A t) A) args s 0 0 A) (F0 m 97 ls []) := by
  intro n
  induction n with
  | zero => intro i1 i2 i3 i4 i5 l6 i8 i9 z g w; exact False.elim w
  | succ n ih => intro i1 i2 i3 i4 i5 l6 i8 i9 z g w H locs ls hP hS hl; exact wk_X2_change_S97 X hD  ih i1 i2 i3 i4 i5 l6 i8 i9 z g w H locs ls hP hS hl
set_option maxHeartbeats 4000000 in
set_option maxRecDepth 100000 in
theorem wk_X2_change_S65 {p : Program} {l : Launch} {e : Env} {s : State} {m : MethodId} {args : Array Value} {below : List Frame} {meth : Method} {c : Code} {dC : Nat → ClassId} {dI : Nat → Nat → Nat} {ct : Nat → ClassId} {A : Nat → Prop} {a : Nat → Nat} {Post : Int64 → V → VL → Prop} {K65 : Int32 → Int32 → Int32 → Int32 → Int32 → Int32 → V → VL → Prop}  (X : CxW p s m args meth c cX2_change 13 (some .long) RX2 dC dI ct A) (hD : ∀ (z : V) (g : VL), va_D A (MW a ct z g)) (hK65 : ∀ (i1 : Int32) (i2 : Int32) (i3 : Int32) (i4 : Int32) (i5 : Int32) (i6 : Int32) (z : V) (g : VL), K65 i1 i2 i3 i4 i5 i6 z g → ∀ (H : Heap) (locs : List Loc) (ls : Array Slot), va_P (dC, dI) vwCl (MW a ct z g) H → va_S A s.heap H locs → lv_has ls 13 [(0, .ref (a 0)), (1, .int i1), (2, .int i2), (3, .int i3), (4, .int i4), (5, .int i5), (6, .int i6)] → W p l e rm_X2_change s m args below meth c H locs 0 0 (MQ below (va_Ql (fun (r : Int64) (u : V × VL) => Post r u.1 u.2) (fun (u : V × VL) t => WPos dC dI ct (MW a ct u.1 u.2) A t) A) args s 0 0 A) (F0 m 65 ls [])) (i1 : Int32) (i2 : Int32) (i3 : Int32) (i4 : Int32) (i5 : Int32) (i6 : Int32) (z : V) (g : VL) (w : wp_X2_change_S65  Post K65 i1 i2 i3 i4 i5 i6 z g) : ∀ (H : Heap) (locs : List Loc) (ls : Array Slot), va_P (dC, dI) vwCl (MW a ct z g) H → va_S A s.heap H locs → lv_has ls 13 [(0, .ref (a 0)), (1, .int i1), (2, .int i2), (3, .int i3), (4, .int i4), (5, .int i5), (6, .int i6)] → W p l e rm_X2_change s m args below meth c H locs 0 0 (MQ below (va_Ql (fun (r : Int64) (u : V × VL) => Post r u.1 u.2) (fun (u : V × VL) t => WPos dC dI ct (MW a ct u.1 u.2) A t) A) args s 0 0 A) (F0 m 65 ls []) := by
  intro H locs ls hP hS hl
  have X0 := X
  obtain ⟨⟨hx, hb, hml, hr, hlk, hown, hts⟩, hA, hK, hN⟩ := X0
  unfold wp_X2_change_S65 at w
  refine lv_iload hx hb dX2_change_65 (lv_at hl 6 rfl) ?_
  refine lv_bipush (v := 70) hx hb dX2_change_67 (by decide) ?_
  refine lv_icmp_ge (tgt := 88) hx hb dX2_change_69 (by decide) (fun c => ?_) (fun c => ?_)
  · have w := And.left w c
    refine lv_lconst (v := 1) hx hb dX2_change_88 (by decide) ?_
    refine lv_lstore (lv' := [(6, .long (1 : Int64)), (0, .ref (a 0)), (1, .int i1), (2, .int i2), (3, .int i3), (4, .int i4), (5, .int i5)]) hx hb dX2_change_89 hl (by decide) rfl (fun ls hl => ?_)
    refine lv_iconst (v := 1) hx hb dX2_change_91 (by decide) ?_
    refine lv_istore (lv' := [(8, .int (1 : Int32)), (6, .long (1 : Int64)), (0, .ref (a 0)), (1, .int i1), (2, .int i2), (3, .int i3), (4, .int i4), (5, .int i5)]) hx hb dX2_change_92 hl (by decide) rfl (fun ls hl => ?_)
    refine lv_iconst (v := 1) hx hb dX2_change_94 (by decide) ?_
    refine lv_istore (lv' := [(9, .int (1 : Int32)), (8, .int (1 : Int32)), (6, .long (1 : Int64)), (0, .ref (a 0)), (1, .int i1), (2, .int i2), (3, .int i3), (4, .int i4), (5, .int i5)]) hx hb dX2_change_95 hl (by decide) rfl (fun ls hl => ?_)
    obtain ⟨n, w⟩ := w
    exact wk_X2_change_L97 X hD  n _ _ _ _ _ _ _ _ _ _ w _ _ _ hP hS (lv_sub hl [3, 4, 5, 6, 7, 8, 2, 1, 0] rfl)
  · have w := And.right w c
    refine lv_aload_n hx hb dX2_change_72 rfl (lv_at hl 0 rfl) ?_
    refine va_get (D := (dC, dI)) (ci := 2) (v := .ref (a 20)) (C := RX2) (T := TX2) (N := 34) hx hb hts in_X2 hown hK hP 0 rfl rfl 27 (by decide) (hts _ q485) (fun _ h9 => h9) rfl dX2_change_73 ?_
    refine lv_iload hx hb dX2_change_76 (lv_at hl 6 rfl) ?_
    refine lv_iload hx hb dX2_change_78 (lv_at hl 6 rfl) ?_
    refine lv_i2l hx hb dX2_change_80 rfl ?_
    obtain ⟨gi, w⟩ := w
    refine va_last hx hb hK hP (hD _ _) hS 20 1 rfl rfl gi dX2_change_81 (fun H locs hP _ hS => ?_)
    have hP : va_P (dC, dI) vwCl (MW a ct z (upL2 g 0 i6.toNatClampNeg i6.toInt64)) H := MW_u_g_0 hP
    refine lv_iinc (v := (i6 + 1)) (lv' := [(6, .int (i6 + 1)), (0, .ref (a 0)), (1, .int i1), (2, .int i2), (3, .int i3), (4, .int i4), (5, .int i5)]) hx hb dX2_change_82 hl (k := 6) rfl rfl (by decide) rfl (fun ls hl => ?_)
    refine lv_goto (tgt := 65) hx hb dX2_change_85 (by decide) ?_
    exact hK65 _ _ _ _ _ _ _ _ w _ _ _ hP hS (lv_sub hl [1, 2, 3, 4, 5, 6, 0] rfl)
set_option maxHeartbeats 4000000 in
set_option maxRecDepth 100000 in
theorem wk_X2_change_L65 {p : Program} {l : Launch} {e : Env} {s : State} {m : MethodId} {args : Array Value} {below : List Frame} {meth : Method} {c : Code} {dC : Nat → ClassId} {dI : Nat → Nat → Nat} {ct : Nat → ClassId} {A : Nat → Prop} {a : Nat → Nat} {Post : Int64 → V → VL → Prop}   (X : CxW p s m args meth c cX2_change 13 (some .long) RX2 dC dI ct A) (hD : ∀ (z : V) (g : VL), va_D A (MW a ct z g))  : ∀ (n : Nat) (i1 : Int32) (i2 : Int32) (i3 : Int32) (i4 : Int32) (i5 : Int32) (i6 : Int32) (z : V) (g : VL), wp_X2_change_L65  Post  n i1 i2 i3 i4 i5 i6 z g → ∀ (H : Heap) (locs : List Loc) (ls : Array Slot), va_P (dC, dI) vwCl (MW a ct z g) H → va_S A s.heap H locs → lv_has ls 13 [(0, .ref (a 0)), (1, .int i1), (2, .int i2), (3, .int i3), (4, .int i4), (5, .int i5), (6, .int i6)] → W p l e rm_X2_change s m args below meth c H locs 0 0 (MQ below (va_Ql (fun (r : Int64) (u : V × VL) => Post r u.1 u.2) (fun (u : V × VL) t => WPos dC dI ct (MW a ct u.1 u.2) A t) A) args s 0 0 A) (F0 m 65 ls []) := by
  intro n
  induction n with
  | zero => intro i1 i2 i3 i4 i5 i6 z g w; exact False.elim w
  | succ n ih => intro i1 i2 i3 i4 i5 i6 z g w H locs ls hP hS hl; exact wk_X2_change_S65 X hD  ih i1 i2 i3 i4 i5 i6 z g w H locs ls hP hS hl
set_option maxHeartbeats 4000000 in
set_option maxRecDepth 100000 in
theorem met_X2_change (l : Launch) (dC : Nat → ClassId) (dI : Nat → Nat → Nat) (ct : Nat → ClassId) (a : Nat → Nat) (sz : Nat) {i1 : Int32} {i2 : Int32} {i3 : Int32} {i4 : Int32} {i5 : Int32} {z : V} {g : VL} {Post : Int64 → V → VL → Prop} (w : wp_X2_change i1 i2 i3 i4 i5 z g Post) : Met l yX2_change (ws_ yX2_change cX2_change 13 (some .long)) rm_X2_change (va_Pc [.ref (a 0), .int i1, .int i2, .int i3, .int i4, .int i5] (fun U => WPre dC dI ct (MW a ct z g) sz U)) ((fun A => (va_Ql (fun (r : Int64) (u : V × VL) => Post r u.1 u.2) (fun (u : V × VL) t => WPos dC dI ct (MW a ct u.1 u.2) A t) A)) (va_A (MW a ct z g) sz)) 0 0 (va_A (MW a ct z g) sz) := by
  refine open_W (fun A => (va_Ql (fun (r : Int64) (u : V × VL) => Post r u.1 u.2) (fun (u : V × VL) t => WPos dC dI ct (MW a ct u.1 u.2) A t) A)) (by decide) (Nat.le_of_ble_eq_true rfl) ?_
  intro p e s m args below meth c ls A X hD0 hP hS hl
  have X0 := X
  obtain ⟨⟨hx, hb, hml, hr, hlk, hown, hts⟩, hA, hK, hN⟩ := X0
  have hD : ∀ (z' : V) (g' : VL), va_D A (MW a ct z' g') := fun z' g' => va_D_addr hD0 rfl
  have hl : lv_has ls 13 [(0, .ref (a 0)), (1, .int i1), (2, .int i2), (3, .int i3), (4, .int i4), (5, .int i5)] := hl
  unfold wp_X2_change at w
  have hS0 := hS
  refine lv_iload_n hx hb dX2_change_0 rfl (lv_at hl 1 rfl) ?_
  refine lv_i2l hx hb dX2_change_1 rfl ?_
  refine lv_lconst (v := 0) hx hb dX2_change_2 (by decide) ?_
  refine lv_ldc2 (v := 60) hx hb hown (hts _ q783) dX2_change_3 ?_
  refine vp_callSi (W.runS (As := [.long i1.toInt64, .long (0 : Int64), .long (60 : Int64)]) (rest := []) ⟨hx, hb, hml, hown, hts⟩ (met_X2_in l w) (va_cwS 3 hts (lw_S q570 q571 q51 q572) rfl rfl rfl hd_X2_in ⟨Nat.le_of_ble_eq_true rfl, Nat.le_of_ble_eq_true rfl⟩) pre_S rfl rfl hl.1 rfl (lv_room (Nat.le_of_ble_eq_true rfl)) dX2_change_6 ⟨Nat.le_refl _, Nat.le_refl _⟩) (fun r1 w => ?_)
  refine lv_if_eq (tgt := 58) hx hb dX2_change_9 (by decide) (fun c => ?_) (fun c => ?_)
  · have w := And.left w c
    exact wk_X2_change_L58 X hD  _ _ w _ _ _ hP hS (lv_sub hl [] rfl)
  · have w := And.right w c
    refine lv_iload_n hx hb dX2_change_12 rfl (lv_at hl 2 rfl) ?_
    refine lv_i2l hx hb dX2_change_13 rfl ?_
    refine lv_lconst (v := 0) hx hb dX2_change_14 (by decide) ?_
    refine lv_ldc2 (v := 8) hx hb hown (hts _ q778) dX2_change_15 ?_
    refine vp_callSi (W.runS (As := [.long i2.toInt64, .long (0 : Int64), .long (8 : Int64)]) (rest := []) ⟨hx, hb, hml, hown, hts⟩ (met_X2_in l w) (va_cwS 3 hts (lw_S q570 q571 q51 q572) rfl rfl rfl hd_X2_in ⟨Nat.le_of_ble_eq_true rfl, Nat.le_of_ble_eq_true rfl⟩) pre_S rfl rfl hl.1 rfl (lv_room (Nat.le_of_ble_eq_true rfl)) dX2_change_18 ⟨Nat.le_refl _, Nat.le_refl _⟩) (fun r2 w => ?_)
    refine lv_if_eq (tgt := 58) hx hb dX2_change_21 (by decide) (fun c => ?_) (fun c => ?_)
    · have w := And.left w c
      exact wk_X2_change_L58 X hD  _ _ w _ _ _ hP hS (lv_sub hl [] rfl)
    · have w := And.right w c
      refine lv_iload_n hx hb dX2_change_24 rfl (lv_at hl 3 rfl) ?_
      refine lv_i2l hx hb dX2_change_25 rfl ?_
      refine lv_lconst (v := 0) hx hb dX2_change_26 (by decide) ?_
      refine lv_ldc2 (v := 10) hx hb hown (hts _ q784) dX2_change_27 ?_
      refine vp_callSi (W.runS (As := [.long i3.toInt64, .long (0 : Int64), .long (10 : Int64)]) (rest := []) ⟨hx, hb, hml, hown, hts⟩ (met_X2_in l w) (va_cwS 3 hts (lw_S q570 q571 q51 q572) rfl rfl rfl hd_X2_in ⟨Nat.le_of_ble_eq_true rfl, Nat.le_of_ble_eq_true rfl⟩) pre_S rfl rfl hl.1 rfl (lv_room (Nat.le_of_ble_eq_true rfl)) dX2_change_30 ⟨Nat.le_refl _, Nat.le_refl _⟩) (fun r3 w => ?_)
      refine lv_if_eq (tgt := 58) hx hb dX2_change_33 (by decide) (fun c => ?_) (fun c => ?_)
      · have w := And.left w c
        exact wk_X2_change_L58 X hD  _ _ w _ _ _ hP hS (lv_sub hl [] rfl)
      · have w := And.right w c
        refine lv_iload hx hb dX2_change_36 (lv_at hl 4 rfl) ?_
        refine lv_i2l hx hb dX2_change_38 rfl ?_
        refine lv_lconst (v := 0) hx hb dX2_change_39 (by decide) ?_
        refine lv_lconst (v := 1) hx hb dX2_change_40 (by decide) ?_
        refine vp_callSi (W.runS (As := [.long i4.toInt64, .long (0 : Int64), .long (1 : Int64)]) (rest := []) ⟨hx, hb, hml, hown, hts⟩ (met_X2_in l w) (va_cwS 3 hts (lw_S q570 q571 q51 q572) rfl rfl rfl hd_X2_in ⟨Nat.le_of_ble_eq_true rfl, Nat.le_of_ble_eq_true rfl⟩) pre_S rfl rfl hl.1 rfl (lv_room (Nat.le_of_ble_eq_true rfl)) dX2_change_41 ⟨Nat.le_refl _, Nat.le_refl _⟩) (fun r4 w => ?_)
        refine lv_if_eq (tgt := 58) hx hb dX2_change_44 (by decide) (fun c => ?_) (fun c => ?_)
        · have w := And.left w c
          exact wk_X2_change_L58 X hD  _ _ w _ _ _ hP hS (lv_sub hl [] rfl)
        · have w := And.right w c
          refine lv_iload hx hb dX2_change_47 (lv_at hl 5 rfl) ?_
          refine lv_i2l hx hb dX2_change_49 rfl ?_
          refine lv_lconst (v := 0) hx hb dX2_change_50 (by decide) ?_
          refine lv_lconst (v := 1) hx hb dX2_change_51 (by decide) ?_
          refine vp_callSi (W.runS (As := [.long i5.toInt64, .long (0 : Int64), .long (1 : Int64)]) (rest := []) ⟨hx, hb, hml, hown, hts⟩ (met_X2_in l w) (va_cwS 3 hts (lw_S q570 q571 q51 q572) rfl rfl rfl hd_X2_in ⟨Nat.le_of_ble_eq_true rfl, Nat.le_of_ble_eq_true rfl⟩) pre_S rfl rfl hl.1 rfl (lv_room (Nat.le_of_ble_eq_true rfl)) dX2_change_52 ⟨Nat.le_refl _, Nat.le_refl _⟩) (fun r5 w => ?_)
          refine lv_if_ne (tgt := 62) hx hb dX2_change_55 (by decide) (fun c => ?_) (fun c => ?_)
          · have w := And.right w c
            refine lv_iconst (v := 0) hx hb dX2_change_62 (by decide) ?_
            refine lv_istore (lv' := [(6, .int (0 : Int32)), (0, .ref (a 0)), (1, .int i1), (2, .int i2), (3, .int i3), (4, .int i4), (5, .int i5)]) hx hb dX2_change_63 hl (by decide) rfl (fun ls hl => ?_)
            obtain ⟨n, w⟩ := w
            exact wk_X2_change_L65 X hD  n _ _ _ _ _ _ _ _ w _ _ _ hP hS (lv_sub hl [1, 2, 3, 4, 5, 6, 0] rfl)
          · have w := And.left w c
            exact wk_X2_change_L58 X hD  _ _ w _ _ _ hP hS (lv_sub hl [] rfl)
abbrev rm_X2_chooseOf : Room := { frames := 0, cells := 0, slots := 0, locals := 0 }
theorem hd_X2_chooseOf : yX2_chooseOf.cls = RX2 ∧ yX2_chooseOf.cls ≠ "java/lang/invoke/MethodHandle" ∧ yX2_chooseOf.cls ≠ "java/lang/invoke/VarHandle" ∧ (parseMethodDescriptor yX2_chooseOf.desc).map (fun d => d.parameters.length) = some 2 := by decide +kernel
set_option maxHeartbeats 4000000 in
set_option maxRecDepth 100000 in
theorem wk_X2_chooseOf_L22 {p : Program} {l : Launch} {e : Env} {s : State} {m : MethodId} {args : Array Value} {below : List Frame} {meth : Method} {c : Code} {dC : Nat → ClassId} {dI : Nat → Nat → Nat} {ct : Nat → ClassId} {A : Nat → Prop} {a : Nat → Nat} {Post : Int64 → V → VL → Prop} {K2 : Int32 → Int32 → Int32 → V → VL → Prop}  (X : CxW p s m args meth c cX2_chooseOf 5 (some .long) RX2 dC dI ct A) (hD : ∀ (z : V) (g : VL), va_D A (MW a ct z g)) (hK2 : ∀ (i1 : Int32) (i2 : Int32) (i3 : Int32) (z : V) (g : VL), K2 i1 i2 i3 z g → ∀ (H : Heap) (locs : List Loc) (ls : Array Slot), va_P (dC, dI) vwCl (MW a ct z g) H → va_S A s.heap H locs → lv_has ls 5 [(0, .ref (a 0)), (1, .int i1), (2, .int i2), (3, .int i3)] → W p l e rm_X2_chooseOf s m args below meth c H locs 0 0 (MQ below (va_Ql (fun (r : Int64) (u : V × VL) => Post r u.1 u.2) (fun (u : V × VL) t => WPos dC dI ct (MW a ct u.1 u.2) A t) A) args s 0 0 A) (F0 m 2 ls [])) (i1 : Int32) (i2 : Int32) (i3 : Int32) (ls0 : Int64) (is1 : Int32) (z : V) (g : VL) (w : wp_X2_chooseOf_L22  Post K2 i1 i2 i3 ls0 is1 z g) : ∀ (H : Heap) (locs : List Loc) (ls : Array Slot), va_P (dC, dI) vwCl (MW a ct z g) H → va_S A s.heap H locs → lv_has ls 5 [(0, .ref (a 0)), (1, .int i1), (2, .int i2), (3, .int i3)] → W p l e rm_X2_chooseOf s m args below meth c H locs 0 0 (MQ below (va_Ql (fun (r : Int64) (u : V × VL) => Post r u.1 u.2) (fun (u : V × VL) t => WPos dC dI ct (MW a ct u.1 u.2) A t) A) args s 0 0 A) (F0 m 22 ls [.long ls0, .int is1, .ref (a 22)]) := by
  intro H locs ls hP hS hl
  have X0 := X
  obtain ⟨⟨hx, hb, hml, hr, hlk, hown, hts⟩, hA, hK, hN⟩ := X0
  unfold wp_X2_chooseOf_L22 at w
  obtain ⟨gi, w⟩ := w
  refine va_last hx hb hK hP (hD _ _) hS 22 1 rfl rfl gi dX2_chooseOf_22 (fun H locs hP _ hS => ?_)
  have hP : va_P (dC, dI) vwCl (MW a ct z (upL2 g 2 is1.toNatClampNeg ls0)) H := MW_u_g_2 hP
  refine lv_iinc (v := (i3 + 1)) (lv' := [(3, .int (i3 + 1)), (0, .ref (a 0)), (1, .int i1), (2, .int i2)]) hx hb dX2_chooseOf_23 hl (k := 3) rfl rfl (by decide) rfl (fun ls hl => ?_)
  refine lv_goto (tgt := 2) hx hb dX2_chooseOf_26 (by decide) ?_
  exact hK2 _ _ _ _ _ w _ _ _ hP hS (lv_sub hl [1, 2, 3, 0] rfl)
set_option maxHeartbeats 4000000 in
set_option maxRecDepth 100000 in
theorem wk_X2_chooseOf_S40 {p : Program} {l : Launch} {e : Env} {s : State} {m : MethodId} {args : Array Value} {below : List Frame} {meth : Method} {c : Code} {dC : Nat → ClassId} {dI : Nat → Nat → Nat} {ct : Nat → ClassId} {A : Nat → Prop} {a : Nat → Nat} {Post : Int64 → V → VL → Prop} {K31 : Int32 → Int32 → Int32 → V → VL → Prop} {K40 : Int32 → Int32 → Int32 → Int32 → V → VL → Prop}  (X : CxW p s m args meth c cX2_chooseOf 5 (some .long) RX2 dC dI ct A) (hD : ∀ (z : V) (g : VL), va_D A (MW a ct z g)) (hK31 : ∀ (i1 : Int32) (i2 : Int32) (i3 : Int32) (z : V) (g : VL), K31 i1 i2 i3 z g → ∀ (H : Heap) (locs : List Loc) (ls : Array Slot), va_P (dC, dI) vwCl (MW a ct z g) H → va_S A s.heap H locs → lv_has ls 5 [(0, .ref (a 0)), (1, .int i1), (2, .int i2), (3, .int i3)] → W p l e rm_X2_chooseOf s m args below meth c H locs 0 0 (MQ below (va_Ql (fun (r : Int64) (u : V × VL) => Post r u.1 u.2) (fun (u : V × VL) t => WPos dC dI ct (MW a ct u.1 u.2) A t) A) args s 0 0 A) (F0 m 31 ls [])) (hK40 : ∀ (i1 : Int32) (i2 : Int32) (i3 : Int32) (i4 : Int32) (z : V) (g : VL), K40 i1 i2 i3 i4 z g → ∀ (H : Heap) (locs : List Loc) (ls : Array Slot), va_P (dC, dI) vwCl (MW a ct z g) H → va_S A s.heap H locs → lv_has ls 5 [(0, .ref (a 0)), (1, .int i1), (2, .int i2), (3, .int i3), (4, .int i4)] → W p l e rm_X2_chooseOf s m args below meth c H locs 0 0 (MQ below (va_Ql (fun (r : Int64) (u : V × VL) => Post r u.1 u.2) (fun (u : V × VL) t => WPos dC dI ct (MW a ct u.1 u.2) A t) A) args s 0 0 A) (F0 m 40 ls [])) (i1 : Int32) (i2 : Int32) (i3 : Int32) (i4 : Int32) (z : V) (g : VL) (w : wp_X2_chooseOf_S40  Post K31 K40 i1 i2 i3 i4 z g) : ∀ (H : Heap) (locs : List Loc) (ls : Array Slot), va_P (dC, dI) vwCl (MW a ct z g) H → va_S A s.heap H locs → lv_has ls 5 [(0, .ref (a 0)), (1, .int i1), (2, .int i2), (3, .int i3), (4, .int i4)] → W p l e rm_X2_chooseOf s m args below meth c H locs 0 0 (MQ below (va_Ql (fun (r : Int64) (u : V × VL) => Post r u.1 u.2) (fun (u : V × VL) t => WPos dC dI ct (MW a ct u.1 u.2) A t) A) args s 0 0 A) (F0 m 40 ls []) := by
  intro H locs ls hP hS hl
  have X0 := X
  obtain ⟨⟨hx, hb, hml, hr, hlk, hown, hts⟩, hA, hK, hN⟩ := X0
  unfold wp_X2_chooseOf_S40 at w
  refine lv_iload hx hb dX2_chooseOf_40 (lv_at hl 4 rfl) ?_
  refine lv_if_le (tgt := 70) hx hb dX2_chooseOf_42 (by decide) (fun c => ?_) (fun c => ?_)
  · have w := And.left w c
    refine lv_iinc (v := (i3 + 1)) (lv' := [(3, .int (i3 + 1)), (0, .ref (a 0)), (1, .int i1), (2, .int i2), (4, .int i4)]) hx hb dX2_chooseOf_70 hl (k := 3) rfl rfl (by decide) rfl (fun ls hl => ?_)
    refine lv_goto (tgt := 31) hx hb dX2_chooseOf_73 (by decide) ?_
    exact hK31 _ _ _ _ _ w _ _ _ hP hS (lv_sub hl [1, 2, 3, 0] rfl)
  · have w := And.right w c
    refine lv_aload_n hx hb dX2_chooseOf_45 rfl (lv_at hl 0 rfl) ?_
    refine va_get (D := (dC, dI)) (ci := 2) (v := .ref (a 22)) (C := RX2) (T := TX2) (N := 34) hx hb hts in_X2 hown hK hP 0 rfl rfl 29 (by decide) (hts _ q487) (fun _ h9 => h9) rfl dX2_chooseOf_46 ?_
    refine lv_iload hx hb dX2_chooseOf_49 (lv_at hl 4 rfl) ?_
    refine lv_dup2_11 hx hb dX2_chooseOf_51 rfl rfl ?_
    obtain ⟨gi, w⟩ := w
    refine va_lald hx hb hK hP 22 1 rfl rfl gi dX2_chooseOf_52 ?_
    refine lv_aload_n hx hb dX2_chooseOf_53 rfl (lv_at hl 0 rfl) ?_
    refine va_get (D := (dC, dI)) (ci := 2) (v := .ref (a 22)) (C := RX2) (T := TX2) (N := 34) hx hb hts in_X2 hown hK hP 0 rfl rfl 29 (by decide) (hts _ q487) (fun _ h9 => h9) rfl dX2_chooseOf_54 ?_
    refine lv_iload hx hb dX2_chooseOf_57 (lv_at hl 4 rfl) ?_
    refine lv_iconst (v := 1) hx hb dX2_chooseOf_59 (by decide) ?_
    refine lv_isub hx hb dX2_chooseOf_60 ?_
    obtain ⟨gi, w⟩ := w
    refine va_lald hx hb hK hP 22 1 rfl rfl gi dX2_chooseOf_61 ?_
    refine lv_ladd hx hb dX2_chooseOf_62 ?_
    obtain ⟨gi, w⟩ := w
    refine va_last hx hb hK hP (hD _ _) hS 22 1 rfl rfl gi dX2_chooseOf_63 (fun H locs hP _ hS => ?_)
    have hP : va_P (dC, dI) vwCl (MW a ct z (upL2 g 2 i4.toNatClampNeg ((g 2 i4.toNatClampNeg) + (g 2 (i4 - (1 : Int32)).toNatClampNeg)))) H := MW_u_g_2 hP
    refine lv_iinc (v := (i4 + (-1))) (lv' := [(4, .int (i4 + (-1))), (0, .ref (a 0)), (1, .int i1), (2, .int i2), (3, .int i3)]) hx hb dX2_chooseOf_64 hl (k := 4) rfl rfl (by decide) rfl (fun ls hl => ?_)
    refine lv_goto (tgt := 40) hx hb dX2_chooseOf_67 (by decide) ?_
    exact hK40 _ _ _ _ _ _ w _ _ _ hP hS (lv_sub hl [1, 2, 3, 4, 0] rfl)
set_option maxHeartbeats 4000000 in
set_option maxRecDepth 100000 in
theorem wk_X2_chooseOf_L40 {p : Program} {l : Launch} {e : Env} {s : State} {m : MethodId} {args : Array Value} {below : List Frame} {meth : Method} {c : Code} {dC : Nat → ClassId} {dI : Nat → Nat → Nat} {ct : Nat → ClassId} {A : Nat → Prop} {a : Nat → Nat} {Post : Int64 → V → VL → Prop} {K31 : Int32 → Int32 → Int32 → V → VL → Prop}  (X : CxW p s m args meth c cX2_chooseOf 5 (some .long) RX2 dC dI ct A) (hD : ∀ (z : V) (g : VL), va_D A (MW a ct z g)) (hK31 : ∀ (i1 : Int32) (i2 : Int32) (i3 : Int32) (z : V) (g : VL), K31 i1 i2 i3 z g → ∀ (H : Heap) (locs : List Loc) (ls : Array Slot), va_P (dC, dI) vwCl (MW a ct z g) H → va_S A s.heap H locs → lv_has ls 5 [(0, .ref (a 0)), (1, .int i1), (2, .int i2), (3, .int i3)] → W p l e rm_X2_chooseOf s m args below meth c H locs 0 0 (MQ below (va_Ql (fun (r : Int64) (u : V × VL) => Post r u.1 u.2) (fun (u : V × VL) t => WPos dC dI ct (MW a ct u.1 u.2) A t) A) args s 0 0 A) (F0 m 31 ls [])) : ∀ (n : Nat) (i1 : Int32) (i2 : Int32) (i3 : Int32) (i4 : Int32) (z : V) (g : VL), wp_X2_chooseOf_L40  Post K31 n i1 i2 i3 i4 z g → ∀ (H : Heap) (locs : List Loc) (ls : Array Slot), va_P (dC, dI) vwCl (MW a ct z g) H → va_S A s.heap H locs → lv_has ls 5 [(0, .ref (a 0)), (1, .int i1), (2, .int i2), (3, .int i3), (4, .int i4)] → W p l e rm_X2_chooseOf s m args below meth c H locs 0 0 (MQ below (va_Ql (fun (r : Int64) (u : V × VL) => Post r u.1 u.2) (fun (u : V × VL) t => WPos dC dI ct (MW a ct u.1 u.2) A t) A) args s 0 0 A) (F0 m 40 ls []) := by
  intro n
  induction n with
  | zero => intro i1 i2 i3 i4 z g w; exact False.elim w
  | succ n ih => intro i1 i2 i3 i4 z g w H locs ls hP hS hl; exact wk_X2_chooseOf_S40 X hD hK31 ih i1 i2 i3 i4 z g w H locs ls hP hS hl
set_option maxHeartbeats 4000000 in
set_option maxRecDepth 100000 in
theorem wk_X2_chooseOf_S31 {p : Program} {l : Launch} {e : Env} {s : State} {m : MethodId} {args : Array Value} {below : List Frame} {meth : Method} {c : Code} {dC : Nat → ClassId} {dI : Nat → Nat → Nat} {ct : Nat → ClassId} {A : Nat → Prop} {a : Nat → Nat} {Post : Int64 → V → VL → Prop} {K31 : Int32 → Int32 → Int32 → V → VL → Prop}  (X : CxW p s m args meth c cX2_chooseOf 5 (some .long) RX2 dC dI ct A) (hD : ∀ (z : V) (g : VL), va_D A (MW a ct z g)) (hK31 : ∀ (i1 : Int32) (i2 : Int32) (i3 : Int32) (z : V) (g : VL), K31 i1 i2 i3 z g → ∀ (H : Heap) (locs : List Loc) (ls : Array Slot), va_P (dC, dI) vwCl (MW a ct z g) H → va_S A s.heap H locs → lv_has ls 5 [(0, .ref (a 0)), (1, .int i1), (2, .int i2), (3, .int i3)] → W p l e rm_X2_chooseOf s m args below meth c H locs 0 0 (MQ below (va_Ql (fun (r : Int64) (u : V × VL) => Post r u.1 u.2) (fun (u : V × VL) t => WPos dC dI ct (MW a ct u.1 u.2) A t) A) args s 0 0 A) (F0 m 31 ls [])) (i1 : Int32) (i2 : Int32) (i3 : Int32) (z : V) (g : VL) (w : wp_X2_chooseOf_S31  Post K31 i1 i2 i3 z g) : ∀ (H : Heap) (locs : List Loc) (ls : Array Slot), va_P (dC, dI) vwCl (MW a ct z g) H → va_S A s.heap H locs → lv_has ls 5 [(0, .ref (a 0)), (1, .int i1), (2, .int i2), (3, .int i3)] → W p l e rm_X2_chooseOf s m args below meth c H locs 0 0 (MQ below (va_Ql (fun (r : Int64) (u : V × VL) => Post r u.1 u.2) (fun (u : V × VL) t => WPos dC dI ct (MW a ct u.1 u.2) A t) A) args s 0 0 A) (F0 m 31 ls []) := by
  intro H locs ls hP hS hl
  have X0 := X
  obtain ⟨⟨hx, hb, hml, hr, hlk, hown, hts⟩, hA, hK, hN⟩ := X0
  unfold wp_X2_chooseOf_S31 at w
  refine lv_iload_n hx hb dX2_chooseOf_31 rfl (lv_at hl 3 rfl) ?_
  refine lv_iload_n hx hb dX2_chooseOf_32 rfl (lv_at hl 1 rfl) ?_
  refine lv_icmp_ge (tgt := 76) hx hb dX2_chooseOf_33 (by decide) (fun c => ?_) (fun c => ?_)
  · have w := And.left w c
    refine lv_aload_n hx hb dX2_chooseOf_76 rfl (lv_at hl 0 rfl) ?_
    refine va_get (D := (dC, dI)) (ci := 2) (v := .ref (a 22)) (C := RX2) (T := TX2) (N := 34) hx hb hts in_X2 hown hK hP 0 rfl rfl 29 (by decide) (hts _ q487) (fun _ h9 => h9) rfl dX2_chooseOf_77 ?_
    refine lv_iload_n hx hb dX2_chooseOf_80 rfl (lv_at hl 2 rfl) ?_
    obtain ⟨gi, w⟩ := w
    refine va_lald hx hb hK hP 22 1 rfl rfl gi dX2_chooseOf_81 ?_
    exact W.lret (v := (g 2 i2.toNatClampNeg)) hx hb hr (fun t ht hW => ⟨⟨(g 2 i2.toNatClampNeg), (z, g), rfl, w, by rw [ht]; exact hP, va_K.moved hW.alike hK, (hD _ _)⟩, hS.F ht⟩) hS.2.2 dX2_chooseOf_82 hlk
  · have w := And.right w c
    refine lv_bipush (v := 30) hx hb dX2_chooseOf_36 (by decide) ?_
    refine lv_istore (lv' := [(4, .int (30 : Int32)), (0, .ref (a 0)), (1, .int i1), (2, .int i2), (3, .int i3)]) hx hb dX2_chooseOf_38 hl (by decide) rfl (fun ls hl => ?_)
    obtain ⟨n, w⟩ := w
    exact wk_X2_chooseOf_L40 X hD hK31 n _ _ _ _ _ _ w _ _ _ hP hS (lv_sub hl [1, 2, 3, 4, 0] rfl)
set_option maxHeartbeats 4000000 in
set_option maxRecDepth 100000 in
theorem wk_X2_chooseOf_L31 {p : Program} {l : Launch} {e : Env} {s : State} {m : MethodId} {args : Array Value} {below : List Frame} {meth : Method} {c : Code} {dC : Nat → ClassId} {dI : Nat → Nat → Nat} {ct : Nat → ClassId} {A : Nat → Prop} {a : Nat → Nat} {Post : Int64 → V → VL → Prop}   (X : CxW p s m args meth c cX2_chooseOf 5 (some .long) RX2 dC dI ct A) (hD : ∀ (z : V) (g : VL), va_D A (MW a ct z g))  : ∀ (n : Nat) (i1 : Int32) (i2 : Int32) (i3 : Int32) (z : V) (g : VL), wp_X2_chooseOf_L31  Post  n i1 i2 i3 z g → ∀ (H : Heap) (locs : List Loc) (ls : Array Slot), va_P (dC, dI) vwCl (MW a ct z g) H → va_S A s.heap H locs → lv_has ls 5 [(0, .ref (a 0)), (1, .int i1), (2, .int i2), (3, .int i3)] → W p l e rm_X2_chooseOf s m args below meth c H locs 0 0 (MQ below (va_Ql (fun (r : Int64) (u : V × VL) => Post r u.1 u.2) (fun (u : V × VL) t => WPos dC dI ct (MW a ct u.1 u.2) A t) A) args s 0 0 A) (F0 m 31 ls []) := by
  intro n
  induction n with
  | zero => intro i1 i2 i3 z g w; exact False.elim w
  | succ n ih => intro i1 i2 i3 z g w H locs ls hP hS hl; exact wk_X2_chooseOf_S31 X hD  ih i1 i2 i3 z g w H locs ls hP hS hl
set_option maxHeartbeats 4000000 in
set_option maxRecDepth 100000 in
theorem wk_X2_chooseOf_S2 {p : Program} {l : Launch} {e : Env} {s : State} {m : MethodId} {args : Array Value} {below : List Frame} {meth : Method} {c : Code} {dC : Nat → ClassId} {dI : Nat → Nat → Nat} {ct : Nat → ClassId} {A : Nat → Prop} {a : Nat → Nat} {Post : Int64 → V → VL → Prop} {K2 : Int32 → Int32 → Int32 → V → VL → Prop}  (X : CxW p s m args meth c cX2_chooseOf 5 (some .long) RX2 dC dI ct A) (hD : ∀ (z : V) (g : VL), va_D A (MW a ct z g)) (hK2 : ∀ (i1 : Int32) (i2 : Int32) (i3 : Int32) (z : V) (g : VL), K2 i1 i2 i3 z g → ∀ (H : Heap) (locs : List Loc) (ls : Array Slot), va_P (dC, dI) vwCl (MW a ct z g) H → va_S A s.heap H locs → lv_has ls 5 [(0, .ref (a 0)), (1, .int i1), (2, .int i2), (3, .int i3)] → W p l e rm_X2_chooseOf s m args below meth c H locs 0 0 (MQ below (va_Ql (fun (r : Int64) (u : V × VL) => Post r u.1 u.2) (fun (u : V × VL) t => WPos dC dI ct (MW a ct u.1 u.2) A t) A) args s 0 0 A) (F0 m 2 ls [])) (i1 : Int32) (i2 : Int32) (i3 : Int32) (z : V) (g : VL) (w : wp_X2_chooseOf_S2  Post K2 i1 i2 i3 z g) : ∀ (H : Heap) (locs : List Loc) (ls : Array Slot), va_P (dC, dI) vwCl (MW a ct z g) H → va_S A s.heap H locs → lv_has ls 5 [(0, .ref (a 0)), (1, .int i1), (2, .int i2), (3, .int i3)] → W p l e rm_X2_chooseOf s m args below meth c H locs 0 0 (MQ below (va_Ql (fun (r : Int64) (u : V × VL) => Post r u.1 u.2) (fun (u : V × VL) t => WPos dC dI ct (MW a ct u.1 u.2) A t) A) args s 0 0 A) (F0 m 2 ls []) := by
  intro H locs ls hP hS hl
  have X0 := X
  obtain ⟨⟨hx, hb, hml, hr, hlk, hown, hts⟩, hA, hK, hN⟩ := X0
  unfold wp_X2_chooseOf_S2 at w
  refine lv_iload_n hx hb dX2_chooseOf_2 rfl (lv_at hl 3 rfl) ?_
  refine lv_bipush (v := 30) hx hb dX2_chooseOf_3 (by decide) ?_
  refine lv_icmp_gt (tgt := 29) hx hb dX2_chooseOf_5 (by decide) (fun c => ?_) (fun c => ?_)
  · have w := And.left w c
    refine lv_iconst (v := 0) hx hb dX2_chooseOf_29 (by decide) ?_
    refine lv_istore_n (lv' := [(3, .int (0 : Int32)), (0, .ref (a 0)), (1, .int i1), (2, .int i2)]) hx hb dX2_chooseOf_30 rfl hl (by decide) rfl (fun ls hl => ?_)
    obtain ⟨n, w⟩ := w
    exact wk_X2_chooseOf_L31 X hD  n _ _ _ _ _ w _ _ _ hP hS (lv_sub hl [1, 2, 3, 0] rfl)
  · have w := And.right w c
    refine lv_aload_n hx hb dX2_chooseOf_8 rfl (lv_at hl 0 rfl) ?_
    refine va_get (D := (dC, dI)) (ci := 2) (v := .ref (a 22)) (C := RX2) (T := TX2) (N := 34) hx hb hts in_X2 hown hK hP 0 rfl rfl 29 (by decide) (hts _ q487) (fun _ h9 => h9) rfl dX2_chooseOf_9 ?_
    refine lv_iload_n hx hb dX2_chooseOf_12 rfl (lv_at hl 3 rfl) ?_
    refine lv_iload_n hx hb dX2_chooseOf_13 rfl (lv_at hl 3 rfl) ?_
    refine lv_if_ne (tgt := 21) hx hb dX2_chooseOf_14 (by decide) (fun c => ?_) (fun c => ?_)
    · have w := And.right w c
      refine lv_lconst (v := 0) hx hb dX2_chooseOf_21 (by decide) ?_
      exact wk_X2_chooseOf_L22 X hD hK2 _ _ _ _ _ _ _ w _ _ _ hP hS (lv_sub hl [0, 1, 2, 3] rfl)
    · have w := And.left w c
      refine lv_lconst (v := 1) hx hb dX2_chooseOf_17 (by decide) ?_
      refine lv_goto (tgt := 22) hx hb dX2_chooseOf_18 (by decide) ?_
      exact wk_X2_chooseOf_L22 X hD hK2 _ _ _ _ _ _ _ w _ _ _ hP hS (lv_sub hl [0, 1, 2, 3] rfl)
set_option maxHeartbeats 4000000 in
set_option maxRecDepth 100000 in
theorem wk_X2_chooseOf_L2 {p : Program} {l : Launch} {e : Env} {s : State} {m : MethodId} {args : Array Value} {below : List Frame} {meth : Method} {c : Code} {dC : Nat → ClassId} {dI : Nat → Nat → Nat} {ct : Nat → ClassId} {A : Nat → Prop} {a : Nat → Nat} {Post : Int64 → V → VL → Prop}   (X : CxW p s m args meth c cX2_chooseOf 5 (some .long) RX2 dC dI ct A) (hD : ∀ (z : V) (g : VL), va_D A (MW a ct z g))  : ∀ (n : Nat) (i1 : Int32) (i2 : Int32) (i3 : Int32) (z : V) (g : VL), wp_X2_chooseOf_L2  Post  n i1 i2 i3 z g → ∀ (H : Heap) (locs : List Loc) (ls : Array Slot), va_P (dC, dI) vwCl (MW a ct z g) H → va_S A s.heap H locs → lv_has ls 5 [(0, .ref (a 0)), (1, .int i1), (2, .int i2), (3, .int i3)] → W p l e rm_X2_chooseOf s m args below meth c H locs 0 0 (MQ below (va_Ql (fun (r : Int64) (u : V × VL) => Post r u.1 u.2) (fun (u : V × VL) t => WPos dC dI ct (MW a ct u.1 u.2) A t) A) args s 0 0 A) (F0 m 2 ls []) := by
  intro n
  induction n with
  | zero => intro i1 i2 i3 z g w; exact False.elim w
  | succ n ih => intro i1 i2 i3 z g w H locs ls hP hS hl; exact wk_X2_chooseOf_S2 X hD  ih i1 i2 i3 z g w H locs ls hP hS hl
set_option maxHeartbeats 4000000 in
set_option maxRecDepth 100000 in
theorem met_X2_chooseOf (l : Launch) (dC : Nat → ClassId) (dI : Nat → Nat → Nat) (ct : Nat → ClassId) (a : Nat → Nat) (sz : Nat) {i1 : Int32} {i2 : Int32} {z : V} {g : VL} {Post : Int64 → V → VL → Prop} (w : wp_X2_chooseOf i1 i2 z g Post) : Met l yX2_chooseOf (ws_ yX2_chooseOf cX2_chooseOf 5 (some .long)) rm_X2_chooseOf (va_Pc [.ref (a 0), .int i1, .int i2] (fun U => WPre dC dI ct (MW a ct z g) sz U)) ((fun A => (va_Ql (fun (r : Int64) (u : V × VL) => Post r u.1 u.2) (fun (u : V × VL) t => WPos dC dI ct (MW a ct u.1 u.2) A t) A)) (va_A (MW a ct z g) sz)) 0 0 (va_A (MW a ct z g) sz) := by
  refine open_W (fun A => (va_Ql (fun (r : Int64) (u : V × VL) => Post r u.1 u.2) (fun (u : V × VL) t => WPos dC dI ct (MW a ct u.1 u.2) A t) A)) (by decide) (Nat.le_of_ble_eq_true rfl) ?_
  intro p e s m args below meth c ls A X hD0 hP hS hl
  have X0 := X
  obtain ⟨⟨hx, hb, hml, hr, hlk, hown, hts⟩, hA, hK, hN⟩ := X0
  have hD : ∀ (z' : V) (g' : VL), va_D A (MW a ct z' g') := fun z' g' => va_D_addr hD0 rfl
  have hl : lv_has ls 5 [(0, .ref (a 0)), (1, .int i1), (2, .int i2)] := hl
  unfold wp_X2_chooseOf at w
  have hS0 := hS
  refine lv_iconst (v := 0) hx hb dX2_chooseOf_0 (by decide) ?_
  refine lv_istore_n (lv' := [(3, .int (0 : Int32)), (0, .ref (a 0)), (1, .int i1), (2, .int i2)]) hx hb dX2_chooseOf_1 rfl hl (by decide) rfl (fun ls hl => ?_)
  obtain ⟨n, w⟩ := w
  exact wk_X2_chooseOf_L2 X hD  n _ _ _ _ _ w _ _ _ hP hS (lv_sub hl [1, 2, 3, 0] rfl)
abbrev rm_X2_sample : Room := { frames := 1, cells := 0, slots := 0, locals := 30 }
theorem hd_X2_sample : yX2_sample.cls = RX2 ∧ yX2_sample.cls ≠ "java/lang/invoke/MethodHandle" ∧ yX2_sample.cls ≠ "java/lang/invoke/VarHandle" ∧ (parseMethodDescriptor yX2_sample.desc).map (fun d => d.parameters.length) = some 5 := by decide +kernel
set_option maxHeartbeats 4000000 in
set_option maxRecDepth 100000 in
theorem wk_X2_sample_L57 {p : Program} {l : Launch} {e : Env} {s : State} {m : MethodId} {args : Array Value} {below : List Frame} {meth : Method} {c : Code} {dC : Nat → ClassId} {dI : Nat → Nat → Nat} {ct : Nat → ClassId} {A : Nat → Prop} {a : Nat → Nat} {Post : Int64 → V → VL → Prop}   (X : CxW p s m args meth c cX2_sample 6 (some .long) RX2 dC dI ct A) (hD : ∀ (z : V) (g : VL), va_D A (MW a ct z g))  (z : V) (g : VL) (w : wp_X2_sample_L57  Post  z g) : ∀ (H : Heap) (locs : List Loc) (ls : Array Slot), va_P (dC, dI) vwCl (MW a ct z g) H → va_S A s.heap H locs → lv_has ls 6 [] → W p l e rm_X2_sample s m args below meth c H locs 0 0 (MQ below (va_Ql (fun (r : Int64) (u : V × VL) => Post r u.1 u.2) (fun (u : V × VL) t => WPos dC dI ct (MW a ct u.1 u.2) A t) A) args s 0 0 A) (F0 m 57 ls []) := by
  intro H locs ls hP hS hl
  have X0 := X
  obtain ⟨⟨hx, hb, hml, hr, hlk, hown, hts⟩, hA, hK, hN⟩ := X0
  unfold wp_X2_sample_L57 at w
  refine lv_ldc2 (v := -1000000000000000002) hx hb hown (hts _ q785) dX2_sample_57 ?_
  exact W.lret (v := (-1000000000000000002 : Int64)) hx hb hr (fun t ht hW => ⟨⟨(-1000000000000000002 : Int64), (z, g), rfl, w, by rw [ht]; exact hP, va_K.moved hW.alike hK, (hD _ _)⟩, hS.F ht⟩) hS.2.2 dX2_sample_60 hlk
set_option maxHeartbeats 4000000 in
set_option maxRecDepth 100000 in
theorem met_X2_sample (l : Launch) (dC : Nat → ClassId) (dI : Nat → Nat → Nat) (ct : Nat → ClassId) (a : Nat → Nat) (sz : Nat) {i1 : Int32} {i2 : Int32} {i3 : Int32} {i4 : Int32} {i5 : Int32} {z : V} {g : VL} {Post : Int64 → V → VL → Prop} (w : wp_X2_sample i1 i2 i3 i4 i5 z g Post) : Met l yX2_sample (ws_ yX2_sample cX2_sample 6 (some .long)) rm_X2_sample (va_Pc [.ref (a 0), .int i1, .int i2, .int i3, .int i4, .int i5] (fun U => WPre dC dI ct (MW a ct z g) sz U)) ((fun A => (va_Ql (fun (r : Int64) (u : V × VL) => Post r u.1 u.2) (fun (u : V × VL) t => WPos dC dI ct (MW a ct u.1 u.2) A t) A)) (va_A (MW a ct z g) sz)) 0 0 (va_A (MW a ct z g) sz) := by
  refine open_W (fun A => (va_Ql (fun (r : Int64) (u : V × VL) => Post r u.1 u.2) (fun (u : V × VL) t => WPos dC dI ct (MW a ct u.1 u.2) A t) A)) (by decide) (Nat.le_of_ble_eq_true rfl) ?_
  intro p e s m args below meth c ls A X hD0 hP hS hl
  have X0 := X
  obtain ⟨⟨hx, hb, hml, hr, hlk, hown, hts⟩, hA, hK, hN⟩ := X0
  have hD : ∀ (z' : V) (g' : VL), va_D A (MW a ct z' g') := fun z' g' => va_D_addr hD0 rfl
  have hl : lv_has ls 6 [(0, .ref (a 0)), (1, .int i1), (2, .int i2), (3, .int i3), (4, .int i4), (5, .int i5)] := hl
  unfold wp_X2_sample at w
  have hS0 := hS
  refine lv_iload_n hx hb dX2_sample_0 rfl (lv_at hl 1 rfl) ?_
  refine lv_i2l hx hb dX2_sample_1 rfl ?_
  refine lv_lconst (v := 1) hx hb dX2_sample_2 (by decide) ?_
  refine lv_ldc2 (v := 30) hx hb hown (hts _ q793) dX2_sample_3 ?_
  refine vp_callSi (W.runS (As := [.long i1.toInt64, .long (1 : Int64), .long (30 : Int64)]) (rest := []) ⟨hx, hb, hml, hown, hts⟩ (met_X2_in l w) (va_cwS 3 hts (lw_S q570 q571 q51 q572) rfl rfl rfl hd_X2_in ⟨Nat.le_of_ble_eq_true rfl, Nat.le_of_ble_eq_true rfl⟩) pre_S rfl rfl hl.1 rfl (lv_room (Nat.le_of_ble_eq_true rfl)) dX2_sample_6 ⟨Nat.le_refl _, Nat.le_refl _⟩) (fun r1 w => ?_)
  refine lv_if_eq (tgt := 57) hx hb dX2_sample_9 (by decide) (fun c => ?_) (fun c => ?_)
  · have w := And.left w c
    exact wk_X2_sample_L57 X hD  _ _ w _ _ _ hP hS (lv_sub hl [] rfl)
  · have w := And.right w c
    refine lv_iload_n hx hb dX2_sample_12 rfl (lv_at hl 2 rfl) ?_
    refine lv_i2l hx hb dX2_sample_13 rfl ?_
    refine lv_lconst (v := 0) hx hb dX2_sample_14 (by decide) ?_
    refine lv_iload_n hx hb dX2_sample_15 rfl (lv_at hl 1 rfl) ?_
    refine lv_i2l hx hb dX2_sample_16 rfl ?_
    refine vp_callSi (W.runS (As := [.long i2.toInt64, .long (0 : Int64), .long i1.toInt64]) (rest := []) ⟨hx, hb, hml, hown, hts⟩ (met_X2_in l w) (va_cwS 3 hts (lw_S q570 q571 q51 q572) rfl rfl rfl hd_X2_in ⟨Nat.le_of_ble_eq_true rfl, Nat.le_of_ble_eq_true rfl⟩) pre_S rfl rfl hl.1 rfl (lv_room (Nat.le_of_ble_eq_true rfl)) dX2_sample_17 ⟨Nat.le_refl _, Nat.le_refl _⟩) (fun r2 w => ?_)
    refine lv_if_eq (tgt := 57) hx hb dX2_sample_20 (by decide) (fun c => ?_) (fun c => ?_)
    · have w := And.left w c
      exact wk_X2_sample_L57 X hD  _ _ w _ _ _ hP hS (lv_sub hl [] rfl)
    · have w := And.right w c
      refine lv_iload_n hx hb dX2_sample_23 rfl (lv_at hl 3 rfl) ?_
      refine lv_i2l hx hb dX2_sample_24 rfl ?_
      refine lv_lconst (v := 0) hx hb dX2_sample_25 (by decide) ?_
      refine lv_iload_n hx hb dX2_sample_26 rfl (lv_at hl 1 rfl) ?_
      refine lv_i2l hx hb dX2_sample_27 rfl ?_
      refine vp_callSi (W.runS (As := [.long i3.toInt64, .long (0 : Int64), .long i1.toInt64]) (rest := []) ⟨hx, hb, hml, hown, hts⟩ (met_X2_in l w) (va_cwS 3 hts (lw_S q570 q571 q51 q572) rfl rfl rfl hd_X2_in ⟨Nat.le_of_ble_eq_true rfl, Nat.le_of_ble_eq_true rfl⟩) pre_S rfl rfl hl.1 rfl (lv_room (Nat.le_of_ble_eq_true rfl)) dX2_sample_28 ⟨Nat.le_refl _, Nat.le_refl _⟩) (fun r3 w => ?_)
      refine lv_if_eq (tgt := 57) hx hb dX2_sample_31 (by decide) (fun c => ?_) (fun c => ?_)
      · have w := And.left w c
        exact wk_X2_sample_L57 X hD  _ _ w _ _ _ hP hS (lv_sub hl [] rfl)
      · have w := And.right w c
        refine lv_iload hx hb dX2_sample_34 (lv_at hl 4 rfl) ?_
        refine lv_i2l hx hb dX2_sample_36 rfl ?_
        refine lv_lconst (v := 0) hx hb dX2_sample_37 (by decide) ?_
        refine lv_iload_n hx hb dX2_sample_38 rfl (lv_at hl 3 rfl) ?_
        refine lv_i2l hx hb dX2_sample_39 rfl ?_
        refine vp_callSi (W.runS (As := [.long i4.toInt64, .long (0 : Int64), .long i3.toInt64]) (rest := []) ⟨hx, hb, hml, hown, hts⟩ (met_X2_in l w) (va_cwS 3 hts (lw_S q570 q571 q51 q572) rfl rfl rfl hd_X2_in ⟨Nat.le_of_ble_eq_true rfl, Nat.le_of_ble_eq_true rfl⟩) pre_S rfl rfl hl.1 rfl (lv_room (Nat.le_of_ble_eq_true rfl)) dX2_sample_40 ⟨Nat.le_refl _, Nat.le_refl _⟩) (fun r4 w => ?_)
        refine lv_if_eq (tgt := 57) hx hb dX2_sample_43 (by decide) (fun c => ?_) (fun c => ?_)
        · have w := And.left w c
          exact wk_X2_sample_L57 X hD  _ _ w _ _ _ hP hS (lv_sub hl [] rfl)
        · have w := And.right w c
          refine lv_iload hx hb dX2_sample_46 (lv_at hl 5 rfl) ?_
          refine lv_i2l hx hb dX2_sample_48 rfl ?_
          refine lv_lconst (v := 0) hx hb dX2_sample_49 (by decide) ?_
          refine lv_lconst (v := 1) hx hb dX2_sample_50 (by decide) ?_
          refine vp_callSi (W.runS (As := [.long i5.toInt64, .long (0 : Int64), .long (1 : Int64)]) (rest := []) ⟨hx, hb, hml, hown, hts⟩ (met_X2_in l w) (va_cwS 3 hts (lw_S q570 q571 q51 q572) rfl rfl rfl hd_X2_in ⟨Nat.le_of_ble_eq_true rfl, Nat.le_of_ble_eq_true rfl⟩) pre_S rfl rfl hl.1 rfl (lv_room (Nat.le_of_ble_eq_true rfl)) dX2_sample_51 ⟨Nat.le_refl _, Nat.le_refl _⟩) (fun r5 w => ?_)
          refine lv_if_ne (tgt := 61) hx hb dX2_sample_54 (by decide) (fun c => ?_) (fun c => ?_)
          · have w := And.right w c
            refine lv_aload_n hx hb dX2_sample_61 rfl (lv_at hl 0 rfl) ?_
            refine lv_iload_n hx hb dX2_sample_62 rfl (lv_at hl 2 rfl) ?_
            refine lv_iload hx hb dX2_sample_63 (lv_at hl 4 rfl) ?_
            refine va_calll (va_runV (As := [.int i2, .int i4]) (rest := []) ⟨hx, hb, hml, hown, hts⟩ (met_X2_chooseOf l dC dI ct a _ w) (cwV 2 hts (lw_V q794 q796 qs39 q51 q797) rfl rfl rfl hd_X2_chooseOf ⟨Nat.le_of_ble_eq_true rfl, Nat.le_of_ble_eq_true rfl⟩) (pre_V hK hP (hD _ _) hN (va_recv hK hP (ci := 2) (q0 := 0) rfl rfl)) rfl rfl hl.1 rfl (lv_room (Nat.le_of_ble_eq_true rfl)) dX2_sample_65 ⟨Nat.le_refl _, Nat.le_refl _⟩) hS (fun q _ h => x_free (hD _ _) hS hA q h) (x_free (hD _ _) hS hA) (fun r6 u t H locs ht hvm w hB hz hk hS => ?_)
            obtain ⟨z_6, g_6⟩ := u
            dsimp only at w
            have hP : va_P (dC, dI) vwCl (MW a ct z_6 g_6) H := post_P hB ht
            refine lv_aload_n hx hb dX2_sample_68 rfl (lv_at hl 0 rfl) ?_
            refine lv_iload_n hx hb dX2_sample_69 rfl (lv_at hl 1 rfl) ?_
            refine lv_iload_n hx hb dX2_sample_70 rfl (lv_at hl 2 rfl) ?_
            refine lv_isub hx hb dX2_sample_71 ?_
            refine lv_iload_n hx hb dX2_sample_72 rfl (lv_at hl 3 rfl) ?_
            refine lv_iload hx hb dX2_sample_73 (lv_at hl 4 rfl) ?_
            refine lv_isub hx hb dX2_sample_75 ?_
            refine va_calll (va_runV (As := [.int (i1 - i2), .int (i3 - i4)]) (rest := [.long r6]) ⟨hx, hb, hml, hown, hts⟩ (met_X2_chooseOf l dC dI ct a _ w) (cwV 2 hts (lw_V q794 q796 qs39 q51 q797) rfl rfl rfl hd_X2_chooseOf ⟨Nat.le_of_ble_eq_true rfl, Nat.le_of_ble_eq_true rfl⟩) (pre_V hK hP (hD _ _) hN (va_recv hK hP (ci := 2) (q0 := 0) rfl rfl)) rfl rfl hl.1 rfl (lv_room (Nat.le_of_ble_eq_true rfl)) dX2_sample_76 ⟨Nat.le_refl _, Nat.le_refl _⟩) hS (fun q _ h => x_free (hD _ _) hS hA q h) (x_free (hD _ _) hS hA) (fun r7 u t H locs ht hvm w hB hz hk hS => ?_)
            obtain ⟨z_7, g_7⟩ := u
            dsimp only at w
            have hP : va_P (dC, dI) vwCl (MW a ct z_7 g_7) H := post_P hB ht
            refine lv_lmul hx hb dX2_sample_79 ?_
            refine lv_aload_n hx hb dX2_sample_80 rfl (lv_at hl 0 rfl) ?_
            refine lv_iload_n hx hb dX2_sample_81 rfl (lv_at hl 1 rfl) ?_
            refine lv_iload_n hx hb dX2_sample_82 rfl (lv_at hl 3 rfl) ?_
            refine va_calll (va_runV (As := [.int i1, .int i3]) (rest := [.long (r6 * r7)]) ⟨hx, hb, hml, hown, hts⟩ (met_X2_chooseOf l dC dI ct a _ w) (cwV 2 hts (lw_V q794 q796 qs39 q51 q797) rfl rfl rfl hd_X2_chooseOf ⟨Nat.le_of_ble_eq_true rfl, Nat.le_of_ble_eq_true rfl⟩) (pre_V hK hP (hD _ _) hN (va_recv hK hP (ci := 2) (q0 := 0) rfl rfl)) rfl rfl hl.1 rfl (lv_room (Nat.le_of_ble_eq_true rfl)) dX2_sample_83 ⟨Nat.le_refl _, Nat.le_refl _⟩) hS (fun q _ h => x_free (hD _ _) hS hA q h) (x_free (hD _ _) hS hA) (fun r8 u t H locs ht hvm w hB hz hk hS => ?_)
            obtain ⟨z_8, g_8⟩ := u
            dsimp only at w
            have hP : va_P (dC, dI) vwCl (MW a ct z_8 g_8) H := post_P hB ht
            refine lv_iload hx hb dX2_sample_86 (lv_at hl 5 rfl) ?_
            refine vp_callSl (W.runS (As := [.long (r6 * r7), .long r8, .int i5]) (rest := []) ⟨hx, hb, hml, hown, hts⟩ (met_X2_lowest l w) (va_cwS 3 hts (lw_S q786 q787 q51 q788) rfl rfl rfl hd_X2_lowest ⟨Nat.le_of_ble_eq_true rfl, Nat.le_of_ble_eq_true rfl⟩) pre_S rfl rfl hl.1 rfl (lv_room (Nat.le_of_ble_eq_true rfl)) dX2_sample_88 ⟨Nat.le_refl _, Nat.le_refl _⟩) (fun r9 w => ?_)
            exact W.lret (v := r9) hx hb hr (fun t ht hW => ⟨⟨r9, (z_8, g_8), rfl, w, by rw [ht]; exact hP, va_K.moved hW.alike hK, (hD _ _)⟩, hS.F ht⟩) hS.2.2 dX2_sample_91 hlk
          · have w := And.left w c
            exact wk_X2_sample_L57 X hD  _ _ w _ _ _ hP hS (lv_sub hl [] rfl)
abbrev rm_X2_seen : Room := { frames := 1, cells := 0, slots := 0, locals := 25 }
theorem hd_X2_seen : yX2_seen.cls = RX2 ∧ yX2_seen.cls ≠ "java/lang/invoke/MethodHandle" ∧ yX2_seen.cls ≠ "java/lang/invoke/VarHandle" ∧ (parseMethodDescriptor yX2_seen.desc).map (fun d => d.parameters.length) = some 3 := by decide +kernel
set_option maxHeartbeats 4000000 in
set_option maxRecDepth 100000 in
theorem wk_X2_seen_L34 {p : Program} {l : Launch} {e : Env} {s : State} {m : MethodId} {args : Array Value} {below : List Frame} {meth : Method} {c : Code} {dC : Nat → ClassId} {dI : Nat → Nat → Nat} {ct : Nat → ClassId} {A : Nat → Prop} {a : Nat → Nat} {Post : Int32 → V → VL → Prop}   (X : CxW p s m args meth c cX2_seen 4 (some .int) RX2 dC dI ct A) (hD : ∀ (z : V) (g : VL), va_D A (MW a ct z g))  (z : V) (g : VL) (w : wp_X2_seen_L34  Post  z g) : ∀ (H : Heap) (locs : List Loc) (ls : Array Slot), va_P (dC, dI) vwCl (MW a ct z g) H → va_S A s.heap H locs → lv_has ls 4 [] → W p l e rm_X2_seen s m args below meth c H locs 0 0 (MQ below (va_Qi (fun (r : Int32) (u : V × VL) => Post r u.1 u.2) (fun (u : V × VL) t => WPos dC dI ct (MW a ct u.1 u.2) A t) A) args s 0 0 A) (F0 m 34 ls []) := by
  intro H locs ls hP hS hl
  have X0 := X
  obtain ⟨⟨hx, hb, hml, hr, hlk, hown, hts⟩, hA, hK, hN⟩ := X0
  unfold wp_X2_seen_L34 at w
  refine lv_bipush (v := -2) hx hb dX2_seen_34 (by decide) ?_
  exact W.iret (v := (-2 : Int32)) hx hb hr (fun t ht hW => ⟨⟨(-2 : Int32), (z, g), rfl, w, by rw [ht]; exact hP, va_K.moved hW.alike hK, (hD _ _)⟩, hS.F ht⟩) hS.2.2 dX2_seen_36 hlk
set_option maxHeartbeats 4000000 in
set_option maxRecDepth 100000 in
theorem met_X2_seen (l : Launch) (dC : Nat → ClassId) (dI : Nat → Nat → Nat) (ct : Nat → ClassId) (a : Nat → Nat) (sz : Nat) {i1 : Int32} {i2 : Int32} {i3 : Int32} {z : V} {g : VL} {Post : Int32 → V → VL → Prop} (w : wp_X2_seen i1 i2 i3 z g Post) : Met l yX2_seen (ws_ yX2_seen cX2_seen 4 (some .int)) rm_X2_seen (va_Pc [.ref (a 0), .int i1, .int i2, .int i3] (fun U => WPre dC dI ct (MW a ct z g) sz U)) ((fun A => (va_Qi (fun (r : Int32) (u : V × VL) => Post r u.1 u.2) (fun (u : V × VL) t => WPos dC dI ct (MW a ct u.1 u.2) A t) A)) (va_A (MW a ct z g) sz)) 0 0 (va_A (MW a ct z g) sz) := by
  refine open_W (fun A => (va_Qi (fun (r : Int32) (u : V × VL) => Post r u.1 u.2) (fun (u : V × VL) t => WPos dC dI ct (MW a ct u.1 u.2) A t) A)) (by decide) (Nat.le_of_ble_eq_true rfl) ?_
  intro p e s m args below meth c ls A X hD0 hP hS hl
  have X0 := X
  obtain ⟨⟨hx, hb, hml, hr, hlk, hown, hts⟩, hA, hK, hN⟩ := X0
  have hD : ∀ (z' : V) (g' : VL), va_D A (MW a ct z' g') := fun z' g' => va_D_addr hD0 rfl
  have hl : lv_has ls 4 [(0, .ref (a 0)), (1, .int i1), (2, .int i2), (3, .int i3)] := hl
  unfold wp_X2_seen at w
  have hS0 := hS
  refine lv_iload_n hx hb dX2_seen_0 rfl (lv_at hl 1 rfl) ?_
  refine lv_i2l hx hb dX2_seen_1 rfl ?_
  refine lv_lconst (v := 0) hx hb dX2_seen_2 (by decide) ?_
  refine lv_ldc2 (v := 255) hx hb hown (hts _ q802) dX2_seen_3 ?_
  refine vp_callSi (W.runS (As := [.long i1.toInt64, .long (0 : Int64), .long (255 : Int64)]) (rest := []) ⟨hx, hb, hml, hown, hts⟩ (met_X2_in l w) (va_cwS 3 hts (lw_S q570 q571 q51 q572) rfl rfl rfl hd_X2_in ⟨Nat.le_of_ble_eq_true rfl, Nat.le_of_ble_eq_true rfl⟩) pre_S rfl rfl hl.1 rfl (lv_room (Nat.le_of_ble_eq_true rfl)) dX2_seen_6 ⟨Nat.le_refl _, Nat.le_refl _⟩) (fun r1 w => ?_)
  refine lv_if_eq (tgt := 34) hx hb dX2_seen_9 (by decide) (fun c => ?_) (fun c => ?_)
  · have w := And.left w c
    exact wk_X2_seen_L34 X hD  _ _ w _ _ _ hP hS (lv_sub hl [] rfl)
  · have w := And.right w c
    refine lv_iload_n hx hb dX2_seen_12 rfl (lv_at hl 2 rfl) ?_
    refine lv_i2l hx hb dX2_seen_13 rfl ?_
    refine lv_lconst (v := 0) hx hb dX2_seen_14 (by decide) ?_
    refine lv_ldc2 (v := 8) hx hb hown (hts _ q778) dX2_seen_15 ?_
    refine vp_callSi (W.runS (As := [.long i2.toInt64, .long (0 : Int64), .long (8 : Int64)]) (rest := []) ⟨hx, hb, hml, hown, hts⟩ (met_X2_in l w) (va_cwS 3 hts (lw_S q570 q571 q51 q572) rfl rfl rfl hd_X2_in ⟨Nat.le_of_ble_eq_true rfl, Nat.le_of_ble_eq_true rfl⟩) pre_S rfl rfl hl.1 rfl (lv_room (Nat.le_of_ble_eq_true rfl)) dX2_seen_18 ⟨Nat.le_refl _, Nat.le_refl _⟩) (fun r2 w => ?_)
    refine lv_if_eq (tgt := 34) hx hb dX2_seen_21 (by decide) (fun c => ?_) (fun c => ?_)
    · have w := And.left w c
      exact wk_X2_seen_L34 X hD  _ _ w _ _ _ hP hS (lv_sub hl [] rfl)
    · have w := And.right w c
      refine lv_iload_n hx hb dX2_seen_24 rfl (lv_at hl 3 rfl) ?_
      refine lv_i2l hx hb dX2_seen_25 rfl ?_
      refine lv_lconst (v := 0) hx hb dX2_seen_26 (by decide) ?_
      refine lv_lconst (v := 1) hx hb dX2_seen_27 (by decide) ?_
      refine vp_callSi (W.runS (As := [.long i3.toInt64, .long (0 : Int64), .long (1 : Int64)]) (rest := []) ⟨hx, hb, hml, hown, hts⟩ (met_X2_in l w) (va_cwS 3 hts (lw_S q570 q571 q51 q572) rfl rfl rfl hd_X2_in ⟨Nat.le_of_ble_eq_true rfl, Nat.le_of_ble_eq_true rfl⟩) pre_S rfl rfl hl.1 rfl (lv_room (Nat.le_of_ble_eq_true rfl)) dX2_seen_28 ⟨Nat.le_refl _, Nat.le_refl _⟩) (fun r3 w => ?_)
      refine lv_if_ne (tgt := 37) hx hb dX2_seen_31 (by decide) (fun c => ?_) (fun c => ?_)
      · have w := And.right w c
        refine lv_aload_n hx hb dX2_seen_37 rfl (lv_at hl 0 rfl) ?_
        refine va_get (D := (dC, dI)) (ci := 2) (v := .int (z 19 4)) (C := RX2) (T := TX2) (N := 34) hx hb hts in_X2 hown hK hP 0 rfl rfl 12 (by decide) (hts _ q470) (fun _ h9 => h9) rfl dX2_seen_38 ?_
        refine lv_bipush (v := 8) hx hb dX2_seen_41 (by decide) ?_
        refine lv_icmp_ne (tgt := 49) hx hb dX2_seen_43 (by decide) (fun c => ?_) (fun c => ?_)
        · have w := And.right w c
          refine lv_aload_n hx hb dX2_seen_49 rfl (lv_at hl 0 rfl) ?_
          refine va_get (D := (dC, dI)) (ci := 2) (v := .ref (a 6)) (C := RX2) (T := TX2) (N := 34) hx hb hts in_X2 hown hK hP 0 rfl rfl 9 (by decide) (hts _ q467) (fun _ h9 => h9) rfl dX2_seen_50 ?_
          refine lv_aload_n hx hb dX2_seen_53 rfl (lv_at hl 0 rfl) ?_
          refine va_get (D := (dC, dI)) (ci := 2) (v := .int (z 19 4)) (C := RX2) (T := TX2) (N := 34) hx hb hts in_X2 hown hK hP 0 rfl rfl 12 (by decide) (hts _ q470) (fun _ h9 => h9) rfl dX2_seen_54 ?_
          refine lv_iload_n hx hb dX2_seen_57 rfl (lv_at hl 1 rfl) ?_
          obtain ⟨gi, w⟩ := w
          refine va_iast hx hb hK hP (hD _ _) hS 6 0 rfl rfl gi dX2_seen_58 (fun H locs hP _ hS => ?_)
          have hP : va_P (dC, dI) vwCl (MW a ct (up2 z 5 (z 19 4).toNatClampNeg i1) g) H := MW_u_z_5 hP
          refine lv_aload_n hx hb dX2_seen_59 rfl (lv_at hl 0 rfl) ?_
          refine va_get (D := (dC, dI)) (ci := 2) (v := .ref (a 7)) (C := RX2) (T := TX2) (N := 34) hx hb hts in_X2 hown hK hP 0 rfl rfl 10 (by decide) (hts _ q468) (fun _ h9 => h9) rfl dX2_seen_60 ?_
          refine lv_aload_n hx hb dX2_seen_63 rfl (lv_at hl 0 rfl) ?_
          refine va_get (D := (dC, dI)) (ci := 2) (v := .int (z 19 4)) (C := RX2) (T := TX2) (N := 34) hx hb hts in_X2 hown hK hP 0 rfl rfl 12 (by decide) (hts _ q470) (fun _ h9 => h9) rfl dX2_seen_64 ?_
          refine lv_iload_n hx hb dX2_seen_67 rfl (lv_at hl 2 rfl) ?_
          obtain ⟨gi, w⟩ := w
          refine va_iast hx hb hK hP (hD _ _) hS 7 0 rfl rfl gi dX2_seen_68 (fun H locs hP _ hS => ?_)
          have hP : va_P (dC, dI) vwCl (MW a ct (up2 (up2 z 5 (z 19 4).toNatClampNeg i1) 6 (z 19 4).toNatClampNeg i2) g) H := MW_u_z_6 hP
          refine lv_aload_n hx hb dX2_seen_69 rfl (lv_at hl 0 rfl) ?_
          refine va_get (D := (dC, dI)) (ci := 2) (v := .ref (a 8)) (C := RX2) (T := TX2) (N := 34) hx hb hts in_X2 hown hK hP 0 rfl rfl 11 (by decide) (hts _ q469) (fun _ h9 => h9) rfl dX2_seen_70 ?_
          refine lv_aload_n hx hb dX2_seen_73 rfl (lv_at hl 0 rfl) ?_
          refine va_get (D := (dC, dI)) (ci := 2) (v := .int (z 19 4)) (C := RX2) (T := TX2) (N := 34) hx hb hts in_X2 hown hK hP 0 rfl rfl 12 (by decide) (hts _ q470) (fun _ h9 => h9) rfl dX2_seen_74 ?_
          refine lv_iload_n hx hb dX2_seen_77 rfl (lv_at hl 3 rfl) ?_
          obtain ⟨gi, w⟩ := w
          refine va_iast hx hb hK hP (hD _ _) hS 8 0 rfl rfl gi dX2_seen_78 (fun H locs hP _ hS => ?_)
          have hP : va_P (dC, dI) vwCl (MW a ct (up2 (up2 (up2 z 5 (z 19 4).toNatClampNeg i1) 6 (z 19 4).toNatClampNeg i2) 7 (z 19 4).toNatClampNeg i3) g) H := MW_u_z_7 hP
          refine lv_aload_n hx hb dX2_seen_79 rfl (lv_at hl 0 rfl) ?_
          refine lv_dup hx hb dX2_seen_80 rfl ?_
          refine va_get (D := (dC, dI)) (ci := 2) (v := .int (z 19 4)) (C := RX2) (T := TX2) (N := 34) hx hb hts in_X2 hown hK hP 0 rfl rfl 12 (by decide) (hts _ q470) (fun _ h9 => h9) rfl dX2_seen_81 ?_
          refine lv_iconst (v := 1) hx hb dX2_seen_84 (by decide) ?_
          refine lv_iadd hx hb dX2_seen_85 ?_
          refine va_put (D := (dC, dI)) (ci := 2) (v := .int ((z 19 4) + (1 : Int32))) (ty := .int) (C := RX2) (T := TX2) (N := 34) hx hb hts in_X2 tyX2 tyX2_ok nmX2 hown hK hP (hD _ _) hS 0 rfl rfl 12 (by decide) (hts _ q470) (fun _ h9 => h9) rfl (by decide +kernel) rfl rfl (Nat.le_of_ble_eq_true rfl) dX2_seen_86 (fun H locs hP _ hS => ?_)
          have hP : va_P (dC, dI) vwCl (MW a ct (up2 (up2 (up2 (up2 z 5 (z 19 4).toNatClampNeg i1) 6 (z 19 4).toNatClampNeg i2) 7 (z 19 4).toNatClampNeg i3) 19 4 ((z 19 4) + (1 : Int32))) g) H := MW_s_z_4 hP
          refine lv_aload_n hx hb dX2_seen_89 rfl (lv_at hl 0 rfl) ?_
          refine va_get (D := (dC, dI)) (ci := 2) (v := .int ((z 19 4) + (1 : Int32))) (C := RX2) (T := TX2) (N := 34) hx hb hts in_X2 hown hK hP 0 rfl rfl 12 (by decide) (hts _ q470) (fun _ h9 => h9) rfl dX2_seen_90 ?_
          exact W.iret (v := ((z 19 4) + (1 : Int32))) hx hb hr (fun t ht hW => ⟨⟨((z 19 4) + (1 : Int32)), ((up2 (up2 (up2 (up2 z 5 (z 19 4).toNatClampNeg i1) 6 (z 19 4).toNatClampNeg i2) 7 (z 19 4).toNatClampNeg i3) 19 4 ((z 19 4) + (1 : Int32))), g), rfl, w, by rw [ht]; exact hP, va_K.moved hW.alike hK, (hD _ _)⟩, hS.F ht⟩) hS.2.2 dX2_seen_93 hlk
        · have w := And.left w c
          refine lv_bipush (v := -4) hx hb dX2_seen_46 (by decide) ?_
          exact W.iret (v := (-4 : Int32)) hx hb hr (fun t ht hW => ⟨⟨(-4 : Int32), (z, g), rfl, w, by rw [ht]; exact hP, va_K.moved hW.alike hK, (hD _ _)⟩, hS.F ht⟩) hS.2.2 dX2_seen_48 hlk
      · have w := And.left w c
        exact wk_X2_seen_L34 X hD  _ _ w _ _ _ hP hS (lv_sub hl [] rfl)
abbrev rm_X2_forget : Room := { frames := 0, cells := 0, slots := 0, locals := 0 }
theorem hd_X2_forget : yX2_forget.cls = RX2 ∧ yX2_forget.cls ≠ "java/lang/invoke/MethodHandle" ∧ yX2_forget.cls ≠ "java/lang/invoke/VarHandle" ∧ (parseMethodDescriptor yX2_forget.desc).map (fun d => d.parameters.length) = some 0 := by decide +kernel
set_option maxHeartbeats 4000000 in
set_option maxRecDepth 100000 in
theorem met_X2_forget (l : Launch) (dC : Nat → ClassId) (dI : Nat → Nat → Nat) (ct : Nat → ClassId) (a : Nat → Nat) (sz : Nat)  {z : V} {g : VL} {Post : Int32 → V → VL → Prop} (w : wp_X2_forget z g Post) : Met l yX2_forget (ws_ yX2_forget cX2_forget 2 (some .int)) rm_X2_forget (va_Pc [.ref (a 0)] (fun U => WPre dC dI ct (MW a ct z g) sz U)) ((fun A => (va_Qi (fun (r : Int32) (u : V × VL) => Post r u.1 u.2) (fun (u : V × VL) t => WPos dC dI ct (MW a ct u.1 u.2) A t) A)) (va_A (MW a ct z g) sz)) 0 0 (va_A (MW a ct z g) sz) := by
  refine open_W (fun A => (va_Qi (fun (r : Int32) (u : V × VL) => Post r u.1 u.2) (fun (u : V × VL) t => WPos dC dI ct (MW a ct u.1 u.2) A t) A)) (by decide) (Nat.le_of_ble_eq_true rfl) ?_
  intro p e s m args below meth c ls A X hD0 hP hS hl
  have X0 := X
  obtain ⟨⟨hx, hb, hml, hr, hlk, hown, hts⟩, hA, hK, hN⟩ := X0
  have hD : ∀ (z' : V) (g' : VL), va_D A (MW a ct z' g') := fun z' g' => va_D_addr hD0 rfl
  have hl : lv_has ls 2 [(0, .ref (a 0))] := hl
  unfold wp_X2_forget at w
  have hS0 := hS
  refine lv_aload_n hx hb dX2_forget_0 rfl (lv_at hl 0 rfl) ?_
  refine va_get (D := (dC, dI)) (ci := 2) (v := .int (z 19 4)) (C := RX2) (T := TX2) (N := 34) hx hb hts in_X2 hown hK hP 0 rfl rfl 12 (by decide) (hts _ q470) (fun _ h9 => h9) rfl dX2_forget_1 ?_
  refine lv_istore_n (lv' := [(1, .int (z 19 4)), (0, .ref (a 0))]) hx hb dX2_forget_4 rfl hl (by decide) rfl (fun ls hl => ?_)
  refine lv_aload_n hx hb dX2_forget_5 rfl (lv_at hl 1 rfl) ?_
  refine lv_iconst (v := 0) hx hb dX2_forget_6 (by decide) ?_
  refine va_put (D := (dC, dI)) (ci := 2) (v := .int (0 : Int32)) (ty := .int) (C := RX2) (T := TX2) (N := 34) hx hb hts in_X2 tyX2 tyX2_ok nmX2 hown hK hP (hD _ _) hS 0 rfl rfl 12 (by decide) (hts _ q470) (fun _ h9 => h9) rfl (by decide +kernel) rfl rfl (Nat.le_of_ble_eq_true rfl) dX2_forget_7 (fun H locs hP _ hS => ?_)
  have hP : va_P (dC, dI) vwCl (MW a ct (up2 z 19 4 (0 : Int32)) g) H := MW_s_z_4 hP
  refine lv_iload_n hx hb dX2_forget_10 rfl (lv_at hl 0 rfl) ?_
  exact W.iret (v := (z 19 4)) hx hb hr (fun t ht hW => ⟨⟨(z 19 4), ((up2 z 19 4 (0 : Int32)), g), rfl, w, by rw [ht]; exact hP, va_K.moved hW.alike hK, (hD _ _)⟩, hS.F ht⟩) hS.2.2 dX2_forget_11 hlk
abbrev rm_X2_fits : Room := { frames := 1, cells := 0, slots := 0, locals := 22 }
theorem hd_X2_fits : yX2_fits.cls = RX2 ∧ yX2_fits.cls ≠ "java/lang/invoke/MethodHandle" ∧ yX2_fits.cls ≠ "java/lang/invoke/VarHandle" ∧ (parseMethodDescriptor yX2_fits.desc).map (fun d => d.parameters.length) = some 2 := by decide +kernel
set_option maxHeartbeats 4000000 in
set_option maxRecDepth 100000 in
theorem wk_X2_fits_L88 {p : Program} {l : Launch} {e : Env} {s : State} {m : MethodId} {args : Array Value} {below : List Frame} {meth : Method} {c : Code} {dC : Nat → ClassId} {dI : Nat → Nat → Nat} {ct : Nat → ClassId} {A : Nat → Prop} {a : Nat → Nat} {Post : Int32 → V → VL → Prop} {K17 : Int32 → Int32 → Int32 → V → VL → Prop}  (X : CxW p s m args meth c cX2_fits 6 (some .boolean) RX2 dC dI ct A) (hD : ∀ (z : V) (g : VL), va_D A (MW a ct z g)) (hK17 : ∀ (i2 : Int32) (i3 : Int32) (i4 : Int32) (z : V) (g : VL), K17 i2 i3 i4 z g → ∀ (H : Heap) (locs : List Loc) (ls : Array Slot), va_P (dC, dI) vwCl (MW a ct z g) H → va_S A s.heap H locs → lv_has ls 6 [(0, .ref (a 0)), (2, .int i2), (3, .int i3), (4, .int i4)] → W p l e rm_X2_fits s m args below meth c H locs 0 0 (MQ below (va_Qi (fun (r : Int32) (u : V × VL) => Post r u.1 u.2) (fun (u : V × VL) t => WPos dC dI ct (MW a ct u.1 u.2) A t) A) args s 0 0 A) (F0 m 17 ls [])) (i2 : Int32) (i4 : Int32) (is0 : Int32) (z : V) (g : VL) (w : wp_X2_fits_L88  Post K17 i2 i4 is0 z g) : ∀ (H : Heap) (locs : List Loc) (ls : Array Slot), va_P (dC, dI) vwCl (MW a ct z g) H → va_S A s.heap H locs → lv_has ls 6 [(0, .ref (a 0)), (2, .int i2), (4, .int i4)] → W p l e rm_X2_fits s m args below meth c H locs 0 0 (MQ below (va_Qi (fun (r : Int32) (u : V × VL) => Post r u.1 u.2) (fun (u : V × VL) t => WPos dC dI ct (MW a ct u.1 u.2) A t) A) args s 0 0 A) (F0 m 88 ls [.int is0]) := by
  intro H locs ls hP hS hl
  have X0 := X
  obtain ⟨⟨hx, hb, hml, hr, hlk, hown, hts⟩, hA, hK, hN⟩ := X0
  unfold wp_X2_fits_L88 at w
  refine lv_istore_n (lv' := [(3, .int is0), (0, .ref (a 0)), (2, .int i2), (4, .int i4)]) hx hb dX2_fits_88 rfl hl (by decide) rfl (fun ls hl => ?_)
  refine lv_iinc (v := (i4 + 1)) (lv' := [(4, .int (i4 + 1)), (3, .int is0), (0, .ref (a 0)), (2, .int i2)]) hx hb dX2_fits_89 hl (k := 3) rfl rfl (by decide) rfl (fun ls hl => ?_)
  refine lv_goto (tgt := 17) hx hb dX2_fits_92 (by decide) ?_
  exact hK17 _ _ _ _ _ w _ _ _ hP hS (lv_sub hl [2, 3, 1, 0] rfl)
set_option maxHeartbeats 4000000 in
set_option maxRecDepth 100000 in
theorem wk_X2_fits_L83 {p : Program} {l : Launch} {e : Env} {s : State} {m : MethodId} {args : Array Value} {below : List Frame} {meth : Method} {c : Code} {dC : Nat → ClassId} {dI : Nat → Nat → Nat} {ct : Nat → ClassId} {A : Nat → Prop} {a : Nat → Nat} {Post : Int32 → V → VL → Prop} {K17 : Int32 → Int32 → Int32 → V → VL → Prop}  (X : CxW p s m args meth c cX2_fits 6 (some .boolean) RX2 dC dI ct A) (hD : ∀ (z : V) (g : VL), va_D A (MW a ct z g)) (hK17 : ∀ (i2 : Int32) (i3 : Int32) (i4 : Int32) (z : V) (g : VL), K17 i2 i3 i4 z g → ∀ (H : Heap) (locs : List Loc) (ls : Array Slot), va_P (dC, dI) vwCl (MW a ct z g) H → va_S A s.heap H locs → lv_has ls 6 [(0, .ref (a 0)), (2, .int i2), (3, .int i3), (4, .int i4)] → W p l e rm_X2_fits s m args below meth c H locs 0 0 (MQ below (va_Qi (fun (r : Int32) (u : V × VL) => Post r u.1 u.2) (fun (u : V × VL) t => WPos dC dI ct (MW a ct u.1 u.2) A t) A) args s 0 0 A) (F0 m 17 ls [])) (i2 : Int32) (i4 : Int32) (z : V) (g : VL) (w : wp_X2_fits_L83  Post K17 i2 i4 z g) : ∀ (H : Heap) (locs : List Loc) (ls : Array Slot), va_P (dC, dI) vwCl (MW a ct z g) H → va_S A s.heap H locs → lv_has ls 6 [(0, .ref (a 0)), (2, .int i2), (4, .int i4)] → W p l e rm_X2_fits s m args below meth c H locs 0 0 (MQ below (va_Qi (fun (r : Int32) (u : V × VL) => Post r u.1 u.2) (fun (u : V × VL) t => WPos dC dI ct (MW a ct u.1 u.2) A t) A) args s 0 0 A) (F0 m 83 ls []) := by
  intro H locs ls hP hS hl
  have X0 := X
  obtain ⟨⟨hx, hb, hml, hr, hlk, hown, hts⟩, hA, hK, hN⟩ := X0
  unfold wp_X2_fits_L83 at w
  refine lv_iconst (v := 1) hx hb dX2_fits_83 (by decide) ?_
  refine lv_goto (tgt := 88) hx hb dX2_fits_84 (by decide) ?_
  exact wk_X2_fits_L88 X hD hK17 _ _ _ _ _ w _ _ _ hP hS (lv_sub hl [0, 1, 2] rfl)
set_option maxHeartbeats 4000000 in
set_option maxRecDepth 100000 in
theorem wk_X2_fits_L87 {p : Program} {l : Launch} {e : Env} {s : State} {m : MethodId} {args : Array Value} {below : List Frame} {meth : Method} {c : Code} {dC : Nat → ClassId} {dI : Nat → Nat → Nat} {ct : Nat → ClassId} {A : Nat → Prop} {a : Nat → Nat} {Post : Int32 → V → VL → Prop} {K17 : Int32 → Int32 → Int32 → V → VL → Prop}  (X : CxW p s m args meth c cX2_fits 6 (some .boolean) RX2 dC dI ct A) (hD : ∀ (z : V) (g : VL), va_D A (MW a ct z g)) (hK17 : ∀ (i2 : Int32) (i3 : Int32) (i4 : Int32) (z : V) (g : VL), K17 i2 i3 i4 z g → ∀ (H : Heap) (locs : List Loc) (ls : Array Slot), va_P (dC, dI) vwCl (MW a ct z g) H → va_S A s.heap H locs → lv_has ls 6 [(0, .ref (a 0)), (2, .int i2), (3, .int i3), (4, .int i4)] → W p l e rm_X2_fits s m args below meth c H locs 0 0 (MQ below (va_Qi (fun (r : Int32) (u : V × VL) => Post r u.1 u.2) (fun (u : V × VL) t => WPos dC dI ct (MW a ct u.1 u.2) A t) A) args s 0 0 A) (F0 m 17 ls [])) (i2 : Int32) (i4 : Int32) (z : V) (g : VL) (w : wp_X2_fits_L87  Post K17 i2 i4 z g) : ∀ (H : Heap) (locs : List Loc) (ls : Array Slot), va_P (dC, dI) vwCl (MW a ct z g) H → va_S A s.heap H locs → lv_has ls 6 [(0, .ref (a 0)), (2, .int i2), (4, .int i4)] → W p l e rm_X2_fits s m args below meth c H locs 0 0 (MQ below (va_Qi (fun (r : Int32) (u : V × VL) => Post r u.1 u.2) (fun (u : V × VL) t => WPos dC dI ct (MW a ct u.1 u.2) A t) A) args s 0 0 A) (F0 m 87 ls []) := by
  intro H locs ls hP hS hl
  have X0 := X
  obtain ⟨⟨hx, hb, hml, hr, hlk, hown, hts⟩, hA, hK, hN⟩ := X0
  unfold wp_X2_fits_L87 at w
  refine lv_iconst (v := 0) hx hb dX2_fits_87 (by decide) ?_
  exact wk_X2_fits_L88 X hD hK17 _ _ _ _ _ w _ _ _ hP hS (lv_sub hl [0, 1, 2] rfl)
set_option maxHeartbeats 4000000 in
set_option maxRecDepth 100000 in
theorem wk_X2_fits_S17 {p : Program} {l : Launch} {e : Env} {s : State} {m : MethodId} {args : Array Value} {below : List Frame} {meth : Method} {c : Code} {dC : Nat → ClassId} {dI : Nat → Nat → Nat} {ct : Nat → ClassId} {A : Nat → Prop} {a : Nat → Nat} {Post : Int32 → V → VL → Prop} {K17 : Int32 → Int32 → Int32 → V → VL → Prop}  (X : CxW p s m args meth c cX2_fits 6 (some .boolean) RX2 dC dI ct A) (hD : ∀ (z : V) (g : VL), va_D A (MW a ct z g)) (hK17 : ∀ (i2 : Int32) (i3 : Int32) (i4 : Int32) (z : V) (g : VL), K17 i2 i3 i4 z g → ∀ (H : Heap) (locs : List Loc) (ls : Array Slot), va_P (dC, dI) vwCl (MW a ct z g) H → va_S A s.heap H locs → lv_has ls 6 [(0, .ref (a 0)), (2, .int i2), (3, .int i3), (4, .int i4)] → W p l e rm_X2_fits s m args below meth c H locs 0 0 (MQ below (va_Qi (fun (r : Int32) (u : V × VL) => Post r u.1 u.2) (fun (u : V × VL) t => WPos dC dI ct (MW a ct u.1 u.2) A t) A) args s 0 0 A) (F0 m 17 ls [])) (i2 : Int32) (i3 : Int32) (i4 : Int32) (z : V) (g : VL) (w : wp_X2_fits_S17  Post K17 i2 i3 i4 z g) : ∀ (H : Heap) (locs : List Loc) (ls : Array Slot), va_P (dC, dI) vwCl (MW a ct z g) H → va_S A s.heap H locs → lv_has ls 6 [(0, .ref (a 0)), (2, .int i2), (3, .int i3), (4, .int i4)] → W p l e rm_X2_fits s m args below meth c H locs 0 0 (MQ below (va_Qi (fun (r : Int32) (u : V × VL) => Post r u.1 u.2) (fun (u : V × VL) t => WPos dC dI ct (MW a ct u.1 u.2) A t) A) args s 0 0 A) (F0 m 17 ls []) := by
  intro H locs ls hP hS hl
  have X0 := X
  obtain ⟨⟨hx, hb, hml, hr, hlk, hown, hts⟩, hA, hK, hN⟩ := X0
  unfold wp_X2_fits_S17 at w
  refine lv_iload hx hb dX2_fits_17 (lv_at hl 3 rfl) ?_
  refine lv_aload_n hx hb dX2_fits_19 rfl (lv_at hl 0 rfl) ?_
  refine va_get (D := (dC, dI)) (ci := 2) (v := .int (z 19 4)) (C := RX2) (T := TX2) (N := 34) hx hb hts in_X2 hown hK hP 0 rfl rfl 12 (by decide) (hts _ q470) (fun _ h9 => h9) rfl dX2_fits_20 ?_
  refine lv_icmp_ge (tgt := 95) hx hb dX2_fits_23 (by decide) (fun c => ?_) (fun c => ?_)
  · have w := And.left w c
    refine lv_iload_n hx hb dX2_fits_95 rfl (lv_at hl 2 rfl) ?_
    obtain ⟨gn, w⟩ := w
    exact W.zret (v := i3) hx hb hr gn (fun t ht hW => ⟨⟨i3, (z, g), rfl, w, by rw [ht]; exact hP, va_K.moved hW.alike hK, (hD _ _)⟩, hS.F ht⟩) hS.2.2 dX2_fits_96 hlk
  · have w := And.right w c
    refine lv_aload_n hx hb dX2_fits_26 rfl (lv_at hl 0 rfl) ?_
    refine va_get (D := (dC, dI)) (ci := 2) (v := .ref (a 6)) (C := RX2) (T := TX2) (N := 34) hx hb hts in_X2 hown hK hP 0 rfl rfl 9 (by decide) (hts _ q467) (fun _ h9 => h9) rfl dX2_fits_27 ?_
    refine lv_iload hx hb dX2_fits_30 (lv_at hl 3 rfl) ?_
    obtain ⟨gi, w⟩ := w
    refine va_iald hx hb hK hP 6 0 rfl rfl gi dX2_fits_32 ?_
    refine lv_iload_n hx hb dX2_fits_33 rfl (lv_at hl 1 rfl) ?_
    refine lv_iconst (v := -1) hx hb dX2_fits_34 (by decide) ?_
    refine lv_ixor hx hb dX2_fits_35 ?_
    refine lv_iand hx hb dX2_fits_36 ?_
    refine vp_callSi (W.runS (As := [.int ((z 5 i4.toNatClampNeg) &&& (i2 ^^^ (-1 : Int32)))]) (rest := []) ⟨hx, hb, hml, hown, hts⟩ (met_X2_bitsOf l w) (va_cwS 1 hts (lw_S q815 q816 q51 q817) rfl rfl rfl hd_X2_bitsOf ⟨Nat.le_of_ble_eq_true rfl, Nat.le_of_ble_eq_true rfl⟩) pre_S rfl rfl hl.1 rfl (lv_room (Nat.le_of_ble_eq_true rfl)) dX2_fits_37 ⟨Nat.le_refl _, Nat.le_refl _⟩) (fun r1 w => ?_)
    refine lv_istore (lv' := [(5, .int r1), (0, .ref (a 0)), (2, .int i2), (3, .int i3), (4, .int i4)]) hx hb dX2_fits_40 hl (by decide) rfl (fun ls hl => ?_)
    refine lv_iload_n hx hb dX2_fits_42 rfl (lv_at hl 3 rfl) ?_
    refine lv_if_eq (tgt := 87) hx hb dX2_fits_43 (by decide) (fun c => ?_) (fun c => ?_)
    · have w := And.left w c
      exact wk_X2_fits_L87 X hD hK17 _ _ _ _ w _ _ _ hP hS (lv_sub hl [1, 2, 4] rfl)
    · have w := And.right w c
      refine lv_aload_n hx hb dX2_fits_46 rfl (lv_at hl 1 rfl) ?_
      refine va_get (D := (dC, dI)) (ci := 2) (v := .ref (a 8)) (C := RX2) (T := TX2) (N := 34) hx hb hts in_X2 hown hK hP 0 rfl rfl 11 (by decide) (hts _ q469) (fun _ h9 => h9) rfl dX2_fits_47 ?_
      refine lv_iload hx hb dX2_fits_50 (lv_at hl 4 rfl) ?_
      obtain ⟨gi, w⟩ := w
      refine va_iald hx hb hK hP 8 0 rfl rfl gi dX2_fits_52 ?_
      refine lv_if_ne (tgt := 71) hx hb dX2_fits_53 (by decide) (fun c => ?_) (fun c => ?_)
      · have w := And.right w c
        refine lv_iload hx hb dX2_fits_71 (lv_at hl 0 rfl) ?_
        refine lv_aload_n hx hb dX2_fits_73 rfl (lv_at hl 1 rfl) ?_
        refine va_get (D := (dC, dI)) (ci := 2) (v := .ref (a 7)) (C := RX2) (T := TX2) (N := 34) hx hb hts in_X2 hown hK hP 0 rfl rfl 10 (by decide) (hts _ q468) (fun _ h9 => h9) rfl dX2_fits_74 ?_
        refine lv_iload hx hb dX2_fits_77 (lv_at hl 4 rfl) ?_
        obtain ⟨gi, w⟩ := w
        refine va_iald hx hb hK hP 7 0 rfl rfl gi dX2_fits_79 ?_
        refine lv_icmp_lt (tgt := 87) hx hb dX2_fits_80 (by decide) (fun c => ?_) (fun c => ?_)
        · have w := And.left w c
          exact wk_X2_fits_L87 X hD hK17 _ _ _ _ w _ _ _ hP hS (lv_sub hl [1, 2, 4] rfl)
        · have w := And.right w c
          exact wk_X2_fits_L83 X hD hK17 _ _ _ _ w _ _ _ hP hS (lv_sub hl [1, 2, 4] rfl)
      · have w := And.left w c
        refine lv_iload hx hb dX2_fits_56 (lv_at hl 0 rfl) ?_
        refine lv_aload_n hx hb dX2_fits_58 rfl (lv_at hl 1 rfl) ?_
        refine va_get (D := (dC, dI)) (ci := 2) (v := .ref (a 7)) (C := RX2) (T := TX2) (N := 34) hx hb hts in_X2 hown hK hP 0 rfl rfl 10 (by decide) (hts _ q468) (fun _ h9 => h9) rfl dX2_fits_59 ?_
        refine lv_iload hx hb dX2_fits_62 (lv_at hl 4 rfl) ?_
        obtain ⟨gi, w⟩ := w
        refine va_iald hx hb hK hP 7 0 rfl rfl gi dX2_fits_64 ?_
        refine lv_icmp_ne (tgt := 87) hx hb dX2_fits_65 (by decide) (fun c => ?_) (fun c => ?_)
        · have w := And.right w c
          exact wk_X2_fits_L87 X hD hK17 _ _ _ _ w _ _ _ hP hS (lv_sub hl [1, 2, 4] rfl)
        · have w := And.left w c
          refine lv_goto (tgt := 83) hx hb dX2_fits_68 (by decide) ?_
          exact wk_X2_fits_L83 X hD hK17 _ _ _ _ w _ _ _ hP hS (lv_sub hl [1, 2, 4] rfl)
set_option maxHeartbeats 4000000 in
set_option maxRecDepth 100000 in
theorem wk_X2_fits_L17 {p : Program} {l : Launch} {e : Env} {s : State} {m : MethodId} {args : Array Value} {below : List Frame} {meth : Method} {c : Code} {dC : Nat → ClassId} {dI : Nat → Nat → Nat} {ct : Nat → ClassId} {A : Nat → Prop} {a : Nat → Nat} {Post : Int32 → V → VL → Prop}   (X : CxW p s m args meth c cX2_fits 6 (some .boolean) RX2 dC dI ct A) (hD : ∀ (z : V) (g : VL), va_D A (MW a ct z g))  : ∀ (n : Nat) (i2 : Int32) (i3 : Int32) (i4 : Int32) (z : V) (g : VL), wp_X2_fits_L17  Post  n i2 i3 i4 z g → ∀ (H : Heap) (locs : List Loc) (ls : Array Slot), va_P (dC, dI) vwCl (MW a ct z g) H → va_S A s.heap H locs → lv_has ls 6 [(0, .ref (a 0)), (2, .int i2), (3, .int i3), (4, .int i4)] → W p l e rm_X2_fits s m args below meth c H locs 0 0 (MQ below (va_Qi (fun (r : Int32) (u : V × VL) => Post r u.1 u.2) (fun (u : V × VL) t => WPos dC dI ct (MW a ct u.1 u.2) A t) A) args s 0 0 A) (F0 m 17 ls []) := by
  intro n
  induction n with
  | zero => intro i2 i3 i4 z g w; exact False.elim w
  | succ n ih => intro i2 i3 i4 z g w H locs ls hP hS hl; exact wk_X2_fits_S17 X hD  ih i2 i3 i4 z g w H locs ls hP hS hl
set_option maxHeartbeats 4000000 in
set_option maxRecDepth 100000 in
theorem wk_X2_fits_L13 {p : Program} {l : Launch} {e : Env} {s : State} {m : MethodId} {args : Array Value} {below : List Frame} {meth : Method} {c : Code} {dC : Nat → ClassId} {dI : Nat → Nat → Nat} {ct : Nat → ClassId} {A : Nat → Prop} {a : Nat → Nat} {Post : Int32 → V → VL → Prop}   (X : CxW p s m args meth c cX2_fits 6 (some .boolean) RX2 dC dI ct A) (hD : ∀ (z : V) (g : VL), va_D A (MW a ct z g))  (i2 : Int32) (is0 : Int32) (z : V) (g : VL) (w : wp_X2_fits_L13  Post  i2 is0 z g) : ∀ (H : Heap) (locs : List Loc) (ls : Array Slot), va_P (dC, dI) vwCl (MW a ct z g) H → va_S A s.heap H locs → lv_has ls 6 [(0, .ref (a 0)), (2, .int i2)] → W p l e rm_X2_fits s m args below meth c H locs 0 0 (MQ below (va_Qi (fun (r : Int32) (u : V × VL) => Post r u.1 u.2) (fun (u : V × VL) t => WPos dC dI ct (MW a ct u.1 u.2) A t) A) args s 0 0 A) (F0 m 13 ls [.int is0]) := by
  intro H locs ls hP hS hl
  have X0 := X
  obtain ⟨⟨hx, hb, hml, hr, hlk, hown, hts⟩, hA, hK, hN⟩ := X0
  unfold wp_X2_fits_L13 at w
  refine lv_istore_n (lv' := [(3, .int is0), (0, .ref (a 0)), (2, .int i2)]) hx hb dX2_fits_13 rfl hl (by decide) rfl (fun ls hl => ?_)
  refine lv_iconst (v := 0) hx hb dX2_fits_14 (by decide) ?_
  refine lv_istore (lv' := [(4, .int (0 : Int32)), (3, .int is0), (0, .ref (a 0)), (2, .int i2)]) hx hb dX2_fits_15 hl (by decide) rfl (fun ls hl => ?_)
  obtain ⟨n, w⟩ := w
  exact wk_X2_fits_L17 X hD  n _ _ _ _ _ w _ _ _ hP hS (lv_sub hl [2, 3, 1, 0] rfl)
set_option maxHeartbeats 4000000 in
set_option maxRecDepth 100000 in
theorem met_X2_fits (l : Launch) (dC : Nat → ClassId) (dI : Nat → Nat → Nat) (ct : Nat → ClassId) (a : Nat → Nat) (sz : Nat) {i1 : Int32} {i2 : Int32} {z : V} {g : VL} {Post : Int32 → V → VL → Prop} (w : wp_X2_fits i1 i2 z g Post) : Met l yX2_fits (ws_ yX2_fits cX2_fits 6 (some .boolean)) rm_X2_fits (va_Pc [.ref (a 0), .int i1, .int i2] (fun U => WPre dC dI ct (MW a ct z g) sz U)) ((fun A => (va_Qi (fun (r : Int32) (u : V × VL) => Post r u.1 u.2) (fun (u : V × VL) t => WPos dC dI ct (MW a ct u.1 u.2) A t) A)) (va_A (MW a ct z g) sz)) 0 0 (va_A (MW a ct z g) sz) := by
  refine open_W (fun A => (va_Qi (fun (r : Int32) (u : V × VL) => Post r u.1 u.2) (fun (u : V × VL) t => WPos dC dI ct (MW a ct u.1 u.2) A t) A)) (by decide) (Nat.le_of_ble_eq_true rfl) ?_
  intro p e s m args below meth c ls A X hD0 hP hS hl
  have X0 := X
  obtain ⟨⟨hx, hb, hml, hr, hlk, hown, hts⟩, hA, hK, hN⟩ := X0
  have hD : ∀ (z' : V) (g' : VL), va_D A (MW a ct z' g') := fun z' g' => va_D_addr hD0 rfl
  have hl : lv_has ls 6 [(0, .ref (a 0)), (1, .int i1), (2, .int i2)] := hl
  unfold wp_X2_fits at w
  have hS0 := hS
  refine lv_iload_n hx hb dX2_fits_0 rfl (lv_at hl 2 rfl) ?_
  refine vp_callSi (W.runS (As := [.int i2]) (rest := []) ⟨hx, hb, hml, hown, hts⟩ (met_X2_bitsOf l w) (va_cwS 1 hts (lw_S q815 q816 q51 q817) rfl rfl rfl hd_X2_bitsOf ⟨Nat.le_of_ble_eq_true rfl, Nat.le_of_ble_eq_true rfl⟩) pre_S rfl rfl hl.1 rfl (lv_room (Nat.le_of_ble_eq_true rfl)) dX2_fits_1 ⟨Nat.le_refl _, Nat.le_refl _⟩) (fun r1 w => ?_)
  refine lv_iload_n hx hb dX2_fits_4 rfl (lv_at hl 1 rfl) ?_
  refine lv_icmp_gt (tgt := 12) hx hb dX2_fits_5 (by decide) (fun c => ?_) (fun c => ?_)
  · have w := And.left w c
    refine lv_iconst (v := 0) hx hb dX2_fits_12 (by decide) ?_
    exact wk_X2_fits_L13 X hD  _ _ _ _ w _ _ _ hP hS (lv_sub hl [0, 2] rfl)
  · have w := And.right w c
    refine lv_iconst (v := 1) hx hb dX2_fits_8 (by decide) ?_
    refine lv_goto (tgt := 13) hx hb dX2_fits_9 (by decide) ?_
    exact wk_X2_fits_L13 X hD  _ _ _ _ w _ _ _ hP hS (lv_sub hl [0, 2] rfl)
abbrev rm_X2_clerks : Room := { frames := 2, cells := 0, slots := 0, locals := 47 }
theorem hd_X2_clerks : yX2_clerks.cls = RX2 ∧ yX2_clerks.cls ≠ "java/lang/invoke/MethodHandle" ∧ yX2_clerks.cls ≠ "java/lang/invoke/VarHandle" ∧ (parseMethodDescriptor yX2_clerks.desc).map (fun d => d.parameters.length) = some 2 := by decide +kernel
set_option maxHeartbeats 4000000 in
set_option maxRecDepth 100000 in
theorem wk_X2_clerks_L49 {p : Program} {l : Launch} {e : Env} {s : State} {m : MethodId} {args : Array Value} {below : List Frame} {meth : Method} {c : Code} {dC : Nat → ClassId} {dI : Nat → Nat → Nat} {ct : Nat → ClassId} {A : Nat → Prop} {a : Nat → Nat} {Post : Int32 → V → VL → Prop} {K20 : Int32 → Int32 → Int32 → Int32 → V → VL → Prop}  (X : CxW p s m args meth c cX2_clerks 5 (some .int) RX2 dC dI ct A) (hD : ∀ (z : V) (g : VL), va_D A (MW a ct z g)) (hK20 : ∀ (i1 : Int32) (i2 : Int32) (i3 : Int32) (i4 : Int32) (z : V) (g : VL), K20 i1 i2 i3 i4 z g → ∀ (H : Heap) (locs : List Loc) (ls : Array Slot), va_P (dC, dI) vwCl (MW a ct z g) H → va_S A s.heap H locs → lv_has ls 5 [(0, .ref (a 0)), (1, .int i1), (2, .int i2), (3, .int i3), (4, .int i4)] → W p l e rm_X2_clerks s m args below meth c H locs 0 0 (MQ below (va_Qi (fun (r : Int32) (u : V × VL) => Post r u.1 u.2) (fun (u : V × VL) t => WPos dC dI ct (MW a ct u.1 u.2) A t) A) args s 0 0 A) (F0 m 20 ls [])) (i1 : Int32) (i2 : Int32) (i3 : Int32) (i4 : Int32) (z : V) (g : VL) (w : wp_X2_clerks_L49  Post K20 i1 i2 i3 i4 z g) : ∀ (H : Heap) (locs : List Loc) (ls : Array Slot), va_P (dC, dI) vwCl (MW a ct z g) H → va_S A s.heap H locs → lv_has ls 5 [(0, .ref (a 0)), (1, .int i1), (2, .int i2), (3, .int i3), (4, .int i4)] → W p l e rm_X2_clerks s m args below meth c H locs 0 0 (MQ below (va_Qi (fun (r : Int32) (u : V × VL) => Post r u.1 u.2) (fun (u : V × VL) t => WPos dC dI ct (MW a ct u.1 u.2) A t) A) args s 0 0 A) (F0 m 49 ls []) := by
  intro H locs ls hP hS hl
  have X0 := X
  obtain ⟨⟨hx, hb, hml, hr, hlk, hown, hts⟩, hA, hK, hN⟩ := X0
  unfold wp_X2_clerks_L49 at w
  refine lv_iinc (v := (i4 + 1)) (lv' := [(4, .int (i4 + 1)), (0, .ref (a 0)), (1, .int i1), (2, .int i2), (3, .int i3)]) hx hb dX2_clerks_49 hl (k := 4) rfl rfl (by decide) rfl (fun ls hl => ?_)
  refine lv_goto (tgt := 20) hx hb dX2_clerks_52 (by decide) ?_
  exact hK20 _ _ _ _ _ _ w _ _ _ hP hS (lv_sub hl [1, 2, 3, 4, 0] rfl)
set_option maxHeartbeats 4000000 in
set_option maxRecDepth 100000 in
theorem wk_X2_clerks_L66 {p : Program} {l : Launch} {e : Env} {s : State} {m : MethodId} {args : Array Value} {below : List Frame} {meth : Method} {c : Code} {dC : Nat → ClassId} {dI : Nat → Nat → Nat} {ct : Nat → ClassId} {A : Nat → Prop} {a : Nat → Nat} {Post : Int32 → V → VL → Prop}   (X : CxW p s m args meth c cX2_clerks 5 (some .int) RX2 dC dI ct A) (hD : ∀ (z : V) (g : VL), va_D A (MW a ct z g))  (is0 : Int32) (z : V) (g : VL) (w : wp_X2_clerks_L66  Post  is0 z g) : ∀ (H : Heap) (locs : List Loc) (ls : Array Slot), va_P (dC, dI) vwCl (MW a ct z g) H → va_S A s.heap H locs → lv_has ls 5 [] → W p l e rm_X2_clerks s m args below meth c H locs 0 0 (MQ below (va_Qi (fun (r : Int32) (u : V × VL) => Post r u.1 u.2) (fun (u : V × VL) t => WPos dC dI ct (MW a ct u.1 u.2) A t) A) args s 0 0 A) (F0 m 66 ls [.int is0]) := by
  intro H locs ls hP hS hl
  have X0 := X
  obtain ⟨⟨hx, hb, hml, hr, hlk, hown, hts⟩, hA, hK, hN⟩ := X0
  unfold wp_X2_clerks_L66 at w
  exact W.iret (v := is0) hx hb hr (fun t ht hW => ⟨⟨is0, (z, g), rfl, w, by rw [ht]; exact hP, va_K.moved hW.alike hK, (hD _ _)⟩, hS.F ht⟩) hS.2.2 dX2_clerks_66 hlk
set_option maxHeartbeats 4000000 in
set_option maxRecDepth 100000 in
theorem wk_X2_clerks_S20 {p : Program} {l : Launch} {e : Env} {s : State} {m : MethodId} {args : Array Value} {below : List Frame} {meth : Method} {c : Code} {dC : Nat → ClassId} {dI : Nat → Nat → Nat} {ct : Nat → ClassId} {A : Nat → Prop} {a : Nat → Nat} {Post : Int32 → V → VL → Prop} {K20 : Int32 → Int32 → Int32 → Int32 → V → VL → Prop}  (X : CxW p s m args meth c cX2_clerks 5 (some .int) RX2 dC dI ct A) (hD : ∀ (z : V) (g : VL), va_D A (MW a ct z g)) (hK20 : ∀ (i1 : Int32) (i2 : Int32) (i3 : Int32) (i4 : Int32) (z : V) (g : VL), K20 i1 i2 i3 i4 z g → ∀ (H : Heap) (locs : List Loc) (ls : Array Slot), va_P (dC, dI) vwCl (MW a ct z g) H → va_S A s.heap H locs → lv_has ls 5 [(0, .ref (a 0)), (1, .int i1), (2, .int i2), (3, .int i3), (4, .int i4)] → W p l e rm_X2_clerks s m args below meth c H locs 0 0 (MQ below (va_Qi (fun (r : Int32) (u : V × VL) => Post r u.1 u.2) (fun (u : V × VL) t => WPos dC dI ct (MW a ct u.1 u.2) A t) A) args s 0 0 A) (F0 m 20 ls [])) (i1 : Int32) (i2 : Int32) (i3 : Int32) (i4 : Int32) (z : V) (g : VL) (w : wp_X2_clerks_S20  Post K20 i1 i2 i3 i4 z g) : ∀ (H : Heap) (locs : List Loc) (ls : Array Slot), va_P (dC, dI) vwCl (MW a ct z g) H → va_S A s.heap H locs → lv_has ls 5 [(0, .ref (a 0)), (1, .int i1), (2, .int i2), (3, .int i3), (4, .int i4)] → W p l e rm_X2_clerks s m args below meth c H locs 0 0 (MQ below (va_Qi (fun (r : Int32) (u : V × VL) => Post r u.1 u.2) (fun (u : V × VL) t => WPos dC dI ct (MW a ct u.1 u.2) A t) A) args s 0 0 A) (F0 m 20 ls []) := by
  intro H locs ls hP hS hl
  have X0 := X
  obtain ⟨⟨hx, hb, hml, hr, hlk, hown, hts⟩, hA, hK, hN⟩ := X0
  unfold wp_X2_clerks_S20 at w
  refine lv_iload hx hb dX2_clerks_20 (lv_at hl 4 rfl) ?_
  refine lv_sipush (v := 256) hx hb dX2_clerks_22 (by decide) ?_
  refine lv_icmp_ge (tgt := 55) hx hb dX2_clerks_25 (by decide) (fun c => ?_) (fun c => ?_)
  · have w := And.left w c
    refine lv_iload_n hx hb dX2_clerks_55 rfl (lv_at hl 2 rfl) ?_
    refine lv_iconst (v := -1) hx hb dX2_clerks_56 (by decide) ?_
    refine lv_icmp_ne (tgt := 64) hx hb dX2_clerks_57 (by decide) (fun c => ?_) (fun c => ?_)
    · have w := And.right w c
      refine lv_bipush (v := -6) hx hb dX2_clerks_64 (by decide) ?_
      exact wk_X2_clerks_L66 X hD  _ _ _ w _ _ _ hP hS (lv_sub hl [] rfl)
    · have w := And.left w c
      refine lv_iload_n hx hb dX2_clerks_60 rfl (lv_at hl 3 rfl) ?_
      refine lv_goto (tgt := 66) hx hb dX2_clerks_61 (by decide) ?_
      exact wk_X2_clerks_L66 X hD  _ _ _ w _ _ _ hP hS (lv_sub hl [] rfl)
  · have w := And.right w c
    refine lv_aload_n hx hb dX2_clerks_28 rfl (lv_at hl 0 rfl) ?_
    refine lv_iload_n hx hb dX2_clerks_29 rfl (lv_at hl 1 rfl) ?_
    refine lv_iload hx hb dX2_clerks_30 (lv_at hl 4 rfl) ?_
    refine va_calli (va_runV (As := [.int i1, .int i4]) (rest := []) ⟨hx, hb, hml, hown, hts⟩ (met_X2_fits l dC dI ct a _ w) (cwV 2 hts (lw_V q811 q813 qs40 q51 q814) rfl rfl rfl hd_X2_fits ⟨Nat.le_of_ble_eq_true rfl, Nat.le_of_ble_eq_true rfl⟩) (pre_V hK hP (hD _ _) hN (va_recv hK hP (ci := 2) (q0 := 0) rfl rfl)) rfl rfl hl.1 rfl (lv_room (Nat.le_of_ble_eq_true rfl)) dX2_clerks_32 ⟨Nat.le_refl _, Nat.le_refl _⟩) hS (fun q _ h => x_free (hD _ _) hS hA q h) (x_free (hD _ _) hS hA) (fun r1 u t H locs ht hvm w hB hz hk hS => ?_)
    obtain ⟨z_1, g_1⟩ := u
    dsimp only at w
    have hP : va_P (dC, dI) vwCl (MW a ct z_1 g_1) H := post_P hB ht
    refine lv_if_eq (tgt := 49) hx hb dX2_clerks_35 (by decide) (fun c => ?_) (fun c => ?_)
    · have w := And.left w c
      exact wk_X2_clerks_L49 X hD hK20 _ _ _ _ _ _ w _ _ _ hP hS (lv_sub hl [0, 1, 2, 3, 4] rfl)
    · have w := And.right w c
      refine lv_iload_n hx hb dX2_clerks_38 rfl (lv_at hl 3 rfl) ?_
      refine lv_iload_n hx hb dX2_clerks_39 rfl (lv_at hl 2 rfl) ?_
      refine lv_icmp_ne (tgt := 46) hx hb dX2_clerks_40 (by decide) (fun c => ?_) (fun c => ?_)
      · have w := And.right w c
        refine lv_iinc (v := (i3 + 1)) (lv' := [(3, .int (i3 + 1)), (0, .ref (a 0)), (1, .int i1), (2, .int i2), (4, .int i4)]) hx hb dX2_clerks_46 hl (k := 3) rfl rfl (by decide) rfl (fun ls hl => ?_)
        exact wk_X2_clerks_L49 X hD hK20 _ _ _ _ _ _ w _ _ _ hP hS (lv_sub hl [1, 2, 3, 0, 4] rfl)
      · have w := And.left w c
        refine lv_iload hx hb dX2_clerks_43 (lv_at hl 4 rfl) ?_
        exact W.iret (v := i4) hx hb hr (fun t ht hW => ⟨⟨i4, (z_1, g_1), rfl, w, by rw [ht]; exact hP, va_K.moved hW.alike hK, (hD _ _)⟩, hS.F ht⟩) hS.2.2 dX2_clerks_45 hlk
set_option maxHeartbeats 4000000 in
set_option maxRecDepth 100000 in
theorem wk_X2_clerks_L20 {p : Program} {l : Launch} {e : Env} {s : State} {m : MethodId} {args : Array Value} {below : List Frame} {meth : Method} {c : Code} {dC : Nat → ClassId} {dI : Nat → Nat → Nat} {ct : Nat → ClassId} {A : Nat → Prop} {a : Nat → Nat} {Post : Int32 → V → VL → Prop}   (X : CxW p s m args meth c cX2_clerks 5 (some .int) RX2 dC dI ct A) (hD : ∀ (z : V) (g : VL), va_D A (MW a ct z g))  : ∀ (n : Nat) (i1 : Int32) (i2 : Int32) (i3 : Int32) (i4 : Int32) (z : V) (g : VL), wp_X2_clerks_L20  Post  n i1 i2 i3 i4 z g → ∀ (H : Heap) (locs : List Loc) (ls : Array Slot), va_P (dC, dI) vwCl (MW a ct z g) H → va_S A s.heap H locs → lv_has ls 5 [(0, .ref (a 0)), (1, .int i1), (2, .int i2), (3, .int i3), (4, .int i4)] → W p l e rm_X2_clerks s m args below meth c H locs 0 0 (MQ below (va_Qi (fun (r : Int32) (u : V × VL) => Post r u.1 u.2) (fun (u : V × VL) t => WPos dC dI ct (MW a ct u.1 u.2) A t) A) args s 0 0 A) (F0 m 20 ls []) := by
  intro n
  induction n with
  | zero => intro i1 i2 i3 i4 z g w; exact False.elim w
  | succ n ih => intro i1 i2 i3 i4 z g w H locs ls hP hS hl; exact wk_X2_clerks_S20 X hD  ih i1 i2 i3 i4 z g w H locs ls hP hS hl
set_option maxHeartbeats 4000000 in
set_option maxRecDepth 100000 in
theorem met_X2_clerks (l : Launch) (dC : Nat → ClassId) (dI : Nat → Nat → Nat) (ct : Nat → ClassId) (a : Nat → Nat) (sz : Nat) {i1 : Int32} {i2 : Int32} {z : V} {g : VL} {Post : Int32 → V → VL → Prop} (w : wp_X2_clerks i1 i2 z g Post) : Met l yX2_clerks (ws_ yX2_clerks cX2_clerks 5 (some .int)) rm_X2_clerks (va_Pc [.ref (a 0), .int i1, .int i2] (fun U => WPre dC dI ct (MW a ct z g) sz U)) ((fun A => (va_Qi (fun (r : Int32) (u : V × VL) => Post r u.1 u.2) (fun (u : V × VL) t => WPos dC dI ct (MW a ct u.1 u.2) A t) A)) (va_A (MW a ct z g) sz)) 0 0 (va_A (MW a ct z g) sz) := by
  refine open_W (fun A => (va_Qi (fun (r : Int32) (u : V × VL) => Post r u.1 u.2) (fun (u : V × VL) t => WPos dC dI ct (MW a ct u.1 u.2) A t) A)) (by decide) (Nat.le_of_ble_eq_true rfl) ?_
  intro p e s m args below meth c ls A X hD0 hP hS hl
  have X0 := X
  obtain ⟨⟨hx, hb, hml, hr, hlk, hown, hts⟩, hA, hK, hN⟩ := X0
  have hD : ∀ (z' : V) (g' : VL), va_D A (MW a ct z' g') := fun z' g' => va_D_addr hD0 rfl
  have hl : lv_has ls 5 [(0, .ref (a 0)), (1, .int i1), (2, .int i2)] := hl
  unfold wp_X2_clerks at w
  have hS0 := hS
  refine lv_iload_n hx hb dX2_clerks_0 rfl (lv_at hl 1 rfl) ?_
  refine lv_i2l hx hb dX2_clerks_1 rfl ?_
  refine lv_lconst (v := 0) hx hb dX2_clerks_2 (by decide) ?_
  refine lv_ldc2 (v := 3) hx hb hown (hts _ q715) dX2_clerks_3 ?_
  refine vp_callSi (W.runS (As := [.long i1.toInt64, .long (0 : Int64), .long (3 : Int64)]) (rest := []) ⟨hx, hb, hml, hown, hts⟩ (met_X2_in l w) (va_cwS 3 hts (lw_S q570 q571 q51 q572) rfl rfl rfl hd_X2_in ⟨Nat.le_of_ble_eq_true rfl, Nat.le_of_ble_eq_true rfl⟩) pre_S rfl rfl hl.1 rfl (lv_room (Nat.le_of_ble_eq_true rfl)) dX2_clerks_6 ⟨Nat.le_refl _, Nat.le_refl _⟩) (fun r1 w => ?_)
  refine lv_if_ne (tgt := 15) hx hb dX2_clerks_9 (by decide) (fun c => ?_) (fun c => ?_)
  · have w := And.right w c
    refine lv_iconst (v := 0) hx hb dX2_clerks_15 (by decide) ?_
    refine lv_istore_n (lv' := [(3, .int (0 : Int32)), (0, .ref (a 0)), (1, .int i1), (2, .int i2)]) hx hb dX2_clerks_16 rfl hl (by decide) rfl (fun ls hl => ?_)
    refine lv_iconst (v := 0) hx hb dX2_clerks_17 (by decide) ?_
    refine lv_istore (lv' := [(4, .int (0 : Int32)), (3, .int (0 : Int32)), (0, .ref (a 0)), (1, .int i1), (2, .int i2)]) hx hb dX2_clerks_18 hl (by decide) rfl (fun ls hl => ?_)
    obtain ⟨n, w⟩ := w
    exact wk_X2_clerks_L20 X hD  n _ _ _ _ _ _ w _ _ _ hP hS (lv_sub hl [2, 3, 4, 1, 0] rfl)
  · have w := And.left w c
    refine lv_bipush (v := -2) hx hb dX2_clerks_12 (by decide) ?_
    exact W.iret (v := (-2 : Int32)) hx hb hr (fun t ht hW => ⟨⟨(-2 : Int32), (z, g), rfl, w, by rw [ht]; exact hP, va_K.moved hW.alike hK, (hD _ _)⟩, hS.F ht⟩) hS.2.2 dX2_clerks_14 hlk
abbrev rm_X2_mostLeft : Room := { frames := 2, cells := 0, slots := 0, locals := 47 }
theorem hd_X2_mostLeft : yX2_mostLeft.cls = RX2 ∧ yX2_mostLeft.cls ≠ "java/lang/invoke/MethodHandle" ∧ yX2_mostLeft.cls ≠ "java/lang/invoke/VarHandle" ∧ (parseMethodDescriptor yX2_mostLeft.desc).map (fun d => d.parameters.length) = some 2 := by decide +kernel
set_option maxHeartbeats 4000000 in
set_option maxRecDepth 100000 in
theorem wk_X2_mostLeft_L61 {p : Program} {l : Launch} {e : Env} {s : State} {m : MethodId} {args : Array Value} {below : List Frame} {meth : Method} {c : Code} {dC : Nat → ClassId} {dI : Nat → Nat → Nat} {ct : Nat → ClassId} {A : Nat → Prop} {a : Nat → Nat} {Post : Int32 → V → VL → Prop} {K8 : Int32 → Int32 → Int32 → Int32 → Int32 → V → VL → Prop}  (X : CxW p s m args meth c cX2_mostLeft 7 (some .int) RX2 dC dI ct A) (hD : ∀ (z : V) (g : VL), va_D A (MW a ct z g)) (hK8 : ∀ (i1 : Int32) (i2 : Int32) (i3 : Int32) (i4 : Int32) (i5 : Int32) (z : V) (g : VL), K8 i1 i2 i3 i4 i5 z g → ∀ (H : Heap) (locs : List Loc) (ls : Array Slot), va_P (dC, dI) vwCl (MW a ct z g) H → va_S A s.heap H locs → lv_has ls 7 [(0, .ref (a 0)), (1, .int i1), (2, .int i2), (3, .int i3), (4, .int i4), (5, .int i5)] → W p l e rm_X2_mostLeft s m args below meth c H locs 0 0 (MQ below (va_Qi (fun (r : Int32) (u : V × VL) => Post r u.1 u.2) (fun (u : V × VL) t => WPos dC dI ct (MW a ct u.1 u.2) A t) A) args s 0 0 A) (F0 m 8 ls [])) (i1 : Int32) (i2 : Int32) (i4 : Int32) (i5 : Int32) (is0 : Int32) (is1 : Int32) (z : V) (g : VL) (w : wp_X2_mostLeft_L61  Post K8 i1 i2 i4 i5 is0 is1 z g) : ∀ (H : Heap) (locs : List Loc) (ls : Array Slot), va_P (dC, dI) vwCl (MW a ct z g) H → va_S A s.heap H locs → lv_has ls 7 [(0, .ref (a 0)), (1, .int i1), (2, .int i2), (4, .int i4), (5, .int i5)] → W p l e rm_X2_mostLeft s m args below meth c H locs 0 0 (MQ below (va_Qi (fun (r : Int32) (u : V × VL) => Post r u.1 u.2) (fun (u : V × VL) t => WPos dC dI ct (MW a ct u.1 u.2) A t) A) args s 0 0 A) (F0 m 61 ls [.int is0, .int is1]) := by
  intro H locs ls hP hS hl
  have X0 := X
  obtain ⟨⟨hx, hb, hml, hr, hlk, hown, hts⟩, hA, hK, hN⟩ := X0
  unfold wp_X2_mostLeft_L61 at w
  refine lv_iadd hx hb dX2_mostLeft_61 ?_
  refine lv_istore_n (lv' := [(3, .int (is1 + is0)), (0, .ref (a 0)), (1, .int i1), (2, .int i2), (4, .int i4), (5, .int i5)]) hx hb dX2_mostLeft_62 rfl hl (by decide) rfl (fun ls hl => ?_)
  refine lv_iinc (v := (i5 + 1)) (lv' := [(5, .int (i5 + 1)), (3, .int (is1 + is0)), (0, .ref (a 0)), (1, .int i1), (2, .int i2), (4, .int i4)]) hx hb dX2_mostLeft_63 hl (k := 5) rfl rfl (by decide) rfl (fun ls hl => ?_)
  refine lv_goto (tgt := 8) hx hb dX2_mostLeft_66 (by decide) ?_
  exact hK8 _ _ _ _ _ _ _ w _ _ _ hP hS (lv_sub hl [2, 3, 4, 1, 5, 0] rfl)
set_option maxHeartbeats 4000000 in
set_option maxRecDepth 100000 in
theorem wk_X2_mostLeft_L60 {p : Program} {l : Launch} {e : Env} {s : State} {m : MethodId} {args : Array Value} {below : List Frame} {meth : Method} {c : Code} {dC : Nat → ClassId} {dI : Nat → Nat → Nat} {ct : Nat → ClassId} {A : Nat → Prop} {a : Nat → Nat} {Post : Int32 → V → VL → Prop} {K8 : Int32 → Int32 → Int32 → Int32 → Int32 → V → VL → Prop}  (X : CxW p s m args meth c cX2_mostLeft 7 (some .int) RX2 dC dI ct A) (hD : ∀ (z : V) (g : VL), va_D A (MW a ct z g)) (hK8 : ∀ (i1 : Int32) (i2 : Int32) (i3 : Int32) (i4 : Int32) (i5 : Int32) (z : V) (g : VL), K8 i1 i2 i3 i4 i5 z g → ∀ (H : Heap) (locs : List Loc) (ls : Array Slot), va_P (dC, dI) vwCl (MW a ct z g) H → va_S A s.heap H locs → lv_has ls 7 [(0, .ref (a 0)), (1, .int i1), (2, .int i2), (3, .int i3), (4, .int i4), (5, .int i5)] → W p l e rm_X2_mostLeft s m args below meth c H locs 0 0 (MQ below (va_Qi (fun (r : Int32) (u : V × VL) => Post r u.1 u.2) (fun (u : V × VL) t => WPos dC dI ct (MW a ct u.1 u.2) A t) A) args s 0 0 A) (F0 m 8 ls [])) (i1 : Int32) (i2 : Int32) (i4 : Int32) (i5 : Int32) (is0 : Int32) (z : V) (g : VL) (w : wp_X2_mostLeft_L60  Post K8 i1 i2 i4 i5 is0 z g) : ∀ (H : Heap) (locs : List Loc) (ls : Array Slot), va_P (dC, dI) vwCl (MW a ct z g) H → va_S A s.heap H locs → lv_has ls 7 [(0, .ref (a 0)), (1, .int i1), (2, .int i2), (4, .int i4), (5, .int i5)] → W p l e rm_X2_mostLeft s m args below meth c H locs 0 0 (MQ below (va_Qi (fun (r : Int32) (u : V × VL) => Post r u.1 u.2) (fun (u : V × VL) t => WPos dC dI ct (MW a ct u.1 u.2) A t) A) args s 0 0 A) (F0 m 60 ls [.int is0]) := by
  intro H locs ls hP hS hl
  have X0 := X
  obtain ⟨⟨hx, hb, hml, hr, hlk, hown, hts⟩, hA, hK, hN⟩ := X0
  unfold wp_X2_mostLeft_L60 at w
  refine lv_iconst (v := 0) hx hb dX2_mostLeft_60 (by decide) ?_
  exact wk_X2_mostLeft_L61 X hD hK8 _ _ _ _ _ _ _ _ w _ _ _ hP hS (lv_sub hl [0, 1, 2, 3, 4] rfl)
set_option maxHeartbeats 4000000 in
set_option maxRecDepth 100000 in
theorem wk_X2_mostLeft_L37 {p : Program} {l : Launch} {e : Env} {s : State} {m : MethodId} {args : Array Value} {below : List Frame} {meth : Method} {c : Code} {dC : Nat → ClassId} {dI : Nat → Nat → Nat} {ct : Nat → ClassId} {A : Nat → Prop} {a : Nat → Nat} {Post : Int32 → V → VL → Prop} {K8 : Int32 → Int32 → Int32 → Int32 → Int32 → V → VL → Prop}  (X : CxW p s m args meth c cX2_mostLeft 7 (some .int) RX2 dC dI ct A) (hD : ∀ (z : V) (g : VL), va_D A (MW a ct z g)) (hK8 : ∀ (i1 : Int32) (i2 : Int32) (i3 : Int32) (i4 : Int32) (i5 : Int32) (z : V) (g : VL), K8 i1 i2 i3 i4 i5 z g → ∀ (H : Heap) (locs : List Loc) (ls : Array Slot), va_P (dC, dI) vwCl (MW a ct z g) H → va_S A s.heap H locs → lv_has ls 7 [(0, .ref (a 0)), (1, .int i1), (2, .int i2), (3, .int i3), (4, .int i4), (5, .int i5)] → W p l e rm_X2_mostLeft s m args below meth c H locs 0 0 (MQ below (va_Qi (fun (r : Int32) (u : V × VL) => Post r u.1 u.2) (fun (u : V × VL) t => WPos dC dI ct (MW a ct u.1 u.2) A t) A) args s 0 0 A) (F0 m 8 ls [])) (i1 : Int32) (i2 : Int32) (i3 : Int32) (i5 : Int32) (i6 : Int32) (is0 : Int32) (is1 : Int32) (z : V) (g : VL) (w : wp_X2_mostLeft_L37  Post K8 i1 i2 i3 i5 i6 is0 is1 z g) : ∀ (H : Heap) (locs : List Loc) (ls : Array Slot), va_P (dC, dI) vwCl (MW a ct z g) H → va_S A s.heap H locs → lv_has ls 7 [(0, .ref (a 0)), (1, .int i1), (2, .int i2), (3, .int i3), (5, .int i5), (6, .int i6)] → W p l e rm_X2_mostLeft s m args below meth c H locs 0 0 (MQ below (va_Qi (fun (r : Int32) (u : V × VL) => Post r u.1 u.2) (fun (u : V × VL) t => WPos dC dI ct (MW a ct u.1 u.2) A t) A) args s 0 0 A) (F0 m 37 ls [.int is0, .int is1]) := by
  intro H locs ls hP hS hl
  have X0 := X
  obtain ⟨⟨hx, hb, hml, hr, hlk, hown, hts⟩, hA, hK, hN⟩ := X0
  unfold wp_X2_mostLeft_L37 at w
  refine lv_iadd hx hb dX2_mostLeft_37 ?_
  refine lv_istore (lv' := [(4, .int (is1 + is0)), (0, .ref (a 0)), (1, .int i1), (2, .int i2), (3, .int i3), (5, .int i5), (6, .int i6)]) hx hb dX2_mostLeft_38 hl (by decide) rfl (fun ls hl => ?_)
  refine lv_iload_n hx hb dX2_mostLeft_40 rfl (lv_at hl 4 rfl) ?_
  refine lv_iload hx hb dX2_mostLeft_41 (lv_at hl 6 rfl) ?_
  refine lv_if_eq (tgt := 60) hx hb dX2_mostLeft_43 (by decide) (fun c => ?_) (fun c => ?_)
  · have w := And.left w c
    exact wk_X2_mostLeft_L60 X hD hK8 _ _ _ _ _ _ _ w _ _ _ hP hS (lv_sub hl [1, 2, 3, 0, 5] rfl)
  · have w := And.right w c
    refine lv_iload hx hb dX2_mostLeft_46 (lv_at hl 5 rfl) ?_
    refine lv_iload_n hx hb dX2_mostLeft_48 rfl (lv_at hl 3 rfl) ?_
    refine lv_ishr hx hb dX2_mostLeft_49 ?_
    refine lv_iconst (v := 1) hx hb dX2_mostLeft_50 (by decide) ?_
    refine lv_iand hx hb dX2_mostLeft_51 ?_
    refine lv_iconst (v := 1) hx hb dX2_mostLeft_52 (by decide) ?_
    refine lv_icmp_ne (tgt := 60) hx hb dX2_mostLeft_53 (by decide) (fun c => ?_) (fun c => ?_)
    · have w := And.right w c
      exact wk_X2_mostLeft_L60 X hD hK8 _ _ _ _ _ _ _ w _ _ _ hP hS (lv_sub hl [1, 2, 3, 0, 5] rfl)
    · have w := And.left w c
      refine lv_iconst (v := 1) hx hb dX2_mostLeft_56 (by decide) ?_
      refine lv_goto (tgt := 61) hx hb dX2_mostLeft_57 (by decide) ?_
      exact wk_X2_mostLeft_L61 X hD hK8 _ _ _ _ _ _ _ _ w _ _ _ hP hS (lv_sub hl [1, 2, 3, 0, 5] rfl)
set_option maxHeartbeats 4000000 in
set_option maxRecDepth 100000 in
theorem wk_X2_mostLeft_L85 {p : Program} {l : Launch} {e : Env} {s : State} {m : MethodId} {args : Array Value} {below : List Frame} {meth : Method} {c : Code} {dC : Nat → ClassId} {dI : Nat → Nat → Nat} {ct : Nat → ClassId} {A : Nat → Prop} {a : Nat → Nat} {Post : Int32 → V → VL → Prop}   (X : CxW p s m args meth c cX2_mostLeft 7 (some .int) RX2 dC dI ct A) (hD : ∀ (z : V) (g : VL), va_D A (MW a ct z g))  (is0 : Int32) (z : V) (g : VL) (w : wp_X2_mostLeft_L85  Post  is0 z g) : ∀ (H : Heap) (locs : List Loc) (ls : Array Slot), va_P (dC, dI) vwCl (MW a ct z g) H → va_S A s.heap H locs → lv_has ls 7 [] → W p l e rm_X2_mostLeft s m args below meth c H locs 0 0 (MQ below (va_Qi (fun (r : Int32) (u : V × VL) => Post r u.1 u.2) (fun (u : V × VL) t => WPos dC dI ct (MW a ct u.1 u.2) A t) A) args s 0 0 A) (F0 m 85 ls [.int is0]) := by
  intro H locs ls hP hS hl
  have X0 := X
  obtain ⟨⟨hx, hb, hml, hr, hlk, hown, hts⟩, hA, hK, hN⟩ := X0
  unfold wp_X2_mostLeft_L85 at w
  exact W.iret (v := is0) hx hb hr (fun t ht hW => ⟨⟨is0, (z, g), rfl, w, by rw [ht]; exact hP, va_K.moved hW.alike hK, (hD _ _)⟩, hS.F ht⟩) hS.2.2 dX2_mostLeft_85 hlk
set_option maxHeartbeats 4000000 in
set_option maxRecDepth 100000 in
theorem wk_X2_mostLeft_S8 {p : Program} {l : Launch} {e : Env} {s : State} {m : MethodId} {args : Array Value} {below : List Frame} {meth : Method} {c : Code} {dC : Nat → ClassId} {dI : Nat → Nat → Nat} {ct : Nat → ClassId} {A : Nat → Prop} {a : Nat → Nat} {Post : Int32 → V → VL → Prop} {K8 : Int32 → Int32 → Int32 → Int32 → Int32 → V → VL → Prop}  (X : CxW p s m args meth c cX2_mostLeft 7 (some .int) RX2 dC dI ct A) (hD : ∀ (z : V) (g : VL), va_D A (MW a ct z g)) (hK8 : ∀ (i1 : Int32) (i2 : Int32) (i3 : Int32) (i4 : Int32) (i5 : Int32) (z : V) (g : VL), K8 i1 i2 i3 i4 i5 z g → ∀ (H : Heap) (locs : List Loc) (ls : Array Slot), va_P (dC, dI) vwCl (MW a ct z g) H → va_S A s.heap H locs → lv_has ls 7 [(0, .ref (a 0)), (1, .int i1), (2, .int i2), (3, .int i3), (4, .int i4), (5, .int i5)] → W p l e rm_X2_mostLeft s m args below meth c H locs 0 0 (MQ below (va_Qi (fun (r : Int32) (u : V × VL) => Post r u.1 u.2) (fun (u : V × VL) t => WPos dC dI ct (MW a ct u.1 u.2) A t) A) args s 0 0 A) (F0 m 8 ls [])) (i1 : Int32) (i2 : Int32) (i3 : Int32) (i4 : Int32) (i5 : Int32) (z : V) (g : VL) (w : wp_X2_mostLeft_S8  Post K8 i1 i2 i3 i4 i5 z g) : ∀ (H : Heap) (locs : List Loc) (ls : Array Slot), va_P (dC, dI) vwCl (MW a ct z g) H → va_S A s.heap H locs → lv_has ls 7 [(0, .ref (a 0)), (1, .int i1), (2, .int i2), (3, .int i3), (4, .int i4), (5, .int i5)] → W p l e rm_X2_mostLeft s m args below meth c H locs 0 0 (MQ below (va_Qi (fun (r : Int32) (u : V × VL) => Post r u.1 u.2) (fun (u : V × VL) t => WPos dC dI ct (MW a ct u.1 u.2) A t) A) args s 0 0 A) (F0 m 8 ls []) := by
  intro H locs ls hP hS hl
  have X0 := X
  obtain ⟨⟨hx, hb, hml, hr, hlk, hown, hts⟩, hA, hK, hN⟩ := X0
  unfold wp_X2_mostLeft_S8 at w
  refine lv_iload hx hb dX2_mostLeft_8 (lv_at hl 5 rfl) ?_
  refine lv_sipush (v := 256) hx hb dX2_mostLeft_10 (by decide) ?_
  refine lv_icmp_ge (tgt := 69) hx hb dX2_mostLeft_13 (by decide) (fun c => ?_) (fun c => ?_)
  · have w := And.left w c
    refine lv_iload_n hx hb dX2_mostLeft_69 rfl (lv_at hl 3 rfl) ?_
    refine lv_iload hx hb dX2_mostLeft_70 (lv_at hl 4 rfl) ?_
    refine lv_iload_n hx hb dX2_mostLeft_72 rfl (lv_at hl 3 rfl) ?_
    refine lv_isub hx hb dX2_mostLeft_73 ?_
    refine lv_icmp_le (tgt := 81) hx hb dX2_mostLeft_74 (by decide) (fun c => ?_) (fun c => ?_)
    · have w := And.left w c
      refine lv_iload hx hb dX2_mostLeft_81 (lv_at hl 4 rfl) ?_
      refine lv_iload_n hx hb dX2_mostLeft_83 rfl (lv_at hl 3 rfl) ?_
      refine lv_isub hx hb dX2_mostLeft_84 ?_
      exact wk_X2_mostLeft_L85 X hD  _ _ _ w _ _ _ hP hS (lv_sub hl [] rfl)
    · have w := And.right w c
      refine lv_iload_n hx hb dX2_mostLeft_77 rfl (lv_at hl 3 rfl) ?_
      refine lv_goto (tgt := 85) hx hb dX2_mostLeft_78 (by decide) ?_
      exact wk_X2_mostLeft_L85 X hD  _ _ _ w _ _ _ hP hS (lv_sub hl [] rfl)
  · have w := And.right w c
    refine lv_aload_n hx hb dX2_mostLeft_16 rfl (lv_at hl 0 rfl) ?_
    refine lv_iload_n hx hb dX2_mostLeft_17 rfl (lv_at hl 1 rfl) ?_
    refine lv_iload hx hb dX2_mostLeft_18 (lv_at hl 5 rfl) ?_
    refine va_calli (va_runV (As := [.int i1, .int i5]) (rest := []) ⟨hx, hb, hml, hown, hts⟩ (met_X2_fits l dC dI ct a _ w) (cwV 2 hts (lw_V q811 q813 qs40 q51 q814) rfl rfl rfl hd_X2_fits ⟨Nat.le_of_ble_eq_true rfl, Nat.le_of_ble_eq_true rfl⟩) (pre_V hK hP (hD _ _) hN (va_recv hK hP (ci := 2) (q0 := 0) rfl rfl)) rfl rfl hl.1 rfl (lv_room (Nat.le_of_ble_eq_true rfl)) dX2_mostLeft_20 ⟨Nat.le_refl _, Nat.le_refl _⟩) hS (fun q _ h => x_free (hD _ _) hS hA q h) (x_free (hD _ _) hS hA) (fun r1 u t H locs ht hvm w hB hz hk hS => ?_)
    obtain ⟨z_1, g_1⟩ := u
    dsimp only at w
    have hP : va_P (dC, dI) vwCl (MW a ct z_1 g_1) H := post_P hB ht
    refine lv_istore (lv' := [(6, .int r1), (0, .ref (a 0)), (1, .int i1), (2, .int i2), (3, .int i3), (4, .int i4), (5, .int i5)]) hx hb dX2_mostLeft_23 hl (by decide) rfl (fun ls hl => ?_)
    refine lv_iload hx hb dX2_mostLeft_25 (lv_at hl 5 rfl) ?_
    refine lv_iload hx hb dX2_mostLeft_27 (lv_at hl 0 rfl) ?_
    refine lv_if_eq (tgt := 36) hx hb dX2_mostLeft_29 (by decide) (fun c => ?_) (fun c => ?_)
    · have w := And.left w c
      refine lv_iconst (v := 0) hx hb dX2_mostLeft_36 (by decide) ?_
      exact wk_X2_mostLeft_L37 X hD hK8 _ _ _ _ _ _ _ _ _ w _ _ _ hP hS (lv_sub hl [1, 2, 3, 4, 6, 0] rfl)
    · have w := And.right w c
      refine lv_iconst (v := 1) hx hb dX2_mostLeft_32 (by decide) ?_
      refine lv_goto (tgt := 37) hx hb dX2_mostLeft_33 (by decide) ?_
      exact wk_X2_mostLeft_L37 X hD hK8 _ _ _ _ _ _ _ _ _ w _ _ _ hP hS (lv_sub hl [1, 2, 3, 4, 6, 0] rfl)
set_option maxHeartbeats 4000000 in
set_option maxRecDepth 100000 in
theorem wk_X2_mostLeft_L8 {p : Program} {l : Launch} {e : Env} {s : State} {m : MethodId} {args : Array Value} {below : List Frame} {meth : Method} {c : Code} {dC : Nat → ClassId} {dI : Nat → Nat → Nat} {ct : Nat → ClassId} {A : Nat → Prop} {a : Nat → Nat} {Post : Int32 → V → VL → Prop}   (X : CxW p s m args meth c cX2_mostLeft 7 (some .int) RX2 dC dI ct A) (hD : ∀ (z : V) (g : VL), va_D A (MW a ct z g))  : ∀ (n : Nat) (i1 : Int32) (i2 : Int32) (i3 : Int32) (i4 : Int32) (i5 : Int32) (z : V) (g : VL), wp_X2_mostLeft_L8  Post  n i1 i2 i3 i4 i5 z g → ∀ (H : Heap) (locs : List Loc) (ls : Array Slot), va_P (dC, dI) vwCl (MW a ct z g) H → va_S A s.heap H locs → lv_has ls 7 [(0, .ref (a 0)), (1, .int i1), (2, .int i2), (3, .int i3), (4, .int i4), (5, .int i5)] → W p l e rm_X2_mostLeft s m args below meth c H locs 0 0 (MQ below (va_Qi (fun (r : Int32) (u : V × VL) => Post r u.1 u.2) (fun (u : V × VL) t => WPos dC dI ct (MW a ct u.1 u.2) A t) A) args s 0 0 A) (F0 m 8 ls []) := by
  intro n
  induction n with
  | zero => intro i1 i2 i3 i4 i5 z g w; exact False.elim w
  | succ n ih => intro i1 i2 i3 i4 i5 z g w H locs ls hP hS hl; exact wk_X2_mostLeft_S8 X hD  ih i1 i2 i3 i4 i5 z g w H locs ls hP hS hl
set_option maxHeartbeats 4000000 in
set_option maxRecDepth 100000 in
theorem met_X2_mostLeft (l : Launch) (dC : Nat → ClassId) (dI : Nat → Nat → Nat) (ct : Nat → ClassId) (a : Nat → Nat) (sz : Nat) {i1 : Int32} {i2 : Int32} {z : V} {g : VL} {Post : Int32 → V → VL → Prop} (w : wp_X2_mostLeft i1 i2 z g Post) : Met l yX2_mostLeft (ws_ yX2_mostLeft cX2_mostLeft 7 (some .int)) rm_X2_mostLeft (va_Pc [.ref (a 0), .int i1, .int i2] (fun U => WPre dC dI ct (MW a ct z g) sz U)) ((fun A => (va_Qi (fun (r : Int32) (u : V × VL) => Post r u.1 u.2) (fun (u : V × VL) t => WPos dC dI ct (MW a ct u.1 u.2) A t) A)) (va_A (MW a ct z g) sz)) 0 0 (va_A (MW a ct z g) sz) := by
  refine open_W (fun A => (va_Qi (fun (r : Int32) (u : V × VL) => Post r u.1 u.2) (fun (u : V × VL) t => WPos dC dI ct (MW a ct u.1 u.2) A t) A)) (by decide) (Nat.le_of_ble_eq_true rfl) ?_
  intro p e s m args below meth c ls A X hD0 hP hS hl
  have X0 := X
  obtain ⟨⟨hx, hb, hml, hr, hlk, hown, hts⟩, hA, hK, hN⟩ := X0
  have hD : ∀ (z' : V) (g' : VL), va_D A (MW a ct z' g') := fun z' g' => va_D_addr hD0 rfl
  have hl : lv_has ls 7 [(0, .ref (a 0)), (1, .int i1), (2, .int i2)] := hl
  unfold wp_X2_mostLeft at w
  have hS0 := hS
  refine lv_iconst (v := 0) hx hb dX2_mostLeft_0 (by decide) ?_
  refine lv_istore_n (lv' := [(3, .int (0 : Int32)), (0, .ref (a 0)), (1, .int i1), (2, .int i2)]) hx hb dX2_mostLeft_1 rfl hl (by decide) rfl (fun ls hl => ?_)
  refine lv_iconst (v := 0) hx hb dX2_mostLeft_2 (by decide) ?_
  refine lv_istore (lv' := [(4, .int (0 : Int32)), (3, .int (0 : Int32)), (0, .ref (a 0)), (1, .int i1), (2, .int i2)]) hx hb dX2_mostLeft_3 hl (by decide) rfl (fun ls hl => ?_)
  refine lv_iconst (v := 0) hx hb dX2_mostLeft_5 (by decide) ?_
  refine lv_istore (lv' := [(5, .int (0 : Int32)), (4, .int (0 : Int32)), (3, .int (0 : Int32)), (0, .ref (a 0)), (1, .int i1), (2, .int i2)]) hx hb dX2_mostLeft_6 hl (by decide) rfl (fun ls hl => ?_)
  obtain ⟨n, w⟩ := w
  exact wk_X2_mostLeft_L8 X hD  n _ _ _ _ _ _ _ w _ _ _ hP hS (lv_sub hl [3, 4, 5, 2, 1, 0] rfl)
abbrev rm_X2_count : Room := { frames := 3, cells := 0, slots := 0, locals := 73 }
theorem hd_X2_count : yX2_count.cls = RX2 ∧ yX2_count.cls ≠ "java/lang/invoke/MethodHandle" ∧ yX2_count.cls ≠ "java/lang/invoke/VarHandle" ∧ (parseMethodDescriptor yX2_count.desc).map (fun d => d.parameters.length) = some 2 := by decide +kernel
set_option maxHeartbeats 4000000 in
set_option maxRecDepth 100000 in
theorem wk_X2_count_L22 {p : Program} {l : Launch} {e : Env} {s : State} {m : MethodId} {args : Array Value} {below : List Frame} {meth : Method} {c : Code} {dC : Nat → ClassId} {dI : Nat → Nat → Nat} {ct : Nat → ClassId} {A : Nat → Prop} {a : Nat → Nat} {Post : Int32 → V → VL → Prop}   (X : CxW p s m args meth c cX2_count 7 (some .int) RX2 dC dI ct A) (hD : ∀ (z : V) (g : VL), va_D A (MW a ct z g))  (z : V) (g : VL) (w : wp_X2_count_L22  Post  z g) : ∀ (H : Heap) (locs : List Loc) (ls : Array Slot), va_P (dC, dI) vwCl (MW a ct z g) H → va_S A s.heap H locs → lv_has ls 7 [] → W p l e rm_X2_count s m args below meth c H locs 0 0 (MQ below (va_Qi (fun (r : Int32) (u : V × VL) => Post r u.1 u.2) (fun (u : V × VL) t => WPos dC dI ct (MW a ct u.1 u.2) A t) A) args s 0 0 A) (F0 m 22 ls []) := by
  intro H locs ls hP hS hl
  have X0 := X
  obtain ⟨⟨hx, hb, hml, hr, hlk, hown, hts⟩, hA, hK, hN⟩ := X0
  unfold wp_X2_count_L22 at w
  refine lv_bipush (v := -2) hx hb dX2_count_22 (by decide) ?_
  exact W.iret (v := (-2 : Int32)) hx hb hr (fun t ht hW => ⟨⟨(-2 : Int32), (z, g), rfl, w, by rw [ht]; exact hP, va_K.moved hW.alike hK, (hD _ _)⟩, hS.F ht⟩) hS.2.2 dX2_count_24 hlk
set_option maxHeartbeats 4000000 in
set_option maxRecDepth 100000 in
theorem wk_X2_count_L82 {p : Program} {l : Launch} {e : Env} {s : State} {m : MethodId} {args : Array Value} {below : List Frame} {meth : Method} {c : Code} {dC : Nat → ClassId} {dI : Nat → Nat → Nat} {ct : Nat → ClassId} {A : Nat → Prop} {a : Nat → Nat} {Post : Int32 → V → VL → Prop} {K38 : Int32 → Int32 → Int32 → Int32 → Int32 → V → VL → Prop}  (X : CxW p s m args meth c cX2_count 7 (some .int) RX2 dC dI ct A) (hD : ∀ (z : V) (g : VL), va_D A (MW a ct z g)) (hK38 : ∀ (i1 : Int32) (i2 : Int32) (i3 : Int32) (i4 : Int32) (i5 : Int32) (z : V) (g : VL), K38 i1 i2 i3 i4 i5 z g → ∀ (H : Heap) (locs : List Loc) (ls : Array Slot), va_P (dC, dI) vwCl (MW a ct z g) H → va_S A s.heap H locs → lv_has ls 7 [(0, .ref (a 0)), (1, .int i1), (2, .int i2), (3, .int i3), (4, .int i4), (5, .int i5)] → W p l e rm_X2_count s m args below meth c H locs 0 0 (MQ below (va_Qi (fun (r : Int32) (u : V × VL) => Post r u.1 u.2) (fun (u : V × VL) t => WPos dC dI ct (MW a ct u.1 u.2) A t) A) args s 0 0 A) (F0 m 38 ls [])) (i1 : Int32) (i2 : Int32) (i3 : Int32) (i5 : Int32) (is0 : Int32) (z : V) (g : VL) (w : wp_X2_count_L82  Post K38 i1 i2 i3 i5 is0 z g) : ∀ (H : Heap) (locs : List Loc) (ls : Array Slot), va_P (dC, dI) vwCl (MW a ct z g) H → va_S A s.heap H locs → lv_has ls 7 [(0, .ref (a 0)), (1, .int i1), (2, .int i2), (3, .int i3), (5, .int i5)] → W p l e rm_X2_count s m args below meth c H locs 0 0 (MQ below (va_Qi (fun (r : Int32) (u : V × VL) => Post r u.1 u.2) (fun (u : V × VL) t => WPos dC dI ct (MW a ct u.1 u.2) A t) A) args s 0 0 A) (F0 m 82 ls [.int is0]) := by
  intro H locs ls hP hS hl
  have X0 := X
  obtain ⟨⟨hx, hb, hml, hr, hlk, hown, hts⟩, hA, hK, hN⟩ := X0
  unfold wp_X2_count_L82 at w
  refine lv_istore (lv' := [(4, .int is0), (0, .ref (a 0)), (1, .int i1), (2, .int i2), (3, .int i3), (5, .int i5)]) hx hb dX2_count_82 hl (by decide) rfl (fun ls hl => ?_)
  refine lv_iinc (v := (i5 + 1)) (lv' := [(5, .int (i5 + 1)), (4, .int is0), (0, .ref (a 0)), (1, .int i1), (2, .int i2), (3, .int i3)]) hx hb dX2_count_84 hl (k := 5) rfl rfl (by decide) rfl (fun ls hl => ?_)
  refine lv_goto (tgt := 38) hx hb dX2_count_87 (by decide) ?_
  exact hK38 _ _ _ _ _ _ _ w _ _ _ hP hS (lv_sub hl [2, 3, 4, 5, 1, 0] rfl)
set_option maxHeartbeats 4000000 in
set_option maxRecDepth 100000 in
theorem wk_X2_count_L67 {p : Program} {l : Launch} {e : Env} {s : State} {m : MethodId} {args : Array Value} {below : List Frame} {meth : Method} {c : Code} {dC : Nat → ClassId} {dI : Nat → Nat → Nat} {ct : Nat → ClassId} {A : Nat → Prop} {a : Nat → Nat} {Post : Int32 → V → VL → Prop} {K38 : Int32 → Int32 → Int32 → Int32 → Int32 → V → VL → Prop}  (X : CxW p s m args meth c cX2_count 7 (some .int) RX2 dC dI ct A) (hD : ∀ (z : V) (g : VL), va_D A (MW a ct z g)) (hK38 : ∀ (i1 : Int32) (i2 : Int32) (i3 : Int32) (i4 : Int32) (i5 : Int32) (z : V) (g : VL), K38 i1 i2 i3 i4 i5 z g → ∀ (H : Heap) (locs : List Loc) (ls : Array Slot), va_P (dC, dI) vwCl (MW a ct z g) H → va_S A s.heap H locs → lv_has ls 7 [(0, .ref (a 0)), (1, .int i1), (2, .int i2), (3, .int i3), (4, .int i4), (5, .int i5)] → W p l e rm_X2_count s m args below meth c H locs 0 0 (MQ below (va_Qi (fun (r : Int32) (u : V × VL) => Post r u.1 u.2) (fun (u : V × VL) t => WPos dC dI ct (MW a ct u.1 u.2) A t) A) args s 0 0 A) (F0 m 38 ls [])) (i1 : Int32) (i2 : Int32) (i4 : Int32) (i5 : Int32) (i6 : Int32) (is0 : Int32) (z : V) (g : VL) (w : wp_X2_count_L67  Post K38 i1 i2 i4 i5 i6 is0 z g) : ∀ (H : Heap) (locs : List Loc) (ls : Array Slot), va_P (dC, dI) vwCl (MW a ct z g) H → va_S A s.heap H locs → lv_has ls 7 [(0, .ref (a 0)), (1, .int i1), (2, .int i2), (4, .int i4), (5, .int i5), (6, .int i6)] → W p l e rm_X2_count s m args below meth c H locs 0 0 (MQ below (va_Qi (fun (r : Int32) (u : V × VL) => Post r u.1 u.2) (fun (u : V × VL) t => WPos dC dI ct (MW a ct u.1 u.2) A t) A) args s 0 0 A) (F0 m 67 ls [.int is0]) := by
  intro H locs ls hP hS hl
  have X0 := X
  obtain ⟨⟨hx, hb, hml, hr, hlk, hown, hts⟩, hA, hK, hN⟩ := X0
  unfold wp_X2_count_L67 at w
  refine lv_istore_n (lv' := [(3, .int is0), (0, .ref (a 0)), (1, .int i1), (2, .int i2), (4, .int i4), (5, .int i5), (6, .int i6)]) hx hb dX2_count_67 rfl hl (by decide) rfl (fun ls hl => ?_)
  refine lv_iload hx hb dX2_count_68 (lv_at hl 6 rfl) ?_
  refine lv_iload hx hb dX2_count_70 (lv_at hl 4 rfl) ?_
  refine lv_icmp_ge (tgt := 80) hx hb dX2_count_72 (by decide) (fun c => ?_) (fun c => ?_)
  · have w := And.left w c
    refine lv_iload hx hb dX2_count_80 (lv_at hl 4 rfl) ?_
    exact wk_X2_count_L82 X hD hK38 _ _ _ _ _ _ _ w _ _ _ hP hS (lv_sub hl [1, 2, 3, 0, 5] rfl)
  · have w := And.right w c
    refine lv_iload hx hb dX2_count_75 (lv_at hl 6 rfl) ?_
    refine lv_goto (tgt := 82) hx hb dX2_count_77 (by decide) ?_
    exact wk_X2_count_L82 X hD hK38 _ _ _ _ _ _ _ w _ _ _ hP hS (lv_sub hl [1, 2, 3, 0, 5] rfl)
set_option maxHeartbeats 4000000 in
set_option maxRecDepth 100000 in
theorem wk_X2_count_L110 {p : Program} {l : Launch} {e : Env} {s : State} {m : MethodId} {args : Array Value} {below : List Frame} {meth : Method} {c : Code} {dC : Nat → ClassId} {dI : Nat → Nat → Nat} {ct : Nat → ClassId} {A : Nat → Prop} {a : Nat → Nat} {Post : Int32 → V → VL → Prop}   (X : CxW p s m args meth c cX2_count 7 (some .int) RX2 dC dI ct A) (hD : ∀ (z : V) (g : VL), va_D A (MW a ct z g))  (is0 : Int32) (z : V) (g : VL) (w : wp_X2_count_L110  Post  is0 z g) : ∀ (H : Heap) (locs : List Loc) (ls : Array Slot), va_P (dC, dI) vwCl (MW a ct z g) H → va_S A s.heap H locs → lv_has ls 7 [] → W p l e rm_X2_count s m args below meth c H locs 0 0 (MQ below (va_Qi (fun (r : Int32) (u : V × VL) => Post r u.1 u.2) (fun (u : V × VL) t => WPos dC dI ct (MW a ct u.1 u.2) A t) A) args s 0 0 A) (F0 m 110 ls [.int is0]) := by
  intro H locs ls hP hS hl
  have X0 := X
  obtain ⟨⟨hx, hb, hml, hr, hlk, hown, hts⟩, hA, hK, hN⟩ := X0
  unfold wp_X2_count_L110 at w
  exact W.iret (v := is0) hx hb hr (fun t ht hW => ⟨⟨is0, (z, g), rfl, w, by rw [ht]; exact hP, va_K.moved hW.alike hK, (hD _ _)⟩, hS.F ht⟩) hS.2.2 dX2_count_110 hlk
set_option maxHeartbeats 4000000 in
set_option maxRecDepth 100000 in
theorem wk_X2_count_S38 {p : Program} {l : Launch} {e : Env} {s : State} {m : MethodId} {args : Array Value} {below : List Frame} {meth : Method} {c : Code} {dC : Nat → ClassId} {dI : Nat → Nat → Nat} {ct : Nat → ClassId} {A : Nat → Prop} {a : Nat → Nat} {Post : Int32 → V → VL → Prop} {K38 : Int32 → Int32 → Int32 → Int32 → Int32 → V → VL → Prop}  (X : CxW p s m args meth c cX2_count 7 (some .int) RX2 dC dI ct A) (hD : ∀ (z : V) (g : VL), va_D A (MW a ct z g)) (hK38 : ∀ (i1 : Int32) (i2 : Int32) (i3 : Int32) (i4 : Int32) (i5 : Int32) (z : V) (g : VL), K38 i1 i2 i3 i4 i5 z g → ∀ (H : Heap) (locs : List Loc) (ls : Array Slot), va_P (dC, dI) vwCl (MW a ct z g) H → va_S A s.heap H locs → lv_has ls 7 [(0, .ref (a 0)), (1, .int i1), (2, .int i2), (3, .int i3), (4, .int i4), (5, .int i5)] → W p l e rm_X2_count s m args below meth c H locs 0 0 (MQ below (va_Qi (fun (r : Int32) (u : V × VL) => Post r u.1 u.2) (fun (u : V × VL) t => WPos dC dI ct (MW a ct u.1 u.2) A t) A) args s 0 0 A) (F0 m 38 ls [])) (i1 : Int32) (i2 : Int32) (i3 : Int32) (i4 : Int32) (i5 : Int32) (z : V) (g : VL) (w : wp_X2_count_S38  Post K38 i1 i2 i3 i4 i5 z g) : ∀ (H : Heap) (locs : List Loc) (ls : Array Slot), va_P (dC, dI) vwCl (MW a ct z g) H → va_S A s.heap H locs → lv_has ls 7 [(0, .ref (a 0)), (1, .int i1), (2, .int i2), (3, .int i3), (4, .int i4), (5, .int i5)] → W p l e rm_X2_count s m args below meth c H locs 0 0 (MQ below (va_Qi (fun (r : Int32) (u : V × VL) => Post r u.1 u.2) (fun (u : V × VL) t => WPos dC dI ct (MW a ct u.1 u.2) A t) A) args s 0 0 A) (F0 m 38 ls []) := by
  intro H locs ls hP hS hl
  have X0 := X
  obtain ⟨⟨hx, hb, hml, hr, hlk, hown, hts⟩, hA, hK, hN⟩ := X0
  unfold wp_X2_count_S38 at w
  refine lv_iload hx hb dX2_count_38 (lv_at hl 5 rfl) ?_
  refine lv_bipush (v := 8) hx hb dX2_count_40 (by decide) ?_
  refine lv_icmp_ge (tgt := 90) hx hb dX2_count_42 (by decide) (fun c => ?_) (fun c => ?_)
  · have w := And.left w c
    refine lv_iload hx hb dX2_count_90 (lv_at hl 4 rfl) ?_
    refine lv_if_ne (tgt := 100) hx hb dX2_count_92 (by decide) (fun c => ?_) (fun c => ?_)
    · have w := And.right w c
      refine lv_iload_n hx hb dX2_count_100 rfl (lv_at hl 2 rfl) ?_
      refine lv_if_ne (tgt := 108) hx hb dX2_count_101 (by decide) (fun c => ?_) (fun c => ?_)
      · have w := And.right w c
        refine lv_iload hx hb dX2_count_108 (lv_at hl 4 rfl) ?_
        exact wk_X2_count_L110 X hD  _ _ _ w _ _ _ hP hS (lv_sub hl [] rfl)
      · have w := And.left w c
        refine lv_iload_n hx hb dX2_count_104 rfl (lv_at hl 3 rfl) ?_
        refine lv_goto (tgt := 110) hx hb dX2_count_105 (by decide) ?_
        exact wk_X2_count_L110 X hD  _ _ _ w _ _ _ hP hS (lv_sub hl [] rfl)
    · have w := And.left w c
      refine lv_bipush (v := -6) hx hb dX2_count_95 (by decide) ?_
      refine lv_goto (tgt := 110) hx hb dX2_count_97 (by decide) ?_
      exact wk_X2_count_L110 X hD  _ _ _ w _ _ _ hP hS (lv_sub hl [] rfl)
  · have w := And.right w c
    refine lv_aload_n hx hb dX2_count_45 rfl (lv_at hl 0 rfl) ?_
    refine lv_iload_n hx hb dX2_count_46 rfl (lv_at hl 1 rfl) ?_
    refine lv_iload hx hb dX2_count_47 (lv_at hl 5 rfl) ?_
    refine va_calli (va_runV (As := [.int i1, .int i5]) (rest := []) ⟨hx, hb, hml, hown, hts⟩ (met_X2_mostLeft l dC dI ct a _ w) (cwV 2 hts (lw_V q822 q824 qs41 q51 q825) rfl rfl rfl hd_X2_mostLeft ⟨Nat.le_of_ble_eq_true rfl, Nat.le_of_ble_eq_true rfl⟩) (pre_V hK hP (hD _ _) hN (va_recv hK hP (ci := 2) (q0 := 0) rfl rfl)) rfl rfl hl.1 rfl (lv_room (Nat.le_of_ble_eq_true rfl)) dX2_count_49 ⟨Nat.le_refl _, Nat.le_refl _⟩) hS (fun q _ h => x_free (hD _ _) hS hA q h) (x_free (hD _ _) hS hA) (fun r1 u t H locs ht hvm w hB hz hk hS => ?_)
    obtain ⟨z_1, g_1⟩ := u
    dsimp only at w
    have hP : va_P (dC, dI) vwCl (MW a ct z_1 g_1) H := post_P hB ht
    refine lv_istore (lv' := [(6, .int r1), (0, .ref (a 0)), (1, .int i1), (2, .int i2), (3, .int i3), (4, .int i4), (5, .int i5)]) hx hb dX2_count_52 hl (by decide) rfl (fun ls hl => ?_)
    refine lv_iload hx hb dX2_count_54 (lv_at hl 0 rfl) ?_
    refine lv_iload hx hb dX2_count_56 (lv_at hl 5 rfl) ?_
    refine lv_icmp_ge (tgt := 66) hx hb dX2_count_58 (by decide) (fun c => ?_) (fun c => ?_)
    · have w := And.left w c
      refine lv_iload_n hx hb dX2_count_66 rfl (lv_at hl 4 rfl) ?_
      exact wk_X2_count_L67 X hD hK38 _ _ _ _ _ _ _ _ w _ _ _ hP hS (lv_sub hl [1, 2, 3, 5, 6, 0] rfl)
    · have w := And.right w c
      refine lv_iload hx hb dX2_count_61 (lv_at hl 6 rfl) ?_
      refine lv_goto (tgt := 67) hx hb dX2_count_63 (by decide) ?_
      exact wk_X2_count_L67 X hD hK38 _ _ _ _ _ _ _ _ w _ _ _ hP hS (lv_sub hl [1, 2, 3, 5, 6, 0] rfl)
set_option maxHeartbeats 4000000 in
set_option maxRecDepth 100000 in
theorem wk_X2_count_L38 {p : Program} {l : Launch} {e : Env} {s : State} {m : MethodId} {args : Array Value} {below : List Frame} {meth : Method} {c : Code} {dC : Nat → ClassId} {dI : Nat → Nat → Nat} {ct : Nat → ClassId} {A : Nat → Prop} {a : Nat → Nat} {Post : Int32 → V → VL → Prop}   (X : CxW p s m args meth c cX2_count 7 (some .int) RX2 dC dI ct A) (hD : ∀ (z : V) (g : VL), va_D A (MW a ct z g))  : ∀ (n : Nat) (i1 : Int32) (i2 : Int32) (i3 : Int32) (i4 : Int32) (i5 : Int32) (z : V) (g : VL), wp_X2_count_L38  Post  n i1 i2 i3 i4 i5 z g → ∀ (H : Heap) (locs : List Loc) (ls : Array Slot), va_P (dC, dI) vwCl (MW a ct z g) H → va_S A s.heap H locs → lv_has ls 7 [(0, .ref (a 0)), (1, .int i1), (2, .int i2), (3, .int i3), (4, .int i4), (5, .int i5)] → W p l e rm_X2_count s m args below meth c H locs 0 0 (MQ below (va_Qi (fun (r : Int32) (u : V × VL) => Post r u.1 u.2) (fun (u : V × VL) t => WPos dC dI ct (MW a ct u.1 u.2) A t) A) args s 0 0 A) (F0 m 38 ls []) := by
  intro n
  induction n with
  | zero => intro i1 i2 i3 i4 i5 z g w; exact False.elim w
  | succ n ih => intro i1 i2 i3 i4 i5 z g w H locs ls hP hS hl; exact wk_X2_count_S38 X hD  ih i1 i2 i3 i4 i5 z g w H locs ls hP hS hl
set_option maxHeartbeats 4000000 in
set_option maxRecDepth 100000 in
theorem met_X2_count (l : Launch) (dC : Nat → ClassId) (dI : Nat → Nat → Nat) (ct : Nat → ClassId) (a : Nat → Nat) (sz : Nat) {i1 : Int32} {i2 : Int32} {z : V} {g : VL} {Post : Int32 → V → VL → Prop} (w : wp_X2_count i1 i2 z g Post) : Met l yX2_count (ws_ yX2_count cX2_count 7 (some .int)) rm_X2_count (va_Pc [.ref (a 0), .int i1, .int i2] (fun U => WPre dC dI ct (MW a ct z g) sz U)) ((fun A => (va_Qi (fun (r : Int32) (u : V × VL) => Post r u.1 u.2) (fun (u : V × VL) t => WPos dC dI ct (MW a ct u.1 u.2) A t) A)) (va_A (MW a ct z g) sz)) 0 0 (va_A (MW a ct z g) sz) := by
  refine open_W (fun A => (va_Qi (fun (r : Int32) (u : V × VL) => Post r u.1 u.2) (fun (u : V × VL) t => WPos dC dI ct (MW a ct u.1 u.2) A t) A)) (by decide) (Nat.le_of_ble_eq_true rfl) ?_
  intro p e s m args below meth c ls A X hD0 hP hS hl
  have X0 := X
  obtain ⟨⟨hx, hb, hml, hr, hlk, hown, hts⟩, hA, hK, hN⟩ := X0
  have hD : ∀ (z' : V) (g' : VL), va_D A (MW a ct z' g') := fun z' g' => va_D_addr hD0 rfl
  have hl : lv_has ls 7 [(0, .ref (a 0)), (1, .int i1), (2, .int i2)] := hl
  unfold wp_X2_count at w
  have hS0 := hS
  refine lv_iload_n hx hb dX2_count_0 rfl (lv_at hl 1 rfl) ?_
  refine lv_i2l hx hb dX2_count_1 rfl ?_
  refine lv_lconst (v := 0) hx hb dX2_count_2 (by decide) ?_
  refine lv_ldc2 (v := 3) hx hb hown (hts _ q715) dX2_count_3 ?_
  refine vp_callSi (W.runS (As := [.long i1.toInt64, .long (0 : Int64), .long (3 : Int64)]) (rest := []) ⟨hx, hb, hml, hown, hts⟩ (met_X2_in l w) (va_cwS 3 hts (lw_S q570 q571 q51 q572) rfl rfl rfl hd_X2_in ⟨Nat.le_of_ble_eq_true rfl, Nat.le_of_ble_eq_true rfl⟩) pre_S rfl rfl hl.1 rfl (lv_room (Nat.le_of_ble_eq_true rfl)) dX2_count_6 ⟨Nat.le_refl _, Nat.le_refl _⟩) (fun r1 w => ?_)
  refine lv_if_eq (tgt := 22) hx hb dX2_count_9 (by decide) (fun c => ?_) (fun c => ?_)
  · have w := And.left w c
    exact wk_X2_count_L22 X hD  _ _ w _ _ _ hP hS (lv_sub hl [] rfl)
  · have w := And.right w c
    refine lv_iload_n hx hb dX2_count_12 rfl (lv_at hl 2 rfl) ?_
    refine lv_i2l hx hb dX2_count_13 rfl ?_
    refine lv_lconst (v := 0) hx hb dX2_count_14 (by decide) ?_
    refine lv_lconst (v := 1) hx hb dX2_count_15 (by decide) ?_
    refine vp_callSi (W.runS (As := [.long i2.toInt64, .long (0 : Int64), .long (1 : Int64)]) (rest := []) ⟨hx, hb, hml, hown, hts⟩ (met_X2_in l w) (va_cwS 3 hts (lw_S q570 q571 q51 q572) rfl rfl rfl hd_X2_in ⟨Nat.le_of_ble_eq_true rfl, Nat.le_of_ble_eq_true rfl⟩) pre_S rfl rfl hl.1 rfl (lv_room (Nat.le_of_ble_eq_true rfl)) dX2_count_16 ⟨Nat.le_refl _, Nat.le_refl _⟩) (fun r2 w => ?_)
    refine lv_if_ne (tgt := 25) hx hb dX2_count_19 (by decide) (fun c => ?_) (fun c => ?_)
    · have w := And.right w c
      refine lv_iconst (v := 0) hx hb dX2_count_25 (by decide) ?_
      refine lv_istore_n (lv' := [(3, .int (0 : Int32)), (0, .ref (a 0)), (1, .int i1), (2, .int i2)]) hx hb dX2_count_26 rfl hl (by decide) rfl (fun ls hl => ?_)
      refine lv_aload_n hx hb dX2_count_27 rfl (lv_at hl 1 rfl) ?_
      refine lv_iload_n hx hb dX2_count_28 rfl (lv_at hl 2 rfl) ?_
      refine lv_iconst (v := 0) hx hb dX2_count_29 (by decide) ?_
      refine va_calli (va_runV (As := [.int i1, .int (0 : Int32)]) (rest := []) ⟨hx, hb, hml, hown, hts⟩ (met_X2_mostLeft l dC dI ct a _ w) (cwV 2 hts (lw_V q822 q824 qs41 q51 q825) rfl rfl rfl hd_X2_mostLeft ⟨Nat.le_of_ble_eq_true rfl, Nat.le_of_ble_eq_true rfl⟩) (pre_V hK hP (hD _ _) hN (va_recv hK hP (ci := 2) (q0 := 0) rfl rfl)) rfl rfl hl.1 rfl (lv_room (Nat.le_of_ble_eq_true rfl)) dX2_count_30 ⟨Nat.le_refl _, Nat.le_refl _⟩) hS (fun q _ h => x_free (hD _ _) hS hA q h) (x_free (hD _ _) hS hA) (fun r3 u t H locs ht hvm w hB hz hk hS => ?_)
      obtain ⟨z_3, g_3⟩ := u
      dsimp only at w
      have hP : va_P (dC, dI) vwCl (MW a ct z_3 g_3) H := post_P hB ht
      refine lv_istore (lv' := [(4, .int r3), (3, .int (0 : Int32)), (0, .ref (a 0)), (1, .int i1), (2, .int i2)]) hx hb dX2_count_33 hl (by decide) rfl (fun ls hl => ?_)
      refine lv_iconst (v := 1) hx hb dX2_count_35 (by decide) ?_
      refine lv_istore (lv' := [(5, .int (1 : Int32)), (4, .int r3), (3, .int (0 : Int32)), (0, .ref (a 0)), (1, .int i1), (2, .int i2)]) hx hb dX2_count_36 hl (by decide) rfl (fun ls hl => ?_)
      obtain ⟨n, w⟩ := w
      exact wk_X2_count_L38 X hD  n _ _ _ _ _ _ _ w _ _ _ hP hS (lv_sub hl [3, 4, 5, 2, 1, 0] rfl)
    · have w := And.left w c
      exact wk_X2_count_L22 X hD  _ _ w _ _ _ hP hS (lv_sub hl [] rfl)
abbrev rm_X2_year : Room := { frames := 5, cells := 0, slots := 0, locals := 110 }
theorem hd_X2_year : yX2_year.cls = RX2 ∧ yX2_year.cls ≠ "java/lang/invoke/MethodHandle" ∧ yX2_year.cls ≠ "java/lang/invoke/VarHandle" ∧ (parseMethodDescriptor yX2_year.desc).map (fun d => d.parameters.length) = some 3 := by decide +kernel
set_option maxHeartbeats 4000000 in
set_option maxRecDepth 100000 in
theorem wk_X2_year_L36 {p : Program} {l : Launch} {e : Env} {s : State} {m : MethodId} {args : Array Value} {below : List Frame} {meth : Method} {c : Code} {dC : Nat → ClassId} {dI : Nat → Nat → Nat} {ct : Nat → ClassId} {A : Nat → Prop} {a : Nat → Nat} {Post : Int32 → V → VL → Prop}   (X : CxW p s m args meth c cX2_year 9 (some .int) RX2 dC dI ct A) (hD : ∀ (z : V) (g : VL), va_D A (MW a ct z g))  (z : V) (g : VL) (w : wp_X2_year_L36  Post  z g) : ∀ (H : Heap) (locs : List Loc) (ls : Array Slot), va_P (dC, dI) vwCl (MW a ct z g) H → va_S A s.heap H locs → lv_has ls 9 [] → W p l e rm_X2_year s m args below meth c H locs 0 0 (MQ below (va_Qi (fun (r : Int32) (u : V × VL) => Post r u.1 u.2) (fun (u : V × VL) t => WPos dC dI ct (MW a ct u.1 u.2) A t) A) args s 0 0 A) (F0 m 36 ls []) := by
  intro H locs ls hP hS hl
  have X0 := X
  obtain ⟨⟨hx, hb, hml, hr, hlk, hown, hts⟩, hA, hK, hN⟩ := X0
  unfold wp_X2_year_L36 at w
  refine lv_bipush (v := -2) hx hb dX2_year_36 (by decide) ?_
  exact W.iret (v := (-2 : Int32)) hx hb hr (fun t ht hW => ⟨⟨(-2 : Int32), (z, g), rfl, w, by rw [ht]; exact hP, va_K.moved hW.alike hK, (hD _ _)⟩, hS.F ht⟩) hS.2.2 dX2_year_38 hlk
set_option maxHeartbeats 4000000 in
set_option maxRecDepth 100000 in
theorem wk_X2_year_L128 {p : Program} {l : Launch} {e : Env} {s : State} {m : MethodId} {args : Array Value} {below : List Frame} {meth : Method} {c : Code} {dC : Nat → ClassId} {dI : Nat → Nat → Nat} {ct : Nat → ClassId} {A : Nat → Prop} {a : Nat → Nat} {Post : Int32 → V → VL → Prop} {K49 : Int32 → Int32 → Int32 → Int32 → V → VL → Prop}  (X : CxW p s m args meth c cX2_year 9 (some .int) RX2 dC dI ct A) (hD : ∀ (z : V) (g : VL), va_D A (MW a ct z g)) (hK49 : ∀ (i2 : Int32) (i3 : Int32) (i4 : Int32) (i5 : Int32) (z : V) (g : VL), K49 i2 i3 i4 i5 z g → ∀ (H : Heap) (locs : List Loc) (ls : Array Slot), va_P (dC, dI) vwCl (MW a ct z g) H → va_S A s.heap H locs → lv_has ls 9 [(0, .ref (a 0)), (2, .int i2), (3, .int i3), (4, .int i4), (5, .int i5)] → W p l e rm_X2_year s m args below meth c H locs 0 0 (MQ below (va_Qi (fun (r : Int32) (u : V × VL) => Post r u.1 u.2) (fun (u : V × VL) t => WPos dC dI ct (MW a ct u.1 u.2) A t) A) args s 0 0 A) (F0 m 49 ls [])) (i2 : Int32) (i3 : Int32) (i4 : Int32) (i5 : Int32) (z : V) (g : VL) (w : wp_X2_year_L128  Post K49 i2 i3 i4 i5 z g) : ∀ (H : Heap) (locs : List Loc) (ls : Array Slot), va_P (dC, dI) vwCl (MW a ct z g) H → va_S A s.heap H locs → lv_has ls 9 [(0, .ref (a 0)), (2, .int i2), (3, .int i3), (4, .int i4), (5, .int i5)] → W p l e rm_X2_year s m args below meth c H locs 0 0 (MQ below (va_Qi (fun (r : Int32) (u : V × VL) => Post r u.1 u.2) (fun (u : V × VL) t => WPos dC dI ct (MW a ct u.1 u.2) A t) A) args s 0 0 A) (F0 m 128 ls []) := by
  intro H locs ls hP hS hl
  have X0 := X
  obtain ⟨⟨hx, hb, hml, hr, hlk, hown, hts⟩, hA, hK, hN⟩ := X0
  unfold wp_X2_year_L128 at w
  refine lv_iinc (v := (i5 + 1)) (lv' := [(5, .int (i5 + 1)), (0, .ref (a 0)), (2, .int i2), (3, .int i3), (4, .int i4)]) hx hb dX2_year_128 hl (k := 4) rfl rfl (by decide) rfl (fun ls hl => ?_)
  refine lv_goto (tgt := 49) hx hb dX2_year_131 (by decide) ?_
  exact hK49 _ _ _ _ _ _ w _ _ _ hP hS (lv_sub hl [1, 2, 3, 4, 0] rfl)
set_option maxHeartbeats 4000000 in
set_option maxRecDepth 100000 in
theorem wk_X2_year_L166 {p : Program} {l : Launch} {e : Env} {s : State} {m : MethodId} {args : Array Value} {below : List Frame} {meth : Method} {c : Code} {dC : Nat → ClassId} {dI : Nat → Nat → Nat} {ct : Nat → ClassId} {A : Nat → Prop} {a : Nat → Nat} {Post : Int32 → V → VL → Prop}   (X : CxW p s m args meth c cX2_year 9 (some .int) RX2 dC dI ct A) (hD : ∀ (z : V) (g : VL), va_D A (MW a ct z g))  (is0 : Int32) (z : V) (g : VL) (w : wp_X2_year_L166  Post  is0 z g) : ∀ (H : Heap) (locs : List Loc) (ls : Array Slot), va_P (dC, dI) vwCl (MW a ct z g) H → va_S A s.heap H locs → lv_has ls 9 [(0, .ref (a 0))] → W p l e rm_X2_year s m args below meth c H locs 0 0 (MQ below (va_Qi (fun (r : Int32) (u : V × VL) => Post r u.1 u.2) (fun (u : V × VL) t => WPos dC dI ct (MW a ct u.1 u.2) A t) A) args s 0 0 A) (F0 m 166 ls [.int is0]) := by
  intro H locs ls hP hS hl
  have X0 := X
  obtain ⟨⟨hx, hb, hml, hr, hlk, hown, hts⟩, hA, hK, hN⟩ := X0
  unfold wp_X2_year_L166 at w
  refine lv_istore (lv' := [(5, .int is0), (0, .ref (a 0))]) hx hb dX2_year_166 hl (by decide) rfl (fun ls hl => ?_)
  refine lv_aload_n hx hb dX2_year_168 rfl (lv_at hl 1 rfl) ?_
  refine lv_iload hx hb dX2_year_169 (lv_at hl 0 rfl) ?_
  refine va_calli (va_runV (As := [.int is0]) (rest := []) ⟨hx, hb, hml, hown, hts⟩ (met_X2_back l dC dI ct a _ w) (cwV 1 hts (lw_V q707 q709 qs31 q51 q710) rfl rfl rfl hd_X2_back ⟨Nat.le_of_ble_eq_true rfl, Nat.le_of_ble_eq_true rfl⟩) (pre_V hK hP (hD _ _) hN (va_recv hK hP (ci := 2) (q0 := 0) rfl rfl)) rfl rfl hl.1 rfl (lv_room (Nat.le_of_ble_eq_true rfl)) dX2_year_171 ⟨Nat.le_refl _, Nat.le_refl _⟩) hS (fun q _ h => x_free (hD _ _) hS hA q h) (x_free (hD _ _) hS hA) (fun r1 u t H locs ht hvm w hB hz hk hS => ?_)
  obtain ⟨z_1, g_1⟩ := u
  dsimp only at w
  have hP : va_P (dC, dI) vwCl (MW a ct z_1 g_1) H := post_P hB ht
  exact W.iret (v := r1) hx hb hr (fun t ht hW => ⟨⟨r1, (z_1, g_1), rfl, w, by rw [ht]; exact hP, va_K.moved hW.alike hK, (hD _ _)⟩, hS.F ht⟩) hS.2.2 dX2_year_174 hlk
set_option maxHeartbeats 4000000 in
set_option maxRecDepth 100000 in
theorem wk_X2_year_S49 {p : Program} {l : Launch} {e : Env} {s : State} {m : MethodId} {args : Array Value} {below : List Frame} {meth : Method} {c : Code} {dC : Nat → ClassId} {dI : Nat → Nat → Nat} {ct : Nat → ClassId} {A : Nat → Prop} {a : Nat → Nat} {Post : Int32 → V → VL → Prop} {K49 : Int32 → Int32 → Int32 → Int32 → V → VL → Prop}  (X : CxW p s m args meth c cX2_year 9 (some .int) RX2 dC dI ct A) (hD : ∀ (z : V) (g : VL), va_D A (MW a ct z g)) (hK49 : ∀ (i2 : Int32) (i3 : Int32) (i4 : Int32) (i5 : Int32) (z : V) (g : VL), K49 i2 i3 i4 i5 z g → ∀ (H : Heap) (locs : List Loc) (ls : Array Slot), va_P (dC, dI) vwCl (MW a ct z g) H → va_S A s.heap H locs → lv_has ls 9 [(0, .ref (a 0)), (2, .int i2), (3, .int i3), (4, .int i4), (5, .int i5)] → W p l e rm_X2_year s m args below meth c H locs 0 0 (MQ below (va_Qi (fun (r : Int32) (u : V × VL) => Post r u.1 u.2) (fun (u : V × VL) t => WPos dC dI ct (MW a ct u.1 u.2) A t) A) args s 0 0 A) (F0 m 49 ls [])) (i2 : Int32) (i3 : Int32) (i4 : Int32) (i5 : Int32) (z : V) (g : VL) (w : wp_X2_year_S49  Post K49 i2 i3 i4 i5 z g) : ∀ (H : Heap) (locs : List Loc) (ls : Array Slot), va_P (dC, dI) vwCl (MW a ct z g) H → va_S A s.heap H locs → lv_has ls 9 [(0, .ref (a 0)), (2, .int i2), (3, .int i3), (4, .int i4), (5, .int i5)] → W p l e rm_X2_year s m args below meth c H locs 0 0 (MQ below (va_Qi (fun (r : Int32) (u : V × VL) => Post r u.1 u.2) (fun (u : V × VL) t => WPos dC dI ct (MW a ct u.1 u.2) A t) A) args s 0 0 A) (F0 m 49 ls []) := by
  intro H locs ls hP hS hl
  have X0 := X
  obtain ⟨⟨hx, hb, hml, hr, hlk, hown, hts⟩, hA, hK, hN⟩ := X0
  unfold wp_X2_year_S49 at w
  refine lv_iload hx hb dX2_year_49 (lv_at hl 4 rfl) ?_
  refine lv_iload_n hx hb dX2_year_51 rfl (lv_at hl 1 rfl) ?_
  refine lv_icmp_ge (tgt := 134) hx hb dX2_year_52 (by decide) (fun c => ?_) (fun c => ?_)
  · have w := And.left w c
    refine lv_iload_n hx hb dX2_year_134 rfl (lv_at hl 2 rfl) ?_
    refine lv_if_ne (tgt := 145) hx hb dX2_year_135 (by decide) (fun c => ?_) (fun c => ?_)
    · have w := And.right w c
      refine lv_iload_n hx hb dX2_year_145 rfl (lv_at hl 2 rfl) ?_
      refine lv_iconst (v := 1) hx hb dX2_year_146 (by decide) ?_
      refine lv_icmp_ne (tgt := 157) hx hb dX2_year_147 (by decide) (fun c => ?_) (fun c => ?_)
      · have w := And.right w c
        refine lv_aload_n hx hb dX2_year_157 rfl (lv_at hl 0 rfl) ?_
        refine lv_bipush (v := -6) hx hb dX2_year_158 (by decide) ?_
        refine va_calli (va_runV (As := [.int (-6 : Int32)]) (rest := []) ⟨hx, hb, hml, hown, hts⟩ (met_X2_lotsOf l dC dI ct a _ w) (cwV 1 hts (lw_V q720 q722 qs33 q51 q723) rfl rfl rfl hd_X2_lotsOf ⟨Nat.le_of_ble_eq_true rfl, Nat.le_of_ble_eq_true rfl⟩) (pre_V hK hP (hD _ _) hN (va_recv hK hP (ci := 2) (q0 := 0) rfl rfl)) rfl rfl hl.1 rfl (lv_room (Nat.le_of_ble_eq_true rfl)) dX2_year_160 ⟨Nat.le_refl _, Nat.le_refl _⟩) hS (fun q _ h => x_free (hD _ _) hS hA q h) (x_free (hD _ _) hS hA) (fun r1 u t H locs ht hvm w hB hz hk hS => ?_)
        obtain ⟨z_1, g_1⟩ := u
        dsimp only at w
        have hP : va_P (dC, dI) vwCl (MW a ct z_1 g_1) H := post_P hB ht
        refine vp_callSi (W.runS (As := [.int r1]) (rest := []) ⟨hx, hb, hml, hown, hts⟩ (met_X2_bitsOf l w) (va_cwS 1 hts (lw_S q815 q816 q51 q817) rfl rfl rfl hd_X2_bitsOf ⟨Nat.le_of_ble_eq_true rfl, Nat.le_of_ble_eq_true rfl⟩) pre_S rfl rfl hl.1 rfl (lv_room (Nat.le_of_ble_eq_true rfl)) dX2_year_163 ⟨Nat.le_refl _, Nat.le_refl _⟩) (fun r2 w => ?_)
        exact wk_X2_year_L166 X hD  _ _ _ w _ _ _ hP hS (lv_sub hl [0] rfl)
      · have w := And.left w c
        refine lv_aload_n hx hb dX2_year_150 rfl (lv_at hl 0 rfl) ?_
        refine va_calli (va_runV (As := []) (rest := []) ⟨hx, hb, hml, hown, hts⟩ (met_X2_rate l dC dI ct a _ w) (cwV 0 hts (lw_V q667 q669 qs22 q51 q670) rfl rfl rfl hd_X2_rate ⟨Nat.le_of_ble_eq_true rfl, Nat.le_of_ble_eq_true rfl⟩) (pre_V hK hP (hD _ _) hN (va_recv hK hP (ci := 2) (q0 := 0) rfl rfl)) rfl rfl hl.1 rfl (lv_room (Nat.le_of_ble_eq_true rfl)) dX2_year_151 ⟨Nat.le_refl _, Nat.le_refl _⟩) hS (fun q _ h => x_free (hD _ _) hS hA q h) (x_free (hD _ _) hS hA) (fun r3 u t H locs ht hvm w hB hz hk hS => ?_)
        obtain ⟨z_3, g_3⟩ := u
        dsimp only at w
        have hP : va_P (dC, dI) vwCl (MW a ct z_3 g_3) H := post_P hB ht
        refine lv_goto (tgt := 166) hx hb dX2_year_154 (by decide) ?_
        exact wk_X2_year_L166 X hD  _ _ _ w _ _ _ hP hS (lv_sub hl [0] rfl)
    · have w := And.left w c
      refine lv_aload_n hx hb dX2_year_138 rfl (lv_at hl 0 rfl) ?_
      refine va_calli (va_runV (As := []) (rest := []) ⟨hx, hb, hml, hown, hts⟩ (met_X2_notes l dC dI ct a _ w) (cwV 0 hts (lw_V q675 q677 qs24 q51 q678) rfl rfl rfl hd_X2_notes ⟨Nat.le_of_ble_eq_true rfl, Nat.le_of_ble_eq_true rfl⟩) (pre_V hK hP (hD _ _) hN (va_recv hK hP (ci := 2) (q0 := 0) rfl rfl)) rfl rfl hl.1 rfl (lv_room (Nat.le_of_ble_eq_true rfl)) dX2_year_139 ⟨Nat.le_refl _, Nat.le_refl _⟩) hS (fun q _ h => x_free (hD _ _) hS hA q h) (x_free (hD _ _) hS hA) (fun r4 u t H locs ht hvm w hB hz hk hS => ?_)
      obtain ⟨z_4, g_4⟩ := u
      dsimp only at w
      have hP : va_P (dC, dI) vwCl (MW a ct z_4 g_4) H := post_P hB ht
      refine lv_goto (tgt := 166) hx hb dX2_year_142 (by decide) ?_
      exact wk_X2_year_L166 X hD  _ _ _ w _ _ _ hP hS (lv_sub hl [0] rfl)
  · have w := And.right w c
    refine lv_ldc2 (v := 75) hx hb hown (hts _ q830) dX2_year_55 ?_
    refine lv_iload hx hb dX2_year_58 (lv_at hl 3 rfl) ?_
    refine lv_i2l hx hb dX2_year_60 rfl ?_
    refine lv_lmul hx hb dX2_year_61 ?_
    refine lv_ldc2 (v := 74) hx hb hown (hts _ q831) dX2_year_62 ?_
    refine lv_ladd hx hb dX2_year_65 ?_
    refine lv_ldc2 (v := 65537) hx hb hown (hts _ q832) dX2_year_66 ?_
    refine lv_lrem hx hb dX2_year_69 (by decide) ?_
    refine lv_l2i hx hb dX2_year_70 rfl ?_
    refine lv_topi (fun n5 en5 => ?_)
    have w := w n5 en5
    refine lv_istore (lv' := [(4, .int n5), (0, .ref (a 0)), (2, .int i2), (3, .int i3), (5, .int i5)]) hx hb dX2_year_71 hl (by decide) rfl (fun ls hl => ?_)
    refine lv_iload hx hb dX2_year_73 (lv_at hl 0 rfl) ?_
    refine lv_bipush (v := 6) hx hb dX2_year_75 (by decide) ?_
    refine lv_idiv hx hb dX2_year_77 (by decide) ?_
    refine lv_bipush (v := 8) hx hb dX2_year_78 (by decide) ?_
    refine lv_irem hx hb dX2_year_80 (by decide) ?_
    refine vp_callSi (W.runS (As := [.int ((n5 / (6 : Int32)) - (n5 / (6 : Int32)) / (8 : Int32) * (8 : Int32))]) (rest := []) ⟨hx, hb, hml, hown, hts⟩ (met_X2_actBy l w) (va_cwS 1 hts (lw_S q833 q834 q51 q835) rfl rfl rfl hd_X2_actBy ⟨Nat.le_of_ble_eq_true rfl, Nat.le_of_ble_eq_true rfl⟩) pre_S rfl rfl hl.1 rfl (lv_room (Nat.le_of_ble_eq_true rfl)) dX2_year_81 ⟨Nat.le_refl _, Nat.le_refl _⟩) (fun r6 w => ?_)
    refine lv_istore (lv' := [(6, .int r6), (4, .int n5), (0, .ref (a 0)), (2, .int i2), (3, .int i3), (5, .int i5)]) hx hb dX2_year_84 hl (by decide) rfl (fun ls hl => ?_)
    refine lv_iload hx hb dX2_year_86 (lv_at hl 1 rfl) ?_
    refine lv_bipush (v := 6) hx hb dX2_year_88 (by decide) ?_
    refine lv_irem hx hb dX2_year_90 (by decide) ?_
    refine lv_istore (lv' := [(7, .int (n5 - n5 / (6 : Int32) * (6 : Int32))), (6, .int r6), (4, .int n5), (0, .ref (a 0)), (2, .int i2), (3, .int i3), (5, .int i5)]) hx hb dX2_year_91 hl (by decide) rfl (fun ls hl => ?_)
    refine lv_iload hx hb dX2_year_93 (lv_at hl 1 rfl) ?_
    refine lv_iload hx hb dX2_year_95 (lv_at hl 2 rfl) ?_
    refine lv_bipush (v := 48) hx hb dX2_year_97 (by decide) ?_
    refine lv_idiv hx hb dX2_year_99 (by decide) ?_
    refine vp_callSi (W.runS (As := [.int r6, .int (n5 / (48 : Int32))]) (rest := []) ⟨hx, hb, hml, hown, hts⟩ (met_X2_muchBy l w) (va_cwS 2 hts (lw_S q836 q837 q51 q838) rfl rfl rfl hd_X2_muchBy ⟨Nat.le_of_ble_eq_true rfl, Nat.le_of_ble_eq_true rfl⟩) pre_S rfl rfl hl.1 rfl (lv_room (Nat.le_of_ble_eq_true rfl)) dX2_year_100 ⟨Nat.le_refl _, Nat.le_refl _⟩) (fun r7 w => ?_)
    refine lv_istore (lv' := [(8, .int r7), (7, .int (n5 - n5 / (6 : Int32) * (6 : Int32))), (6, .int r6), (4, .int n5), (0, .ref (a 0)), (2, .int i2), (3, .int i3), (5, .int i5)]) hx hb dX2_year_103 hl (by decide) rfl (fun ls hl => ?_)
    refine lv_aload_n hx hb dX2_year_105 rfl (lv_at hl 4 rfl) ?_
    refine lv_iload hx hb dX2_year_106 (lv_at hl 2 rfl) ?_
    refine lv_iload hx hb dX2_year_108 (lv_at hl 1 rfl) ?_
    refine lv_iload hx hb dX2_year_110 (lv_at hl 0 rfl) ?_
    refine va_calli (va_runV (As := [.int r6, .int (n5 - n5 / (6 : Int32) * (6 : Int32)), .int r7]) (rest := []) ⟨hx, hb, hml, hown, hts⟩ (met_X2_whyNot l dC dI ct a _ w) (cwV 3 hts (lw_V q654 q656 qs19 q51 q657) rfl rfl rfl hd_X2_whyNot ⟨Nat.le_of_ble_eq_true rfl, Nat.le_of_ble_eq_true rfl⟩) (pre_V hK hP (hD _ _) hN (va_recv hK hP (ci := 2) (q0 := 0) rfl rfl)) rfl rfl hl.1 rfl (lv_room (Nat.le_of_ble_eq_true rfl)) dX2_year_112 ⟨Nat.le_refl _, Nat.le_refl _⟩) hS (fun q _ h => x_free (hD _ _) hS hA q h) (x_free (hD _ _) hS hA) (fun r8 u t H locs ht hvm w hB hz hk hS => ?_)
    obtain ⟨z_8, g_8⟩ := u
    dsimp only at w
    have hP : va_P (dC, dI) vwCl (MW a ct z_8 g_8) H := post_P hB ht
    refine lv_if_ne (tgt := 128) hx hb dX2_year_115 (by decide) (fun c => ?_) (fun c => ?_)
    · have w := And.right w c
      exact wk_X2_year_L128 X hD hK49 _ _ _ _ _ _ w _ _ _ hP hS (lv_sub hl [4, 5, 6, 3, 7] rfl)
    · have w := And.left w c
      refine lv_aload_n hx hb dX2_year_118 rfl (lv_at hl 4 rfl) ?_
      refine lv_iload hx hb dX2_year_119 (lv_at hl 2 rfl) ?_
      refine lv_iload hx hb dX2_year_121 (lv_at hl 1 rfl) ?_
      refine lv_iload hx hb dX2_year_123 (lv_at hl 0 rfl) ?_
      refine va_callv (va_runV (As := [.int r6, .int (n5 - n5 / (6 : Int32) * (6 : Int32)), .int r7]) (rest := []) ⟨hx, hb, hml, hown, hts⟩ (met_X2_happen l dC dI ct a _ w) (cwV 3 hts (lw_V q691 q693 qs27 q51 q694) rfl rfl rfl hd_X2_happen ⟨Nat.le_of_ble_eq_true rfl, Nat.le_of_ble_eq_true rfl⟩) (pre_V hK hP (hD _ _) hN (va_recv hK hP (ci := 2) (q0 := 0) rfl rfl)) rfl rfl hl.1 rfl (lv_room (Nat.le_of_ble_eq_true rfl)) dX2_year_125 ⟨Nat.le_refl _, Nat.le_refl _⟩) hS (fun q _ h => x_free (hD _ _) hS hA q h) (x_free (hD _ _) hS hA) (fun  u t H locs ht hvm w hB hz hk hS => ?_)
      obtain ⟨z_9, g_9⟩ := u
      dsimp only at w
      have hP : va_P (dC, dI) vwCl (MW a ct z_9 g_9) H := post_P hB ht
      exact wk_X2_year_L128 X hD hK49 _ _ _ _ _ _ w _ _ _ hP hS (lv_sub hl [4, 5, 6, 3, 7] rfl)
set_option maxHeartbeats 4000000 in
set_option maxRecDepth 100000 in
theorem wk_X2_year_L49 {p : Program} {l : Launch} {e : Env} {s : State} {m : MethodId} {args : Array Value} {below : List Frame} {meth : Method} {c : Code} {dC : Nat → ClassId} {dI : Nat → Nat → Nat} {ct : Nat → ClassId} {A : Nat → Prop} {a : Nat → Nat} {Post : Int32 → V → VL → Prop}   (X : CxW p s m args meth c cX2_year 9 (some .int) RX2 dC dI ct A) (hD : ∀ (z : V) (g : VL), va_D A (MW a ct z g))  : ∀ (n : Nat) (i2 : Int32) (i3 : Int32) (i4 : Int32) (i5 : Int32) (z : V) (g : VL), wp_X2_year_L49  Post  n i2 i3 i4 i5 z g → ∀ (H : Heap) (locs : List Loc) (ls : Array Slot), va_P (dC, dI) vwCl (MW a ct z g) H → va_S A s.heap H locs → lv_has ls 9 [(0, .ref (a 0)), (2, .int i2), (3, .int i3), (4, .int i4), (5, .int i5)] → W p l e rm_X2_year s m args below meth c H locs 0 0 (MQ below (va_Qi (fun (r : Int32) (u : V × VL) => Post r u.1 u.2) (fun (u : V × VL) t => WPos dC dI ct (MW a ct u.1 u.2) A t) A) args s 0 0 A) (F0 m 49 ls []) := by
  intro n
  induction n with
  | zero => intro i2 i3 i4 i5 z g w; exact False.elim w
  | succ n ih => intro i2 i3 i4 i5 z g w H locs ls hP hS hl; exact wk_X2_year_S49 X hD  ih i2 i3 i4 i5 z g w H locs ls hP hS hl
set_option maxHeartbeats 4000000 in
set_option maxRecDepth 100000 in
theorem met_X2_year (l : Launch) (dC : Nat → ClassId) (dI : Nat → Nat → Nat) (ct : Nat → ClassId) (a : Nat → Nat) (sz : Nat) {i1 : Int32} {i2 : Int32} {i3 : Int32} {z : V} {g : VL} {Post : Int32 → V → VL → Prop} (w : wp_X2_year i1 i2 i3 z g Post) : Met l yX2_year (ws_ yX2_year cX2_year 9 (some .int)) rm_X2_year (va_Pc [.ref (a 0), .int i1, .int i2, .int i3] (fun U => WPre dC dI ct (MW a ct z g) sz U)) ((fun A => (va_Qi (fun (r : Int32) (u : V × VL) => Post r u.1 u.2) (fun (u : V × VL) t => WPos dC dI ct (MW a ct u.1 u.2) A t) A)) (va_A (MW a ct z g) sz)) 0 0 (va_A (MW a ct z g) sz) := by
  refine open_W (fun A => (va_Qi (fun (r : Int32) (u : V × VL) => Post r u.1 u.2) (fun (u : V × VL) t => WPos dC dI ct (MW a ct u.1 u.2) A t) A)) (by decide) (Nat.le_of_ble_eq_true rfl) ?_
  intro p e s m args below meth c ls A X hD0 hP hS hl
  have X0 := X
  obtain ⟨⟨hx, hb, hml, hr, hlk, hown, hts⟩, hA, hK, hN⟩ := X0
  have hD : ∀ (z' : V) (g' : VL), va_D A (MW a ct z' g') := fun z' g' => va_D_addr hD0 rfl
  have hl : lv_has ls 9 [(0, .ref (a 0)), (1, .int i1), (2, .int i2), (3, .int i3)] := hl
  unfold wp_X2_year at w
  have hS0 := hS
  refine lv_iload_n hx hb dX2_year_0 rfl (lv_at hl 1 rfl) ?_
  refine lv_i2l hx hb dX2_year_1 rfl ?_
  refine lv_lconst (v := 0) hx hb dX2_year_2 (by decide) ?_
  refine lv_ldc2 (v := 9999) hx hb hown (hts _ q573) dX2_year_3 ?_
  refine vp_callSi (W.runS (As := [.long i1.toInt64, .long (0 : Int64), .long (9999 : Int64)]) (rest := []) ⟨hx, hb, hml, hown, hts⟩ (met_X2_in l w) (va_cwS 3 hts (lw_S q570 q571 q51 q572) rfl rfl rfl hd_X2_in ⟨Nat.le_of_ble_eq_true rfl, Nat.le_of_ble_eq_true rfl⟩) pre_S rfl rfl hl.1 rfl (lv_room (Nat.le_of_ble_eq_true rfl)) dX2_year_6 ⟨Nat.le_refl _, Nat.le_refl _⟩) (fun r1 w => ?_)
  refine lv_if_eq (tgt := 36) hx hb dX2_year_9 (by decide) (fun c => ?_) (fun c => ?_)
  · have w := And.left w c
    exact wk_X2_year_L36 X hD  _ _ w _ _ _ hP hS (lv_sub hl [] rfl)
  · have w := And.right w c
    refine lv_iload_n hx hb dX2_year_12 rfl (lv_at hl 2 rfl) ?_
    refine lv_i2l hx hb dX2_year_13 rfl ?_
    refine lv_lconst (v := 1) hx hb dX2_year_14 (by decide) ?_
    refine lv_ldc2 (v := 99) hx hb hown (hts _ q772) dX2_year_15 ?_
    refine vp_callSi (W.runS (As := [.long i2.toInt64, .long (1 : Int64), .long (99 : Int64)]) (rest := []) ⟨hx, hb, hml, hown, hts⟩ (met_X2_in l w) (va_cwS 3 hts (lw_S q570 q571 q51 q572) rfl rfl rfl hd_X2_in ⟨Nat.le_of_ble_eq_true rfl, Nat.le_of_ble_eq_true rfl⟩) pre_S rfl rfl hl.1 rfl (lv_room (Nat.le_of_ble_eq_true rfl)) dX2_year_18 ⟨Nat.le_refl _, Nat.le_refl _⟩) (fun r2 w => ?_)
    refine lv_if_eq (tgt := 36) hx hb dX2_year_21 (by decide) (fun c => ?_) (fun c => ?_)
    · have w := And.left w c
      exact wk_X2_year_L36 X hD  _ _ w _ _ _ hP hS (lv_sub hl [] rfl)
    · have w := And.right w c
      refine lv_iload_n hx hb dX2_year_24 rfl (lv_at hl 3 rfl) ?_
      refine lv_i2l hx hb dX2_year_25 rfl ?_
      refine lv_lconst (v := 0) hx hb dX2_year_26 (by decide) ?_
      refine lv_ldc2 (v := 2) hx hb hown (hts _ q640) dX2_year_27 ?_
      refine vp_callSi (W.runS (As := [.long i3.toInt64, .long (0 : Int64), .long (2 : Int64)]) (rest := []) ⟨hx, hb, hml, hown, hts⟩ (met_X2_in l w) (va_cwS 3 hts (lw_S q570 q571 q51 q572) rfl rfl rfl hd_X2_in ⟨Nat.le_of_ble_eq_true rfl, Nat.le_of_ble_eq_true rfl⟩) pre_S rfl rfl hl.1 rfl (lv_room (Nat.le_of_ble_eq_true rfl)) dX2_year_30 ⟨Nat.le_refl _, Nat.le_refl _⟩) (fun r3 w => ?_)
      refine lv_if_ne (tgt := 39) hx hb dX2_year_33 (by decide) (fun c => ?_) (fun c => ?_)
      · have w := And.right w c
        refine lv_aload_n hx hb dX2_year_39 rfl (lv_at hl 0 rfl) ?_
        refine va_callv (va_runV (As := []) (rest := []) ⟨hx, hb, hml, hown, hts⟩ (met_X2_keepNow l dC dI ct a _ w) (cwV 0 hts (lw_V q645 q647 qs17 q51 q648) rfl rfl rfl hd_X2_keepNow ⟨Nat.le_of_ble_eq_true rfl, Nat.le_of_ble_eq_true rfl⟩) (pre_V hK hP (hD _ _) hN (va_recv hK hP (ci := 2) (q0 := 0) rfl rfl)) rfl rfl hl.1 rfl (lv_room (Nat.le_of_ble_eq_true rfl)) dX2_year_40 ⟨Nat.le_refl _, Nat.le_refl _⟩) hS (fun q _ h => x_free (hD _ _) hS hA q h) (x_free (hD _ _) hS hA) (fun  u t H locs ht hvm w hB hz hk hS => ?_)
        obtain ⟨z_4, g_4⟩ := u
        dsimp only at w
        have hP : va_P (dC, dI) vwCl (MW a ct z_4 g_4) H := post_P hB ht
        refine lv_iload_n hx hb dX2_year_43 rfl (lv_at hl 1 rfl) ?_
        refine lv_istore (lv' := [(4, .int i1), (0, .ref (a 0)), (1, .int i1), (2, .int i2), (3, .int i3)]) hx hb dX2_year_44 hl (by decide) rfl (fun ls hl => ?_)
        refine lv_iconst (v := 0) hx hb dX2_year_46 (by decide) ?_
        refine lv_istore (lv' := [(5, .int (0 : Int32)), (4, .int i1), (0, .ref (a 0)), (1, .int i1), (2, .int i2), (3, .int i3)]) hx hb dX2_year_47 hl (by decide) rfl (fun ls hl => ?_)
        obtain ⟨n, w⟩ := w
        exact wk_X2_year_L49 X hD  n _ _ _ _ _ _ w _ _ _ hP hS (lv_sub hl [2, 4, 5, 1, 0] rfl)
      · have w := And.left w c
        exact wk_X2_year_L36 X hD  _ _ w _ _ _ hP hS (lv_sub hl [] rfl)
abbrev rm_X2_pass : Room := { frames := 0, cells := 0, slots := 0, locals := 0 }
theorem hd_X2_pass : yX2_pass.cls = RX2 ∧ yX2_pass.cls ≠ "java/lang/invoke/MethodHandle" ∧ yX2_pass.cls ≠ "java/lang/invoke/VarHandle" ∧ (parseMethodDescriptor yX2_pass.desc).map (fun d => d.parameters.length) = some 1 := by decide +kernel
set_option maxHeartbeats 4000000 in
set_option maxRecDepth 100000 in
theorem wk_X2_pass_L20 {p : Program} {l : Launch} {e : Env} {s : State} {m : MethodId} {args : Array Value} {below : List Frame} {meth : Method} {c : Code} {dC : Nat → ClassId} {dI : Nat → Nat → Nat} {ct : Nat → ClassId} {A : Nat → Prop} {a : Nat → Nat} {Post : Int32 → V → VL → Prop}   (X : CxW p s m args meth c cX2_pass 3 (some .int) RX2 dC dI ct A) (hD : ∀ (z : V) (g : VL), va_D A (MW a ct z g))  (is0 : Int32) (z : V) (g : VL) (w : wp_X2_pass_L20  Post  is0 z g) : ∀ (H : Heap) (locs : List Loc) (ls : Array Slot), va_P (dC, dI) vwCl (MW a ct z g) H → va_S A s.heap H locs → lv_has ls 3 [(0, .ref (a 0))] → W p l e rm_X2_pass s m args below meth c H locs 0 0 (MQ below (va_Qi (fun (r : Int32) (u : V × VL) => Post r u.1 u.2) (fun (u : V × VL) t => WPos dC dI ct (MW a ct u.1 u.2) A t) A) args s 0 0 A) (F0 m 20 ls [.int is0]) := by
  intro H locs ls hP hS hl
  have X0 := X
  obtain ⟨⟨hx, hb, hml, hr, hlk, hown, hts⟩, hA, hK, hN⟩ := X0
  unfold wp_X2_pass_L20 at w
  refine lv_istore_n (lv' := [(2, .int is0), (0, .ref (a 0))]) hx hb dX2_pass_20 rfl hl (by decide) rfl (fun ls hl => ?_)
  refine lv_aload_n hx hb dX2_pass_21 rfl (lv_at hl 1 rfl) ?_
  refine va_get (D := (dC, dI)) (ci := 2) (v := .ref (a 18)) (C := RX2) (T := TX2) (N := 34) hx hb hts in_X2 hown hK hP 0 rfl rfl 30 (by decide) (hts _ q488) (fun _ h9 => h9) rfl dX2_pass_22 ?_
  refine lv_aload_n hx hb dX2_pass_25 rfl (lv_at hl 1 rfl) ?_
  refine va_get (D := (dC, dI)) (ci := 2) (v := .int (z 19 10)) (C := RX2) (T := TX2) (N := 34) hx hb hts in_X2 hown hK hP 0 rfl rfl 32 (by decide) (hts _ q490) (fun _ h9 => h9) rfl dX2_pass_26 ?_
  refine lv_iload_n hx hb dX2_pass_29 rfl (lv_at hl 0 rfl) ?_
  obtain ⟨gi, w⟩ := w
  refine va_iast hx hb hK hP (hD _ _) hS 18 0 rfl rfl gi dX2_pass_30 (fun H locs hP _ hS => ?_)
  have hP : va_P (dC, dI) vwCl (MW a ct (up2 z 17 (z 19 10).toNatClampNeg is0) g) H := MW_u_z_17 hP
  refine lv_aload_n hx hb dX2_pass_31 rfl (lv_at hl 1 rfl) ?_
  refine lv_dup hx hb dX2_pass_32 rfl ?_
  refine va_get (D := (dC, dI)) (ci := 2) (v := .int (z 19 10)) (C := RX2) (T := TX2) (N := 34) hx hb hts in_X2 hown hK hP 0 rfl rfl 32 (by decide) (hts _ q490) (fun _ h9 => h9) rfl dX2_pass_33 ?_
  refine lv_iconst (v := 1) hx hb dX2_pass_36 (by decide) ?_
  refine lv_iadd hx hb dX2_pass_37 ?_
  refine va_put (D := (dC, dI)) (ci := 2) (v := .int ((z 19 10) + (1 : Int32))) (ty := .int) (C := RX2) (T := TX2) (N := 34) hx hb hts in_X2 tyX2 tyX2_ok nmX2 hown hK hP (hD _ _) hS 0 rfl rfl 32 (by decide) (hts _ q490) (fun _ h9 => h9) rfl (by decide +kernel) rfl rfl (Nat.le_of_ble_eq_true rfl) dX2_pass_38 (fun H locs hP _ hS => ?_)
  have hP : va_P (dC, dI) vwCl (MW a ct (up2 (up2 z 17 (z 19 10).toNatClampNeg is0) 19 10 ((z 19 10) + (1 : Int32))) g) H := MW_s_z_10 hP
  refine lv_iload_n hx hb dX2_pass_41 rfl (lv_at hl 0 rfl) ?_
  exact W.iret (v := is0) hx hb hr (fun t ht hW => ⟨⟨is0, ((up2 (up2 z 17 (z 19 10).toNatClampNeg is0) 19 10 ((z 19 10) + (1 : Int32))), g), rfl, w, by rw [ht]; exact hP, va_K.moved hW.alike hK, (hD _ _)⟩, hS.F ht⟩) hS.2.2 dX2_pass_42 hlk
set_option maxHeartbeats 4000000 in
set_option maxRecDepth 100000 in
theorem met_X2_pass (l : Launch) (dC : Nat → ClassId) (dI : Nat → Nat → Nat) (ct : Nat → ClassId) (a : Nat → Nat) (sz : Nat) {i1 : Int32} {z : V} {g : VL} {Post : Int32 → V → VL → Prop} (w : wp_X2_pass i1 z g Post) : Met l yX2_pass (ws_ yX2_pass cX2_pass 3 (some .int)) rm_X2_pass (va_Pc [.ref (a 0), .int i1] (fun U => WPre dC dI ct (MW a ct z g) sz U)) ((fun A => (va_Qi (fun (r : Int32) (u : V × VL) => Post r u.1 u.2) (fun (u : V × VL) t => WPos dC dI ct (MW a ct u.1 u.2) A t) A)) (va_A (MW a ct z g) sz)) 0 0 (va_A (MW a ct z g) sz) := by
  refine open_W (fun A => (va_Qi (fun (r : Int32) (u : V × VL) => Post r u.1 u.2) (fun (u : V × VL) t => WPos dC dI ct (MW a ct u.1 u.2) A t) A)) (by decide) (Nat.le_of_ble_eq_true rfl) ?_
  intro p e s m args below meth c ls A X hD0 hP hS hl
  have X0 := X
  obtain ⟨⟨hx, hb, hml, hr, hlk, hown, hts⟩, hA, hK, hN⟩ := X0
  have hD : ∀ (z' : V) (g' : VL), va_D A (MW a ct z' g') := fun z' g' => va_D_addr hD0 rfl
  have hl : lv_has ls 3 [(0, .ref (a 0)), (1, .int i1)] := hl
  unfold wp_X2_pass at w
  have hS0 := hS
  refine lv_aload_n hx hb dX2_pass_0 rfl (lv_at hl 0 rfl) ?_
  refine va_get (D := (dC, dI)) (ci := 2) (v := .int (z 19 11)) (C := RX2) (T := TX2) (N := 34) hx hb hts in_X2 hown hK hP 0 rfl rfl 33 (by decide) (hts _ q491) (fun _ h9 => h9) rfl dX2_pass_1 ?_
  refine lv_if_eq (tgt := 11) hx hb dX2_pass_4 (by decide) (fun c => ?_) (fun c => ?_)
  · have w := And.left w c
    refine lv_aload_n hx hb dX2_pass_11 rfl (lv_at hl 0 rfl) ?_
    refine va_get (D := (dC, dI)) (ci := 2) (v := .ref (a 18)) (C := RX2) (T := TX2) (N := 34) hx hb hts in_X2 hown hK hP 0 rfl rfl 30 (by decide) (hts _ q488) (fun _ h9 => h9) rfl dX2_pass_12 ?_
    refine lv_aload_n hx hb dX2_pass_15 rfl (lv_at hl 0 rfl) ?_
    refine va_get (D := (dC, dI)) (ci := 2) (v := .int (z 19 10)) (C := RX2) (T := TX2) (N := 34) hx hb hts in_X2 hown hK hP 0 rfl rfl 32 (by decide) (hts _ q490) (fun _ h9 => h9) rfl dX2_pass_16 ?_
    obtain ⟨gi, w⟩ := w
    refine va_iald hx hb hK hP 18 0 rfl rfl gi dX2_pass_19 ?_
    exact wk_X2_pass_L20 X hD  _ _ _ w _ _ _ hP hS (lv_sub hl [0] rfl)
  · have w := And.right w c
    refine lv_iload_n hx hb dX2_pass_7 rfl (lv_at hl 1 rfl) ?_
    refine lv_goto (tgt := 20) hx hb dX2_pass_8 (by decide) ?_
    exact wk_X2_pass_L20 X hD  _ _ _ w _ _ _ hP hS (lv_sub hl [0] rfl)
abbrev rm_X2_passRow : Room := { frames := 1, cells := 0, slots := 0, locals := 22 }
theorem hd_X2_passRow : yX2_passRow.cls = RX2 ∧ yX2_passRow.cls ≠ "java/lang/invoke/MethodHandle" ∧ yX2_passRow.cls ≠ "java/lang/invoke/VarHandle" ∧ (parseMethodDescriptor yX2_passRow.desc).map (fun d => d.parameters.length) = some 2 := by decide +kernel
set_option maxHeartbeats 4000000 in
set_option maxRecDepth 100000 in
theorem wk_X2_passRow_S2 {p : Program} {l : Launch} {e : Env} {s : State} {m : MethodId} {args : Array Value} {below : List Frame} {meth : Method} {c : Code} {dC : Nat → ClassId} {dI : Nat → Nat → Nat} {ct : Nat → ClassId} {A : Nat → Prop} {a : Nat → Nat} {Post : V → VL → Prop} {K2 : Nat → Int32 → Int32 → V → VL → Prop}  (X : CxW p s m args meth c cX2_passRow 4 none RX2 dC dI ct A) (hD : ∀ (z : V) (g : VL), va_D A (MW a ct z g)) (hK2 : ∀ (rr : Nat) (i2 : Int32) (i3 : Int32) (z : V) (g : VL), K2 rr i2 i3 z g → ∀ (H : Heap) (locs : List Loc) (ls : Array Slot), va_P (dC, dI) vwCl (MW a ct z g) H → va_S A s.heap H locs → lv_has ls 4 [(0, .ref (a 0)), (1, .ref (a (rr + 1))), (2, .int i2), (3, .int i3)] → W p l e rm_X2_passRow s m args below meth c H locs 0 0 (MQ below (va_Qv (fun (u : V × VL) => Post u.1 u.2) (fun (u : V × VL) t => WPos dC dI ct (MW a ct u.1 u.2) A t) A) args s 0 0 A) (F0 m 2 ls [])) (rr : Nat) (i2 : Int32) (i3 : Int32) (z : V) (g : VL) (w : wp_X2_passRow_S2  Post K2 rr i2 i3 z g) : ∀ (H : Heap) (locs : List Loc) (ls : Array Slot), va_P (dC, dI) vwCl (MW a ct z g) H → va_S A s.heap H locs → lv_has ls 4 [(0, .ref (a 0)), (1, .ref (a (rr + 1))), (2, .int i2), (3, .int i3)] → W p l e rm_X2_passRow s m args below meth c H locs 0 0 (MQ below (va_Qv (fun (u : V × VL) => Post u.1 u.2) (fun (u : V × VL) t => WPos dC dI ct (MW a ct u.1 u.2) A t) A) args s 0 0 A) (F0 m 2 ls []) := by
  intro H locs ls hP hS hl
  have X0 := X
  obtain ⟨⟨hx, hb, hml, hr, hlk, hown, hts⟩, hA, hK, hN⟩ := X0
  unfold wp_X2_passRow_S2 at w
  refine lv_iload_n hx hb dX2_passRow_2 rfl (lv_at hl 3 rfl) ?_
  refine lv_iload_n hx hb dX2_passRow_3 rfl (lv_at hl 2 rfl) ?_
  refine lv_icmp_ge (tgt := 23) hx hb dX2_passRow_4 (by decide) (fun c => ?_) (fun c => ?_)
  · have w := And.left w c
    exact W.vret hx hb hr (fun t ht hW => ⟨⟨(z, g), rfl, w, by rw [ht]; exact hP, va_K.moved hW.alike hK, (hD _ _)⟩, hS.F ht⟩) hS.2.2 dX2_passRow_23 hlk
  · have w := And.right w c
    refine lv_aload_n hx hb dX2_passRow_7 rfl (lv_at hl 1 rfl) ?_
    refine lv_iload_n hx hb dX2_passRow_8 rfl (lv_at hl 3 rfl) ?_
    refine lv_aload_n hx hb dX2_passRow_9 rfl (lv_at hl 0 rfl) ?_
    refine lv_aload_n hx hb dX2_passRow_10 rfl (lv_at hl 1 rfl) ?_
    refine lv_iload_n hx hb dX2_passRow_11 rfl (lv_at hl 3 rfl) ?_
    obtain ⟨gr, w⟩ := w
    obtain ⟨gi, w⟩ := w
    refine va_iald hx hb hK hP (rr + 1) 0 (MW_row gr) rfl gi dX2_passRow_12 ?_
    refine va_calli (va_runV (As := [.int (z rr i3.toNatClampNeg)]) (rest := [.int i3, .ref (a (rr + 1))]) ⟨hx, hb, hml, hown, hts⟩ (met_X2_pass l dC dI ct a _ w) (cwV 1 hts (lw_V q847 q849 qs43 q51 q850) rfl rfl rfl hd_X2_pass ⟨Nat.le_of_ble_eq_true rfl, Nat.le_of_ble_eq_true rfl⟩) (pre_V hK hP (hD _ _) hN (va_recv hK hP (ci := 2) (q0 := 0) rfl rfl)) rfl rfl hl.1 rfl (lv_room (Nat.le_of_ble_eq_true rfl)) dX2_passRow_13 ⟨Nat.le_refl _, Nat.le_refl _⟩) hS (fun q _ h => x_free (hD _ _) hS hA q h) (x_free (hD _ _) hS hA) (fun r1 u t H locs ht hvm w hB hz hk hS => ?_)
    obtain ⟨z_1, g_1⟩ := u
    dsimp only at w
    have hP : va_P (dC, dI) vwCl (MW a ct z_1 g_1) H := post_P hB ht
    obtain ⟨gr, w⟩ := w
    obtain ⟨gi, w⟩ := w
    refine va_iast hx hb hK hP (hD _ _) hS (rr + 1) 0 (MW_row gr) rfl gi dX2_passRow_16 (fun H locs hP _ hS => ?_)
    rw [MW_rowset gr, ← up2_eq] at hP
    have hP : va_P (dC, dI) vwCl (MW a ct (up2 z_1 rr i3.toNatClampNeg r1) g_1) H := hP
    refine lv_iinc (v := (i3 + 1)) (lv' := [(3, .int (i3 + 1)), (0, .ref (a 0)), (1, .ref (a (rr + 1))), (2, .int i2)]) hx hb dX2_passRow_17 hl (k := 3) rfl rfl (by decide) rfl (fun ls hl => ?_)
    refine lv_goto (tgt := 2) hx hb dX2_passRow_20 (by decide) ?_
    exact hK2 _ _ _ _ _ w _ _ _ hP hS (lv_sub hl [1, 2, 3, 0] rfl)
set_option maxHeartbeats 4000000 in
set_option maxRecDepth 100000 in
theorem wk_X2_passRow_L2 {p : Program} {l : Launch} {e : Env} {s : State} {m : MethodId} {args : Array Value} {below : List Frame} {meth : Method} {c : Code} {dC : Nat → ClassId} {dI : Nat → Nat → Nat} {ct : Nat → ClassId} {A : Nat → Prop} {a : Nat → Nat} {Post : V → VL → Prop}   (X : CxW p s m args meth c cX2_passRow 4 none RX2 dC dI ct A) (hD : ∀ (z : V) (g : VL), va_D A (MW a ct z g))  : ∀ (n : Nat) (rr : Nat) (i2 : Int32) (i3 : Int32) (z : V) (g : VL), wp_X2_passRow_L2  Post  n rr i2 i3 z g → ∀ (H : Heap) (locs : List Loc) (ls : Array Slot), va_P (dC, dI) vwCl (MW a ct z g) H → va_S A s.heap H locs → lv_has ls 4 [(0, .ref (a 0)), (1, .ref (a (rr + 1))), (2, .int i2), (3, .int i3)] → W p l e rm_X2_passRow s m args below meth c H locs 0 0 (MQ below (va_Qv (fun (u : V × VL) => Post u.1 u.2) (fun (u : V × VL) t => WPos dC dI ct (MW a ct u.1 u.2) A t) A) args s 0 0 A) (F0 m 2 ls []) := by
  intro n
  induction n with
  | zero => intro rr i2 i3 z g w; exact False.elim w
  | succ n ih => intro rr i2 i3 z g w H locs ls hP hS hl; exact wk_X2_passRow_S2 X hD  ih rr i2 i3 z g w H locs ls hP hS hl
set_option maxHeartbeats 4000000 in
set_option maxRecDepth 100000 in
theorem met_X2_passRow (l : Launch) (dC : Nat → ClassId) (dI : Nat → Nat → Nat) (ct : Nat → ClassId) (a : Nat → Nat) (sz : Nat) {rr : Nat} {i2 : Int32} {z : V} {g : VL} {Post : V → VL → Prop} (w : wp_X2_passRow rr i2 z g Post) : Met l yX2_passRow (ws_ yX2_passRow cX2_passRow 4 none) rm_X2_passRow (va_Pc [.ref (a 0), .ref (a (rr + 1)), .int i2] (fun U => WPre dC dI ct (MW a ct z g) sz U)) ((fun A => (va_Qv (fun (u : V × VL) => Post u.1 u.2) (fun (u : V × VL) t => WPos dC dI ct (MW a ct u.1 u.2) A t) A)) (va_A (MW a ct z g) sz)) 0 0 (va_A (MW a ct z g) sz) := by
  refine open_W (fun A => (va_Qv (fun (u : V × VL) => Post u.1 u.2) (fun (u : V × VL) t => WPos dC dI ct (MW a ct u.1 u.2) A t) A)) (by decide) (Nat.le_of_ble_eq_true rfl) ?_
  intro p e s m args below meth c ls A X hD0 hP hS hl
  have X0 := X
  obtain ⟨⟨hx, hb, hml, hr, hlk, hown, hts⟩, hA, hK, hN⟩ := X0
  have hD : ∀ (z' : V) (g' : VL), va_D A (MW a ct z' g') := fun z' g' => va_D_addr hD0 rfl
  have hl : lv_has ls 4 [(0, .ref (a 0)), (1, .ref (a (rr + 1))), (2, .int i2)] := hl
  unfold wp_X2_passRow at w
  have hS0 := hS
  refine lv_iconst (v := 0) hx hb dX2_passRow_0 (by decide) ?_
  refine lv_istore_n (lv' := [(3, .int (0 : Int32)), (0, .ref (a 0)), (1, .ref (a (rr + 1))), (2, .int i2)]) hx hb dX2_passRow_1 rfl hl (by decide) rfl (fun ls hl => ?_)
  obtain ⟨n, w⟩ := w
  exact wk_X2_passRow_L2 X hD  n _ _ _ _ _ w _ _ _ hP hS (lv_sub hl [1, 2, 3, 0] rfl)
abbrev rm_X2_passAll : Room := { frames := 2, cells := 0, slots := 0, locals := 45 }
theorem hd_X2_passAll : yX2_passAll.cls = RX2 ∧ yX2_passAll.cls ≠ "java/lang/invoke/MethodHandle" ∧ yX2_passAll.cls ≠ "java/lang/invoke/VarHandle" ∧ (parseMethodDescriptor yX2_passAll.desc).map (fun d => d.parameters.length) = some 0 := by decide +kernel
set_option maxHeartbeats 4000000 in
set_option maxRecDepth 100000 in
theorem met_X2_passAll (l : Launch) (dC : Nat → ClassId) (dI : Nat → Nat → Nat) (ct : Nat → ClassId) (a : Nat → Nat) (sz : Nat)  {z : V} {g : VL} {Post : V → VL → Prop} (w : wp_X2_passAll z g Post) : Met l yX2_passAll (ws_ yX2_passAll cX2_passAll 1 none) rm_X2_passAll (va_Pc [.ref (a 0)] (fun U => WPre dC dI ct (MW a ct z g) sz U)) ((fun A => (va_Qv (fun (u : V × VL) => Post u.1 u.2) (fun (u : V × VL) t => WPos dC dI ct (MW a ct u.1 u.2) A t) A)) (va_A (MW a ct z g) sz)) 0 0 (va_A (MW a ct z g) sz) := by
  refine open_W (fun A => (va_Qv (fun (u : V × VL) => Post u.1 u.2) (fun (u : V × VL) t => WPos dC dI ct (MW a ct u.1 u.2) A t) A)) (by decide) (Nat.le_of_ble_eq_true rfl) ?_
  intro p e s m args below meth c ls A X hD0 hP hS hl
  have X0 := X
  obtain ⟨⟨hx, hb, hml, hr, hlk, hown, hts⟩, hA, hK, hN⟩ := X0
  have hD : ∀ (z' : V) (g' : VL), va_D A (MW a ct z' g') := fun z' g' => va_D_addr hD0 rfl
  have hl : lv_has ls 1 [(0, .ref (a 0))] := hl
  unfold wp_X2_passAll at w
  have hS0 := hS
  refine lv_aload_n hx hb dX2_passAll_0 rfl (lv_at hl 0 rfl) ?_
  refine lv_aload_n hx hb dX2_passAll_1 rfl (lv_at hl 0 rfl) ?_
  refine lv_aload_n hx hb dX2_passAll_2 rfl (lv_at hl 0 rfl) ?_
  refine va_get (D := (dC, dI)) (ci := 2) (v := .int (z 19 0)) (C := RX2) (T := TX2) (N := 34) hx hb hts in_X2 hown hK hP 0 rfl rfl 5 (by decide) (hts _ q463) (fun _ h9 => h9) rfl dX2_passAll_3 ?_
  refine va_calli (va_runV (As := [.int (z 19 0)]) (rest := [.ref (a 0)]) ⟨hx, hb, hml, hown, hts⟩ (met_X2_pass l dC dI ct a _ w) (cwV 1 hts (lw_V q847 q849 qs43 q51 q850) rfl rfl rfl hd_X2_pass ⟨Nat.le_of_ble_eq_true rfl, Nat.le_of_ble_eq_true rfl⟩) (pre_V hK hP (hD _ _) hN (va_recv hK hP (ci := 2) (q0 := 0) rfl rfl)) rfl rfl hl.1 rfl (lv_room (Nat.le_of_ble_eq_true rfl)) dX2_passAll_6 ⟨Nat.le_refl _, Nat.le_refl _⟩) hS (fun q _ h => x_free (hD _ _) hS hA q h) (x_free (hD _ _) hS hA) (fun r1 u t H locs ht hvm w hB hz hk hS => ?_)
  obtain ⟨z_1, g_1⟩ := u
  dsimp only at w
  have hP : va_P (dC, dI) vwCl (MW a ct z_1 g_1) H := post_P hB ht
  refine va_put (D := (dC, dI)) (ci := 2) (v := .int r1) (ty := .int) (C := RX2) (T := TX2) (N := 34) hx hb hts in_X2 tyX2 tyX2_ok nmX2 hown hK hP (hD _ _) hS 0 rfl rfl 5 (by decide) (hts _ q463) (fun _ h9 => h9) rfl (by decide +kernel) rfl rfl (Nat.le_of_ble_eq_true rfl) dX2_passAll_9 (fun H locs hP _ hS => ?_)
  have hP : va_P (dC, dI) vwCl (MW a ct (up2 z_1 19 0 r1) g_1) H := MW_s_z_0 hP
  refine lv_aload_n hx hb dX2_passAll_12 rfl (lv_at hl 0 rfl) ?_
  refine lv_aload_n hx hb dX2_passAll_13 rfl (lv_at hl 0 rfl) ?_
  refine lv_aload_n hx hb dX2_passAll_14 rfl (lv_at hl 0 rfl) ?_
  refine va_get (D := (dC, dI)) (ci := 2) (v := .int (z_1 19 1)) (C := RX2) (T := TX2) (N := 34) hx hb hts in_X2 hown hK hP 0 rfl rfl 6 (by decide) (hts _ q464) (fun _ h9 => h9) rfl dX2_passAll_15 ?_
  refine va_calli (va_runV (As := [.int (z_1 19 1)]) (rest := [.ref (a 0)]) ⟨hx, hb, hml, hown, hts⟩ (met_X2_pass l dC dI ct a _ w) (cwV 1 hts (lw_V q847 q849 qs43 q51 q850) rfl rfl rfl hd_X2_pass ⟨Nat.le_of_ble_eq_true rfl, Nat.le_of_ble_eq_true rfl⟩) (pre_V hK hP (hD _ _) hN (va_recv hK hP (ci := 2) (q0 := 0) rfl rfl)) rfl rfl hl.1 rfl (lv_room (Nat.le_of_ble_eq_true rfl)) dX2_passAll_18 ⟨Nat.le_refl _, Nat.le_refl _⟩) hS (fun q _ h => x_free (hD _ _) hS hA q h) (x_free (hD _ _) hS hA) (fun r2 u t H locs ht hvm w hB hz hk hS => ?_)
  obtain ⟨z_2, g_2⟩ := u
  dsimp only at w
  have hP : va_P (dC, dI) vwCl (MW a ct z_2 g_2) H := post_P hB ht
  refine va_put (D := (dC, dI)) (ci := 2) (v := .int r2) (ty := .int) (C := RX2) (T := TX2) (N := 34) hx hb hts in_X2 tyX2 tyX2_ok nmX2 hown hK hP (hD _ _) hS 0 rfl rfl 6 (by decide) (hts _ q464) (fun _ h9 => h9) rfl (by decide +kernel) rfl rfl (Nat.le_of_ble_eq_true rfl) dX2_passAll_21 (fun H locs hP _ hS => ?_)
  have hP : va_P (dC, dI) vwCl (MW a ct (up2 z_2 19 1 r2) g_2) H := MW_s_z_1 hP
  refine lv_aload_n hx hb dX2_passAll_24 rfl (lv_at hl 0 rfl) ?_
  refine lv_aload_n hx hb dX2_passAll_25 rfl (lv_at hl 0 rfl) ?_
  refine lv_aload_n hx hb dX2_passAll_26 rfl (lv_at hl 0 rfl) ?_
  refine va_get (D := (dC, dI)) (ci := 2) (v := .int (z_2 19 2)) (C := RX2) (T := TX2) (N := 34) hx hb hts in_X2 hown hK hP 0 rfl rfl 7 (by decide) (hts _ q465) (fun _ h9 => h9) rfl dX2_passAll_27 ?_
  refine va_calli (va_runV (As := [.int (z_2 19 2)]) (rest := [.ref (a 0)]) ⟨hx, hb, hml, hown, hts⟩ (met_X2_pass l dC dI ct a _ w) (cwV 1 hts (lw_V q847 q849 qs43 q51 q850) rfl rfl rfl hd_X2_pass ⟨Nat.le_of_ble_eq_true rfl, Nat.le_of_ble_eq_true rfl⟩) (pre_V hK hP (hD _ _) hN (va_recv hK hP (ci := 2) (q0 := 0) rfl rfl)) rfl rfl hl.1 rfl (lv_room (Nat.le_of_ble_eq_true rfl)) dX2_passAll_30 ⟨Nat.le_refl _, Nat.le_refl _⟩) hS (fun q _ h => x_free (hD _ _) hS hA q h) (x_free (hD _ _) hS hA) (fun r3 u t H locs ht hvm w hB hz hk hS => ?_)
  obtain ⟨z_3, g_3⟩ := u
  dsimp only at w
  have hP : va_P (dC, dI) vwCl (MW a ct z_3 g_3) H := post_P hB ht
  refine va_put (D := (dC, dI)) (ci := 2) (v := .int r3) (ty := .int) (C := RX2) (T := TX2) (N := 34) hx hb hts in_X2 tyX2 tyX2_ok nmX2 hown hK hP (hD _ _) hS 0 rfl rfl 7 (by decide) (hts _ q465) (fun _ h9 => h9) rfl (by decide +kernel) rfl rfl (Nat.le_of_ble_eq_true rfl) dX2_passAll_33 (fun H locs hP _ hS => ?_)
  have hP : va_P (dC, dI) vwCl (MW a ct (up2 z_3 19 2 r3) g_3) H := MW_s_z_2 hP
  refine lv_aload_n hx hb dX2_passAll_36 rfl (lv_at hl 0 rfl) ?_
  refine lv_aload_n hx hb dX2_passAll_37 rfl (lv_at hl 0 rfl) ?_
  refine lv_aload_n hx hb dX2_passAll_38 rfl (lv_at hl 0 rfl) ?_
  refine va_get (D := (dC, dI)) (ci := 2) (v := .int (z_3 19 3)) (C := RX2) (T := TX2) (N := 34) hx hb hts in_X2 hown hK hP 0 rfl rfl 8 (by decide) (hts _ q466) (fun _ h9 => h9) rfl dX2_passAll_39 ?_
  refine va_calli (va_runV (As := [.int (z_3 19 3)]) (rest := [.ref (a 0)]) ⟨hx, hb, hml, hown, hts⟩ (met_X2_pass l dC dI ct a _ w) (cwV 1 hts (lw_V q847 q849 qs43 q51 q850) rfl rfl rfl hd_X2_pass ⟨Nat.le_of_ble_eq_true rfl, Nat.le_of_ble_eq_true rfl⟩) (pre_V hK hP (hD _ _) hN (va_recv hK hP (ci := 2) (q0 := 0) rfl rfl)) rfl rfl hl.1 rfl (lv_room (Nat.le_of_ble_eq_true rfl)) dX2_passAll_42 ⟨Nat.le_refl _, Nat.le_refl _⟩) hS (fun q _ h => x_free (hD _ _) hS hA q h) (x_free (hD _ _) hS hA) (fun r4 u t H locs ht hvm w hB hz hk hS => ?_)
  obtain ⟨z_4, g_4⟩ := u
  dsimp only at w
  have hP : va_P (dC, dI) vwCl (MW a ct z_4 g_4) H := post_P hB ht
  refine va_put (D := (dC, dI)) (ci := 2) (v := .int r4) (ty := .int) (C := RX2) (T := TX2) (N := 34) hx hb hts in_X2 tyX2 tyX2_ok nmX2 hown hK hP (hD _ _) hS 0 rfl rfl 8 (by decide) (hts _ q466) (fun _ h9 => h9) rfl (by decide +kernel) rfl rfl (Nat.le_of_ble_eq_true rfl) dX2_passAll_45 (fun H locs hP _ hS => ?_)
  have hP : va_P (dC, dI) vwCl (MW a ct (up2 z_4 19 3 r4) g_4) H := MW_s_z_3 hP
  refine lv_aload_n hx hb dX2_passAll_48 rfl (lv_at hl 0 rfl) ?_
  refine lv_aload_n hx hb dX2_passAll_49 rfl (lv_at hl 0 rfl) ?_
  refine lv_aload_n hx hb dX2_passAll_50 rfl (lv_at hl 0 rfl) ?_
  refine va_get (D := (dC, dI)) (ci := 2) (v := .int (z_4 19 4)) (C := RX2) (T := TX2) (N := 34) hx hb hts in_X2 hown hK hP 0 rfl rfl 12 (by decide) (hts _ q470) (fun _ h9 => h9) rfl dX2_passAll_51 ?_
  refine va_calli (va_runV (As := [.int (z_4 19 4)]) (rest := [.ref (a 0)]) ⟨hx, hb, hml, hown, hts⟩ (met_X2_pass l dC dI ct a _ w) (cwV 1 hts (lw_V q847 q849 qs43 q51 q850) rfl rfl rfl hd_X2_pass ⟨Nat.le_of_ble_eq_true rfl, Nat.le_of_ble_eq_true rfl⟩) (pre_V hK hP (hD _ _) hN (va_recv hK hP (ci := 2) (q0 := 0) rfl rfl)) rfl rfl hl.1 rfl (lv_room (Nat.le_of_ble_eq_true rfl)) dX2_passAll_54 ⟨Nat.le_refl _, Nat.le_refl _⟩) hS (fun q _ h => x_free (hD _ _) hS hA q h) (x_free (hD _ _) hS hA) (fun r5 u t H locs ht hvm w hB hz hk hS => ?_)
  obtain ⟨z_5, g_5⟩ := u
  dsimp only at w
  have hP : va_P (dC, dI) vwCl (MW a ct z_5 g_5) H := post_P hB ht
  refine va_put (D := (dC, dI)) (ci := 2) (v := .int r5) (ty := .int) (C := RX2) (T := TX2) (N := 34) hx hb hts in_X2 tyX2 tyX2_ok nmX2 hown hK hP (hD _ _) hS 0 rfl rfl 12 (by decide) (hts _ q470) (fun _ h9 => h9) rfl (by decide +kernel) rfl rfl (Nat.le_of_ble_eq_true rfl) dX2_passAll_57 (fun H locs hP _ hS => ?_)
  have hP : va_P (dC, dI) vwCl (MW a ct (up2 z_5 19 4 r5) g_5) H := MW_s_z_4 hP
  refine lv_aload_n hx hb dX2_passAll_60 rfl (lv_at hl 0 rfl) ?_
  refine lv_aload_n hx hb dX2_passAll_61 rfl (lv_at hl 0 rfl) ?_
  refine va_get (D := (dC, dI)) (ci := 2) (v := .ref (a 1)) (C := RX2) (T := TX2) (N := 34) hx hb hts in_X2 hown hK hP 0 rfl rfl 0 (by decide) (hts _ q458) (fun _ h9 => h9) rfl dX2_passAll_62 ?_
  refine lv_bipush (v := 6) hx hb dX2_passAll_65 (by decide) ?_
  refine va_callv (va_runV (As := [.ref (a 1), .int (6 : Int32)]) (rest := []) ⟨hx, hb, hml, hown, hts⟩ (met_X2_passRow l dC dI ct a _ w) (cwV 2 hts (lw_V q851 q853 qs44 q51 q854) rfl rfl rfl hd_X2_passRow ⟨Nat.le_of_ble_eq_true rfl, Nat.le_of_ble_eq_true rfl⟩) (pre_V hK hP (hD _ _) hN (va_recv hK hP (ci := 2) (q0 := 0) rfl rfl)) rfl rfl hl.1 rfl (lv_room (Nat.le_of_ble_eq_true rfl)) dX2_passAll_67 ⟨Nat.le_refl _, Nat.le_refl _⟩) hS (fun q _ h => x_free (hD _ _) hS hA q h) (x_free (hD _ _) hS hA) (fun  u t H locs ht hvm w hB hz hk hS => ?_)
  obtain ⟨z_6, g_6⟩ := u
  dsimp only at w
  have hP : va_P (dC, dI) vwCl (MW a ct z_6 g_6) H := post_P hB ht
  refine lv_aload_n hx hb dX2_passAll_70 rfl (lv_at hl 0 rfl) ?_
  refine lv_aload_n hx hb dX2_passAll_71 rfl (lv_at hl 0 rfl) ?_
  refine va_get (D := (dC, dI)) (ci := 2) (v := .ref (a 2)) (C := RX2) (T := TX2) (N := 34) hx hb hts in_X2 hown hK hP 0 rfl rfl 1 (by decide) (hts _ q459) (fun _ h9 => h9) rfl dX2_passAll_72 ?_
  refine lv_bipush (v := 6) hx hb dX2_passAll_75 (by decide) ?_
  refine va_callv (va_runV (As := [.ref (a 2), .int (6 : Int32)]) (rest := []) ⟨hx, hb, hml, hown, hts⟩ (met_X2_passRow l dC dI ct a _ w) (cwV 2 hts (lw_V q851 q853 qs44 q51 q854) rfl rfl rfl hd_X2_passRow ⟨Nat.le_of_ble_eq_true rfl, Nat.le_of_ble_eq_true rfl⟩) (pre_V hK hP (hD _ _) hN (va_recv hK hP (ci := 2) (q0 := 0) rfl rfl)) rfl rfl hl.1 rfl (lv_room (Nat.le_of_ble_eq_true rfl)) dX2_passAll_77 ⟨Nat.le_refl _, Nat.le_refl _⟩) hS (fun q _ h => x_free (hD _ _) hS hA q h) (x_free (hD _ _) hS hA) (fun  u t H locs ht hvm w hB hz hk hS => ?_)
  obtain ⟨z_7, g_7⟩ := u
  dsimp only at w
  have hP : va_P (dC, dI) vwCl (MW a ct z_7 g_7) H := post_P hB ht
  refine lv_aload_n hx hb dX2_passAll_80 rfl (lv_at hl 0 rfl) ?_
  refine lv_aload_n hx hb dX2_passAll_81 rfl (lv_at hl 0 rfl) ?_
  refine va_get (D := (dC, dI)) (ci := 2) (v := .ref (a 3)) (C := RX2) (T := TX2) (N := 34) hx hb hts in_X2 hown hK hP 0 rfl rfl 2 (by decide) (hts _ q460) (fun _ h9 => h9) rfl dX2_passAll_82 ?_
  refine lv_bipush (v := 36) hx hb dX2_passAll_85 (by decide) ?_
  refine va_callv (va_runV (As := [.ref (a 3), .int (36 : Int32)]) (rest := []) ⟨hx, hb, hml, hown, hts⟩ (met_X2_passRow l dC dI ct a _ w) (cwV 2 hts (lw_V q851 q853 qs44 q51 q854) rfl rfl rfl hd_X2_passRow ⟨Nat.le_of_ble_eq_true rfl, Nat.le_of_ble_eq_true rfl⟩) (pre_V hK hP (hD _ _) hN (va_recv hK hP (ci := 2) (q0 := 0) rfl rfl)) rfl rfl hl.1 rfl (lv_room (Nat.le_of_ble_eq_true rfl)) dX2_passAll_87 ⟨Nat.le_refl _, Nat.le_refl _⟩) hS (fun q _ h => x_free (hD _ _) hS hA q h) (x_free (hD _ _) hS hA) (fun  u t H locs ht hvm w hB hz hk hS => ?_)
  obtain ⟨z_8, g_8⟩ := u
  dsimp only at w
  have hP : va_P (dC, dI) vwCl (MW a ct z_8 g_8) H := post_P hB ht
  refine lv_aload_n hx hb dX2_passAll_90 rfl (lv_at hl 0 rfl) ?_
  refine lv_aload_n hx hb dX2_passAll_91 rfl (lv_at hl 0 rfl) ?_
  refine va_get (D := (dC, dI)) (ci := 2) (v := .ref (a 4)) (C := RX2) (T := TX2) (N := 34) hx hb hts in_X2 hown hK hP 0 rfl rfl 3 (by decide) (hts _ q461) (fun _ h9 => h9) rfl dX2_passAll_92 ?_
  refine lv_bipush (v := 8) hx hb dX2_passAll_95 (by decide) ?_
  refine va_callv (va_runV (As := [.ref (a 4), .int (8 : Int32)]) (rest := []) ⟨hx, hb, hml, hown, hts⟩ (met_X2_passRow l dC dI ct a _ w) (cwV 2 hts (lw_V q851 q853 qs44 q51 q854) rfl rfl rfl hd_X2_passRow ⟨Nat.le_of_ble_eq_true rfl, Nat.le_of_ble_eq_true rfl⟩) (pre_V hK hP (hD _ _) hN (va_recv hK hP (ci := 2) (q0 := 0) rfl rfl)) rfl rfl hl.1 rfl (lv_room (Nat.le_of_ble_eq_true rfl)) dX2_passAll_97 ⟨Nat.le_refl _, Nat.le_refl _⟩) hS (fun q _ h => x_free (hD _ _) hS hA q h) (x_free (hD _ _) hS hA) (fun  u t H locs ht hvm w hB hz hk hS => ?_)
  obtain ⟨z_9, g_9⟩ := u
  dsimp only at w
  have hP : va_P (dC, dI) vwCl (MW a ct z_9 g_9) H := post_P hB ht
  refine lv_aload_n hx hb dX2_passAll_100 rfl (lv_at hl 0 rfl) ?_
  refine lv_aload_n hx hb dX2_passAll_101 rfl (lv_at hl 0 rfl) ?_
  refine va_get (D := (dC, dI)) (ci := 2) (v := .ref (a 5)) (C := RX2) (T := TX2) (N := 34) hx hb hts in_X2 hown hK hP 0 rfl rfl 4 (by decide) (hts _ q462) (fun _ h9 => h9) rfl dX2_passAll_102 ?_
  refine lv_bipush (v := 8) hx hb dX2_passAll_105 (by decide) ?_
  refine va_callv (va_runV (As := [.ref (a 5), .int (8 : Int32)]) (rest := []) ⟨hx, hb, hml, hown, hts⟩ (met_X2_passRow l dC dI ct a _ w) (cwV 2 hts (lw_V q851 q853 qs44 q51 q854) rfl rfl rfl hd_X2_passRow ⟨Nat.le_of_ble_eq_true rfl, Nat.le_of_ble_eq_true rfl⟩) (pre_V hK hP (hD _ _) hN (va_recv hK hP (ci := 2) (q0 := 0) rfl rfl)) rfl rfl hl.1 rfl (lv_room (Nat.le_of_ble_eq_true rfl)) dX2_passAll_107 ⟨Nat.le_refl _, Nat.le_refl _⟩) hS (fun q _ h => x_free (hD _ _) hS hA q h) (x_free (hD _ _) hS hA) (fun  u t H locs ht hvm w hB hz hk hS => ?_)
  obtain ⟨z_10, g_10⟩ := u
  dsimp only at w
  have hP : va_P (dC, dI) vwCl (MW a ct z_10 g_10) H := post_P hB ht
  refine lv_aload_n hx hb dX2_passAll_110 rfl (lv_at hl 0 rfl) ?_
  refine lv_aload_n hx hb dX2_passAll_111 rfl (lv_at hl 0 rfl) ?_
  refine va_get (D := (dC, dI)) (ci := 2) (v := .ref (a 6)) (C := RX2) (T := TX2) (N := 34) hx hb hts in_X2 hown hK hP 0 rfl rfl 9 (by decide) (hts _ q467) (fun _ h9 => h9) rfl dX2_passAll_112 ?_
  refine lv_bipush (v := 8) hx hb dX2_passAll_115 (by decide) ?_
  refine va_callv (va_runV (As := [.ref (a 6), .int (8 : Int32)]) (rest := []) ⟨hx, hb, hml, hown, hts⟩ (met_X2_passRow l dC dI ct a _ w) (cwV 2 hts (lw_V q851 q853 qs44 q51 q854) rfl rfl rfl hd_X2_passRow ⟨Nat.le_of_ble_eq_true rfl, Nat.le_of_ble_eq_true rfl⟩) (pre_V hK hP (hD _ _) hN (va_recv hK hP (ci := 2) (q0 := 0) rfl rfl)) rfl rfl hl.1 rfl (lv_room (Nat.le_of_ble_eq_true rfl)) dX2_passAll_117 ⟨Nat.le_refl _, Nat.le_refl _⟩) hS (fun q _ h => x_free (hD _ _) hS hA q h) (x_free (hD _ _) hS hA) (fun  u t H locs ht hvm w hB hz hk hS => ?_)
  obtain ⟨z_11, g_11⟩ := u
  dsimp only at w
  have hP : va_P (dC, dI) vwCl (MW a ct z_11 g_11) H := post_P hB ht
  refine lv_aload_n hx hb dX2_passAll_120 rfl (lv_at hl 0 rfl) ?_
  refine lv_aload_n hx hb dX2_passAll_121 rfl (lv_at hl 0 rfl) ?_
  refine va_get (D := (dC, dI)) (ci := 2) (v := .ref (a 7)) (C := RX2) (T := TX2) (N := 34) hx hb hts in_X2 hown hK hP 0 rfl rfl 10 (by decide) (hts _ q468) (fun _ h9 => h9) rfl dX2_passAll_122 ?_
  refine lv_bipush (v := 8) hx hb dX2_passAll_125 (by decide) ?_
  refine va_callv (va_runV (As := [.ref (a 7), .int (8 : Int32)]) (rest := []) ⟨hx, hb, hml, hown, hts⟩ (met_X2_passRow l dC dI ct a _ w) (cwV 2 hts (lw_V q851 q853 qs44 q51 q854) rfl rfl rfl hd_X2_passRow ⟨Nat.le_of_ble_eq_true rfl, Nat.le_of_ble_eq_true rfl⟩) (pre_V hK hP (hD _ _) hN (va_recv hK hP (ci := 2) (q0 := 0) rfl rfl)) rfl rfl hl.1 rfl (lv_room (Nat.le_of_ble_eq_true rfl)) dX2_passAll_127 ⟨Nat.le_refl _, Nat.le_refl _⟩) hS (fun q _ h => x_free (hD _ _) hS hA q h) (x_free (hD _ _) hS hA) (fun  u t H locs ht hvm w hB hz hk hS => ?_)
  obtain ⟨z_12, g_12⟩ := u
  dsimp only at w
  have hP : va_P (dC, dI) vwCl (MW a ct z_12 g_12) H := post_P hB ht
  refine lv_aload_n hx hb dX2_passAll_130 rfl (lv_at hl 0 rfl) ?_
  refine lv_aload_n hx hb dX2_passAll_131 rfl (lv_at hl 0 rfl) ?_
  refine va_get (D := (dC, dI)) (ci := 2) (v := .ref (a 8)) (C := RX2) (T := TX2) (N := 34) hx hb hts in_X2 hown hK hP 0 rfl rfl 11 (by decide) (hts _ q469) (fun _ h9 => h9) rfl dX2_passAll_132 ?_
  refine lv_bipush (v := 8) hx hb dX2_passAll_135 (by decide) ?_
  refine va_callv (va_runV (As := [.ref (a 8), .int (8 : Int32)]) (rest := []) ⟨hx, hb, hml, hown, hts⟩ (met_X2_passRow l dC dI ct a _ w) (cwV 2 hts (lw_V q851 q853 qs44 q51 q854) rfl rfl rfl hd_X2_passRow ⟨Nat.le_of_ble_eq_true rfl, Nat.le_of_ble_eq_true rfl⟩) (pre_V hK hP (hD _ _) hN (va_recv hK hP (ci := 2) (q0 := 0) rfl rfl)) rfl rfl hl.1 rfl (lv_room (Nat.le_of_ble_eq_true rfl)) dX2_passAll_137 ⟨Nat.le_refl _, Nat.le_refl _⟩) hS (fun q _ h => x_free (hD _ _) hS hA q h) (x_free (hD _ _) hS hA) (fun  u t H locs ht hvm w hB hz hk hS => ?_)
  obtain ⟨z_13, g_13⟩ := u
  dsimp only at w
  have hP : va_P (dC, dI) vwCl (MW a ct z_13 g_13) H := post_P hB ht
  exact W.vret hx hb hr (fun t ht hW => ⟨⟨(z_13, g_13), rfl, w, by rw [ht]; exact hP, va_K.moved hW.alike hK, (hD _ _)⟩, hS.F ht⟩) hS.2.2 dX2_passAll_140 hlk
abbrev rm_X2_image : Room := { frames := 3, cells := 0, slots := 0, locals := 65 }
theorem hd_X2_image : yX2_image.cls = RX2 ∧ yX2_image.cls ≠ "java/lang/invoke/MethodHandle" ∧ yX2_image.cls ≠ "java/lang/invoke/VarHandle" ∧ (parseMethodDescriptor yX2_image.desc).map (fun d => d.parameters.length) = some 1 := by decide +kernel
set_option maxHeartbeats 4000000 in
set_option maxRecDepth 100000 in
theorem met_X2_image (l : Launch) (dC : Nat → ClassId) (dI : Nat → Nat → Nat) (ct : Nat → ClassId) (a : Nat → Nat) (sz : Nat) {i1 : Int32} {z : V} {g : VL} {Post : Int32 → V → VL → Prop} (w : wp_X2_image i1 z g Post) : Met l yX2_image (ws_ yX2_image cX2_image 2 (some .int)) rm_X2_image (va_Pc [.ref (a 0), .int i1] (fun U => WPre dC dI ct (MW a ct z g) sz U)) ((fun A => (va_Qi (fun (r : Int32) (u : V × VL) => Post r u.1 u.2) (fun (u : V × VL) t => WPos dC dI ct (MW a ct u.1 u.2) A t) A)) (va_A (MW a ct z g) sz)) 0 0 (va_A (MW a ct z g) sz) := by
  refine open_W (fun A => (va_Qi (fun (r : Int32) (u : V × VL) => Post r u.1 u.2) (fun (u : V × VL) t => WPos dC dI ct (MW a ct u.1 u.2) A t) A)) (by decide) (Nat.le_of_ble_eq_true rfl) ?_
  intro p e s m args below meth c ls A X hD0 hP hS hl
  have X0 := X
  obtain ⟨⟨hx, hb, hml, hr, hlk, hown, hts⟩, hA, hK, hN⟩ := X0
  have hD : ∀ (z' : V) (g' : VL), va_D A (MW a ct z' g') := fun z' g' => va_D_addr hD0 rfl
  have hl : lv_has ls 2 [(0, .ref (a 0)), (1, .int i1)] := hl
  unfold wp_X2_image at w
  have hS0 := hS
  refine lv_iload_n hx hb dX2_image_0 rfl (lv_at hl 1 rfl) ?_
  refine lv_i2l hx hb dX2_image_1 rfl ?_
  refine lv_lconst (v := 0) hx hb dX2_image_2 (by decide) ?_
  refine lv_lconst (v := 1) hx hb dX2_image_3 (by decide) ?_
  refine vp_callSi (W.runS (As := [.long i1.toInt64, .long (0 : Int64), .long (1 : Int64)]) (rest := []) ⟨hx, hb, hml, hown, hts⟩ (met_X2_in l w) (va_cwS 3 hts (lw_S q570 q571 q51 q572) rfl rfl rfl hd_X2_in ⟨Nat.le_of_ble_eq_true rfl, Nat.le_of_ble_eq_true rfl⟩) pre_S rfl rfl hl.1 rfl (lv_room (Nat.le_of_ble_eq_true rfl)) dX2_image_4 ⟨Nat.le_refl _, Nat.le_refl _⟩) (fun r1 w => ?_)
  refine lv_if_ne (tgt := 13) hx hb dX2_image_7 (by decide) (fun c => ?_) (fun c => ?_)
  · have w := And.right w c
    refine lv_aload_n hx hb dX2_image_13 rfl (lv_at hl 0 rfl) ?_
    refine lv_bipush (v := 100) hx hb dX2_image_14 (by decide) ?_
    refine lv_iload_n hx hb dX2_image_16 rfl (lv_at hl 1 rfl) ?_
    refine lv_imul hx hb dX2_image_17 ?_
    refine va_put (D := (dC, dI)) (ci := 2) (v := .int ((100 : Int32) * i1)) (ty := .int) (C := RX2) (T := TX2) (N := 34) hx hb hts in_X2 tyX2 tyX2_ok nmX2 hown hK hP (hD _ _) hS 0 rfl rfl 32 (by decide) (hts _ q490) (fun _ h9 => h9) rfl (by decide +kernel) rfl rfl (Nat.le_of_ble_eq_true rfl) dX2_image_18 (fun H locs hP _ hS => ?_)
    have hP : va_P (dC, dI) vwCl (MW a ct (up2 z 19 10 ((100 : Int32) * i1)) g) H := MW_s_z_10 hP
    refine lv_aload_n hx hb dX2_image_21 rfl (lv_at hl 0 rfl) ?_
    refine lv_iconst (v := 1) hx hb dX2_image_22 (by decide) ?_
    refine va_put (D := (dC, dI)) (ci := 2) (v := .int (1 : Int32)) (ty := .boolean) (C := RX2) (T := TX2) (N := 34) hx hb hts in_X2 tyX2 tyX2_ok nmX2 hown hK hP (hD _ _) hS 0 rfl rfl 33 (by decide) (hts _ q491) (fun _ h9 => h9) rfl (by decide +kernel) (by decide) (by decide) (Nat.le_of_ble_eq_true rfl) dX2_image_23 (fun H locs hP _ hS => ?_)
    have hP : va_P (dC, dI) vwCl (MW a ct (up2 (up2 z 19 10 ((100 : Int32) * i1)) 19 11 (1 : Int32)) g) H := MW_s_z_11 hP
    refine lv_aload_n hx hb dX2_image_26 rfl (lv_at hl 0 rfl) ?_
    refine va_callv (va_runV (As := []) (rest := []) ⟨hx, hb, hml, hown, hts⟩ (met_X2_passAll l dC dI ct a _ w) (cwV 0 hts (lw_V q843 q845 qs42 q51 q846) rfl rfl rfl hd_X2_passAll ⟨Nat.le_of_ble_eq_true rfl, Nat.le_of_ble_eq_true rfl⟩) (pre_V hK hP (hD _ _) hN (va_recv hK hP (ci := 2) (q0 := 0) rfl rfl)) rfl rfl hl.1 rfl (lv_room (Nat.le_of_ble_eq_true rfl)) dX2_image_27 ⟨Nat.le_refl _, Nat.le_refl _⟩) hS (fun q _ h => x_free (hD _ _) hS hA q h) (x_free (hD _ _) hS hA) (fun  u t H locs ht hvm w hB hz hk hS => ?_)
    obtain ⟨z_2, g_2⟩ := u
    dsimp only at w
    have hP : va_P (dC, dI) vwCl (MW a ct z_2 g_2) H := post_P hB ht
    refine lv_aload_n hx hb dX2_image_30 rfl (lv_at hl 0 rfl) ?_
    refine va_get (D := (dC, dI)) (ci := 2) (v := .ref (a 19)) (C := RX2) (T := TX2) (N := 34) hx hb hts in_X2 hown hK hP 0 rfl rfl 31 (by decide) (hts _ q489) (fun _ h9 => h9) rfl dX2_image_31 ?_
    refine lv_iload_n hx hb dX2_image_34 rfl (lv_at hl 1 rfl) ?_
    refine lv_iconst (v := 1) hx hb dX2_image_35 (by decide) ?_
    obtain ⟨gi, w⟩ := w
    refine va_zast hx hb hK hP (hD _ _) hS 19 3 rfl rfl gi dX2_image_36 (fun H locs hP _ hS => ?_)
    have hP : va_P (dC, dI) vwCl (MW a ct (up2 z_2 18 i1.toNatClampNeg (vp_nar .boolean (1 : Int32))) g_2) H := MW_u_z_18 hP
    refine lv_iconst (v := 1) hx hb dX2_image_37 (by decide) ?_
    exact W.iret (v := (1 : Int32)) hx hb hr (fun t ht hW => ⟨⟨(1 : Int32), ((up2 z_2 18 i1.toNatClampNeg (vp_nar .boolean (1 : Int32))), g_2), rfl, w, by rw [ht]; exact hP, va_K.moved hW.alike hK, (hD _ _)⟩, hS.F ht⟩) hS.2.2 dX2_image_38 hlk
  · have w := And.left w c
    refine lv_bipush (v := -2) hx hb dX2_image_10 (by decide) ?_
    exact W.iret (v := (-2 : Int32)) hx hb hr (fun t ht hW => ⟨⟨(-2 : Int32), (z, g), rfl, w, by rw [ht]; exact hP, va_K.moved hW.alike hK, (hD _ _)⟩, hS.F ht⟩) hS.2.2 dX2_image_12 hlk
abbrev rm_X2_restore : Room := { frames := 3, cells := 0, slots := 0, locals := 65 }
theorem hd_X2_restore : yX2_restore.cls = RX2 ∧ yX2_restore.cls ≠ "java/lang/invoke/MethodHandle" ∧ yX2_restore.cls ≠ "java/lang/invoke/VarHandle" ∧ (parseMethodDescriptor yX2_restore.desc).map (fun d => d.parameters.length) = some 1 := by decide +kernel
set_option maxHeartbeats 4000000 in
set_option maxRecDepth 100000 in
theorem met_X2_restore (l : Launch) (dC : Nat → ClassId) (dI : Nat → Nat → Nat) (ct : Nat → ClassId) (a : Nat → Nat) (sz : Nat) {i1 : Int32} {z : V} {g : VL} {Post : Int32 → V → VL → Prop} (w : wp_X2_restore i1 z g Post) : Met l yX2_restore (ws_ yX2_restore cX2_restore 2 (some .int)) rm_X2_restore (va_Pc [.ref (a 0), .int i1] (fun U => WPre dC dI ct (MW a ct z g) sz U)) ((fun A => (va_Qi (fun (r : Int32) (u : V × VL) => Post r u.1 u.2) (fun (u : V × VL) t => WPos dC dI ct (MW a ct u.1 u.2) A t) A)) (va_A (MW a ct z g) sz)) 0 0 (va_A (MW a ct z g) sz) := by
  refine open_W (fun A => (va_Qi (fun (r : Int32) (u : V × VL) => Post r u.1 u.2) (fun (u : V × VL) t => WPos dC dI ct (MW a ct u.1 u.2) A t) A)) (by decide) (Nat.le_of_ble_eq_true rfl) ?_
  intro p e s m args below meth c ls A X hD0 hP hS hl
  have X0 := X
  obtain ⟨⟨hx, hb, hml, hr, hlk, hown, hts⟩, hA, hK, hN⟩ := X0
  have hD : ∀ (z' : V) (g' : VL), va_D A (MW a ct z' g') := fun z' g' => va_D_addr hD0 rfl
  have hl : lv_has ls 2 [(0, .ref (a 0)), (1, .int i1)] := hl
  unfold wp_X2_restore at w
  have hS0 := hS
  refine lv_iload_n hx hb dX2_restore_0 rfl (lv_at hl 1 rfl) ?_
  refine lv_i2l hx hb dX2_restore_1 rfl ?_
  refine lv_lconst (v := 0) hx hb dX2_restore_2 (by decide) ?_
  refine lv_lconst (v := 1) hx hb dX2_restore_3 (by decide) ?_
  refine vp_callSi (W.runS (As := [.long i1.toInt64, .long (0 : Int64), .long (1 : Int64)]) (rest := []) ⟨hx, hb, hml, hown, hts⟩ (met_X2_in l w) (va_cwS 3 hts (lw_S q570 q571 q51 q572) rfl rfl rfl hd_X2_in ⟨Nat.le_of_ble_eq_true rfl, Nat.le_of_ble_eq_true rfl⟩) pre_S rfl rfl hl.1 rfl (lv_room (Nat.le_of_ble_eq_true rfl)) dX2_restore_4 ⟨Nat.le_refl _, Nat.le_refl _⟩) (fun r1 w => ?_)
  refine lv_if_ne (tgt := 13) hx hb dX2_restore_7 (by decide) (fun c => ?_) (fun c => ?_)
  · have w := And.right w c
    refine lv_aload_n hx hb dX2_restore_13 rfl (lv_at hl 0 rfl) ?_
    refine va_get (D := (dC, dI)) (ci := 2) (v := .ref (a 19)) (C := RX2) (T := TX2) (N := 34) hx hb hts in_X2 hown hK hP 0 rfl rfl 31 (by decide) (hts _ q489) (fun _ h9 => h9) rfl dX2_restore_14 ?_
    refine lv_iload_n hx hb dX2_restore_17 rfl (lv_at hl 1 rfl) ?_
    obtain ⟨gi, w⟩ := w
    refine va_zald hx hb hK hP 19 3 rfl rfl gi dX2_restore_18 ?_
    refine lv_if_ne (tgt := 25) hx hb dX2_restore_19 (by decide) (fun c => ?_) (fun c => ?_)
    · have w := And.right w c
      refine lv_aload_n hx hb dX2_restore_25 rfl (lv_at hl 0 rfl) ?_
      refine lv_bipush (v := 100) hx hb dX2_restore_26 (by decide) ?_
      refine lv_iload_n hx hb dX2_restore_28 rfl (lv_at hl 1 rfl) ?_
      refine lv_imul hx hb dX2_restore_29 ?_
      refine va_put (D := (dC, dI)) (ci := 2) (v := .int ((100 : Int32) * i1)) (ty := .int) (C := RX2) (T := TX2) (N := 34) hx hb hts in_X2 tyX2 tyX2_ok nmX2 hown hK hP (hD _ _) hS 0 rfl rfl 32 (by decide) (hts _ q490) (fun _ h9 => h9) rfl (by decide +kernel) rfl rfl (Nat.le_of_ble_eq_true rfl) dX2_restore_30 (fun H locs hP _ hS => ?_)
      have hP : va_P (dC, dI) vwCl (MW a ct (up2 z 19 10 ((100 : Int32) * i1)) g) H := MW_s_z_10 hP
      refine lv_aload_n hx hb dX2_restore_33 rfl (lv_at hl 0 rfl) ?_
      refine lv_iconst (v := 0) hx hb dX2_restore_34 (by decide) ?_
      refine va_put (D := (dC, dI)) (ci := 2) (v := .int (0 : Int32)) (ty := .boolean) (C := RX2) (T := TX2) (N := 34) hx hb hts in_X2 tyX2 tyX2_ok nmX2 hown hK hP (hD _ _) hS 0 rfl rfl 33 (by decide) (hts _ q491) (fun _ h9 => h9) rfl (by decide +kernel) (by decide) (by decide) (Nat.le_of_ble_eq_true rfl) dX2_restore_35 (fun H locs hP _ hS => ?_)
      have hP : va_P (dC, dI) vwCl (MW a ct (up2 (up2 z 19 10 ((100 : Int32) * i1)) 19 11 (0 : Int32)) g) H := MW_s_z_11 hP
      refine lv_aload_n hx hb dX2_restore_38 rfl (lv_at hl 0 rfl) ?_
      refine va_callv (va_runV (As := []) (rest := []) ⟨hx, hb, hml, hown, hts⟩ (met_X2_passAll l dC dI ct a _ w) (cwV 0 hts (lw_V q843 q845 qs42 q51 q846) rfl rfl rfl hd_X2_passAll ⟨Nat.le_of_ble_eq_true rfl, Nat.le_of_ble_eq_true rfl⟩) (pre_V hK hP (hD _ _) hN (va_recv hK hP (ci := 2) (q0 := 0) rfl rfl)) rfl rfl hl.1 rfl (lv_room (Nat.le_of_ble_eq_true rfl)) dX2_restore_39 ⟨Nat.le_refl _, Nat.le_refl _⟩) hS (fun q _ h => x_free (hD _ _) hS hA q h) (x_free (hD _ _) hS hA) (fun  u t H locs ht hvm w hB hz hk hS => ?_)
      obtain ⟨z_2, g_2⟩ := u
      dsimp only at w
      have hP : va_P (dC, dI) vwCl (MW a ct z_2 g_2) H := post_P hB ht
      refine lv_iconst (v := 1) hx hb dX2_restore_42 (by decide) ?_
      exact W.iret (v := (1 : Int32)) hx hb hr (fun t ht hW => ⟨⟨(1 : Int32), (z_2, g_2), rfl, w, by rw [ht]; exact hP, va_K.moved hW.alike hK, (hD _ _)⟩, hS.F ht⟩) hS.2.2 dX2_restore_43 hlk
    · have w := And.left w c
      refine lv_bipush (v := -3) hx hb dX2_restore_22 (by decide) ?_
      exact W.iret (v := (-3 : Int32)) hx hb hr (fun t ht hW => ⟨⟨(-3 : Int32), (z, g), rfl, w, by rw [ht]; exact hP, va_K.moved hW.alike hK, (hD _ _)⟩, hS.F ht⟩) hS.2.2 dX2_restore_24 hlk
  · have w := And.left w c
    refine lv_bipush (v := -2) hx hb dX2_restore_10 (by decide) ?_
    exact W.iret (v := (-2 : Int32)) hx hb hr (fun t ht hW => ⟨⟨(-2 : Int32), (z, g), rfl, w, by rw [ht]; exact hP, va_K.moved hW.alike hK, (hD _ _)⟩, hS.F ht⟩) hS.2.2 dX2_restore_12 hlk
abbrev rm_X2_toldOfOne : Room := { frames := 2, cells := 0, slots := 0, locals := 45 }
theorem hd_X2_toldOfOne : yX2_toldOfOne.cls = RX2 ∧ yX2_toldOfOne.cls ≠ "java/lang/invoke/MethodHandle" ∧ yX2_toldOfOne.cls ≠ "java/lang/invoke/VarHandle" ∧ (parseMethodDescriptor yX2_toldOfOne.desc).map (fun d => d.parameters.length) = some 2 := by decide +kernel
set_option maxHeartbeats 4000000 in
set_option maxRecDepth 100000 in
theorem wk_X2_toldOfOne_L16 {p : Program} {l : Launch} {e : Env} {s : State} {m : MethodId} {args : Array Value} {below : List Frame} {meth : Method} {c : Code} {dC : Nat → ClassId} {dI : Nat → Nat → Nat} {ct : Nat → ClassId} {A : Nat → Prop} {a : Nat → Nat} {Post : Int32 → V → VL → Prop}   (X : CxW p s m args meth c cX2_toldOfOne 3 (some .int) RX2 dC dI ct A) (hD : ∀ (z : V) (g : VL), va_D A (MW a ct z g))  (is0 : Int32) (z : V) (g : VL) (w : wp_X2_toldOfOne_L16  Post  is0 z g) : ∀ (H : Heap) (locs : List Loc) (ls : Array Slot), va_P (dC, dI) vwCl (MW a ct z g) H → va_S A s.heap H locs → lv_has ls 3 [] → W p l e rm_X2_toldOfOne s m args below meth c H locs 0 0 (MQ below (va_Qi (fun (r : Int32) (u : V × VL) => Post r u.1 u.2) (fun (u : V × VL) t => WPos dC dI ct (MW a ct u.1 u.2) A t) A) args s 0 0 A) (F0 m 16 ls [.int is0]) := by
  intro H locs ls hP hS hl
  have X0 := X
  obtain ⟨⟨hx, hb, hml, hr, hlk, hown, hts⟩, hA, hK, hN⟩ := X0
  unfold wp_X2_toldOfOne_L16 at w
  exact W.iret (v := is0) hx hb hr (fun t ht hW => ⟨⟨is0, (z, g), rfl, w, by rw [ht]; exact hP, va_K.moved hW.alike hK, (hD _ _)⟩, hS.F ht⟩) hS.2.2 dX2_toldOfOne_16 hlk
set_option maxHeartbeats 4000000 in
set_option maxRecDepth 100000 in
theorem met_X2_toldOfOne (l : Launch) (dC : Nat → ClassId) (dI : Nat → Nat → Nat) (ct : Nat → ClassId) (a : Nat → Nat) (sz : Nat) {i1 : Int32} {i2 : Int32} {z : V} {g : VL} {Post : Int32 → V → VL → Prop} (w : wp_X2_toldOfOne i1 i2 z g Post) : Met l yX2_toldOfOne (ws_ yX2_toldOfOne cX2_toldOfOne 3 (some .int)) rm_X2_toldOfOne (va_Pc [.ref (a 0), .int i1, .int i2] (fun U => WPre dC dI ct (MW a ct z g) sz U)) ((fun A => (va_Qi (fun (r : Int32) (u : V × VL) => Post r u.1 u.2) (fun (u : V × VL) t => WPos dC dI ct (MW a ct u.1 u.2) A t) A)) (va_A (MW a ct z g) sz)) 0 0 (va_A (MW a ct z g) sz) := by
  refine open_W (fun A => (va_Qi (fun (r : Int32) (u : V × VL) => Post r u.1 u.2) (fun (u : V × VL) t => WPos dC dI ct (MW a ct u.1 u.2) A t) A)) (by decide) (Nat.le_of_ble_eq_true rfl) ?_
  intro p e s m args below meth c ls A X hD0 hP hS hl
  have X0 := X
  obtain ⟨⟨hx, hb, hml, hr, hlk, hown, hts⟩, hA, hK, hN⟩ := X0
  have hD : ∀ (z' : V) (g' : VL), va_D A (MW a ct z' g') := fun z' g' => va_D_addr hD0 rfl
  have hl : lv_has ls 3 [(0, .ref (a 0)), (1, .int i1), (2, .int i2)] := hl
  unfold wp_X2_toldOfOne at w
  have hS0 := hS
  refine lv_iload_n hx hb dX2_toldOfOne_0 rfl (lv_at hl 2 rfl) ?_
  refine lv_iconst (v := 3) hx hb dX2_toldOfOne_1 (by decide) ?_
  refine lv_icmp_ge (tgt := 14) hx hb dX2_toldOfOne_2 (by decide) (fun c => ?_) (fun c => ?_)
  · have w := And.left w c
    refine lv_bipush (v := -2) hx hb dX2_toldOfOne_14 (by decide) ?_
    exact wk_X2_toldOfOne_L16 X hD  _ _ _ w _ _ _ hP hS (lv_sub hl [] rfl)
  · have w := And.right w c
    refine lv_aload_n hx hb dX2_toldOfOne_5 rfl (lv_at hl 0 rfl) ?_
    refine lv_iload_n hx hb dX2_toldOfOne_6 rfl (lv_at hl 1 rfl) ?_
    refine lv_iload_n hx hb dX2_toldOfOne_7 rfl (lv_at hl 2 rfl) ?_
    refine va_calli (va_runV (As := [.int i1, .int i2]) (rest := []) ⟨hx, hb, hml, hown, hts⟩ (met_X2_ofOne l dC dI ct a _ w) (cwV 2 hts (lw_V q716 q718 qs32 q51 q719) rfl rfl rfl hd_X2_ofOne ⟨Nat.le_of_ble_eq_true rfl, Nat.le_of_ble_eq_true rfl⟩) (pre_V hK hP (hD _ _) hN (va_recv hK hP (ci := 2) (q0 := 0) rfl rfl)) rfl rfl hl.1 rfl (lv_room (Nat.le_of_ble_eq_true rfl)) dX2_toldOfOne_8 ⟨Nat.le_refl _, Nat.le_refl _⟩) hS (fun q _ h => x_free (hD _ _) hS hA q h) (x_free (hD _ _) hS hA) (fun r1 u t H locs ht hvm w hB hz hk hS => ?_)
    obtain ⟨z_1, g_1⟩ := u
    dsimp only at w
    have hP : va_P (dC, dI) vwCl (MW a ct z_1 g_1) H := post_P hB ht
    refine lv_goto (tgt := 16) hx hb dX2_toldOfOne_11 (by decide) ?_
    exact wk_X2_toldOfOne_L16 X hD  _ _ _ w _ _ _ hP hS (lv_sub hl [] rfl)
abbrev rm_X2_toldOfAll : Room := { frames := 2, cells := 0, slots := 0, locals := 44 }
theorem hd_X2_toldOfAll : yX2_toldOfAll.cls = RX2 ∧ yX2_toldOfAll.cls ≠ "java/lang/invoke/MethodHandle" ∧ yX2_toldOfAll.cls ≠ "java/lang/invoke/VarHandle" ∧ (parseMethodDescriptor yX2_toldOfAll.desc).map (fun d => d.parameters.length) = some 1 := by decide +kernel
set_option maxHeartbeats 4000000 in
set_option maxRecDepth 100000 in
theorem met_X2_toldOfAll (l : Launch) (dC : Nat → ClassId) (dI : Nat → Nat → Nat) (ct : Nat → ClassId) (a : Nat → Nat) (sz : Nat) {i1 : Int32} {z : V} {g : VL} {Post : Int32 → V → VL → Prop} (w : wp_X2_toldOfAll i1 z g Post) : Met l yX2_toldOfAll (ws_ yX2_toldOfAll cX2_toldOfAll 2 (some .int)) rm_X2_toldOfAll (va_Pc [.ref (a 0), .int i1] (fun U => WPre dC dI ct (MW a ct z g) sz U)) ((fun A => (va_Qi (fun (r : Int32) (u : V × VL) => Post r u.1 u.2) (fun (u : V × VL) t => WPos dC dI ct (MW a ct u.1 u.2) A t) A)) (va_A (MW a ct z g) sz)) 0 0 (va_A (MW a ct z g) sz) := by
  refine open_W (fun A => (va_Qi (fun (r : Int32) (u : V × VL) => Post r u.1 u.2) (fun (u : V × VL) t => WPos dC dI ct (MW a ct u.1 u.2) A t) A)) (by decide) (Nat.le_of_ble_eq_true rfl) ?_
  intro p e s m args below meth c ls A X hD0 hP hS hl
  have X0 := X
  obtain ⟨⟨hx, hb, hml, hr, hlk, hown, hts⟩, hA, hK, hN⟩ := X0
  have hD : ∀ (z' : V) (g' : VL), va_D A (MW a ct z' g') := fun z' g' => va_D_addr hD0 rfl
  have hl : lv_has ls 2 [(0, .ref (a 0)), (1, .int i1)] := hl
  unfold wp_X2_toldOfAll at w
  have hS0 := hS
  refine lv_iload_n hx hb dX2_toldOfAll_0 rfl (lv_at hl 1 rfl) ?_
  by_cases c1_0 : i1 = 0
  · have w := And.left w c1_0
    refine lv_tableIn (tgt := 52) hx hb dX2_toldOfAll_1 (by rw [c1_0]; decide) (by rw [c1_0]; decide) (by rw [c1_0]; rfl) (by decide) ?_
    refine lv_aload_n hx hb dX2_toldOfAll_52 rfl (lv_at hl 0 rfl) ?_
    refine va_get (D := (dC, dI)) (ci := 2) (v := .int (z 19 5)) (C := RX2) (T := TX2) (N := 34) hx hb hts in_X2 hown hK hP 0 rfl rfl 14 (by decide) (hts _ q472) (fun _ h9 => h9) rfl dX2_toldOfAll_53 ?_
    exact W.iret (v := (z 19 5)) hx hb hr (fun t ht hW => ⟨⟨(z 19 5), (z, g), rfl, w, by rw [ht]; exact hP, va_K.moved hW.alike hK, (hD _ _)⟩, hS.F ht⟩) hS.2.2 dX2_toldOfAll_56 hlk
  have w := And.right w c1_0
  by_cases c1_1 : i1 = 1
  · have w := And.left w c1_1
    refine lv_tableIn (tgt := 57) hx hb dX2_toldOfAll_1 (by rw [c1_1]; decide) (by rw [c1_1]; decide) (by rw [c1_1]; rfl) (by decide) ?_
    refine lv_aload_n hx hb dX2_toldOfAll_57 rfl (lv_at hl 0 rfl) ?_
    refine va_get (D := (dC, dI)) (ci := 2) (v := .int (z 19 0)) (C := RX2) (T := TX2) (N := 34) hx hb hts in_X2 hown hK hP 0 rfl rfl 5 (by decide) (hts _ q463) (fun _ h9 => h9) rfl dX2_toldOfAll_58 ?_
    exact W.iret (v := (z 19 0)) hx hb hr (fun t ht hW => ⟨⟨(z 19 0), (z, g), rfl, w, by rw [ht]; exact hP, va_K.moved hW.alike hK, (hD _ _)⟩, hS.F ht⟩) hS.2.2 dX2_toldOfAll_61 hlk
  have w := And.right w c1_1
  by_cases c1_2 : i1 = 2
  · have w := And.left w c1_2
    refine lv_tableIn (tgt := 62) hx hb dX2_toldOfAll_1 (by rw [c1_2]; decide) (by rw [c1_2]; decide) (by rw [c1_2]; rfl) (by decide) ?_
    refine lv_aload_n hx hb dX2_toldOfAll_62 rfl (lv_at hl 0 rfl) ?_
    refine va_get (D := (dC, dI)) (ci := 2) (v := .int (z 19 1)) (C := RX2) (T := TX2) (N := 34) hx hb hts in_X2 hown hK hP 0 rfl rfl 6 (by decide) (hts _ q464) (fun _ h9 => h9) rfl dX2_toldOfAll_63 ?_
    exact W.iret (v := (z 19 1)) hx hb hr (fun t ht hW => ⟨⟨(z 19 1), (z, g), rfl, w, by rw [ht]; exact hP, va_K.moved hW.alike hK, (hD _ _)⟩, hS.F ht⟩) hS.2.2 dX2_toldOfAll_66 hlk
  have w := And.right w c1_2
  by_cases c1_3 : i1 = 3
  · have w := And.left w c1_3
    refine lv_tableIn (tgt := 67) hx hb dX2_toldOfAll_1 (by rw [c1_3]; decide) (by rw [c1_3]; decide) (by rw [c1_3]; rfl) (by decide) ?_
    refine lv_aload_n hx hb dX2_toldOfAll_67 rfl (lv_at hl 0 rfl) ?_
    refine va_get (D := (dC, dI)) (ci := 2) (v := .int (z 19 2)) (C := RX2) (T := TX2) (N := 34) hx hb hts in_X2 hown hK hP 0 rfl rfl 7 (by decide) (hts _ q465) (fun _ h9 => h9) rfl dX2_toldOfAll_68 ?_
    exact W.iret (v := (z 19 2)) hx hb hr (fun t ht hW => ⟨⟨(z 19 2), (z, g), rfl, w, by rw [ht]; exact hP, va_K.moved hW.alike hK, (hD _ _)⟩, hS.F ht⟩) hS.2.2 dX2_toldOfAll_71 hlk
  have w := And.right w c1_3
  by_cases c1_4 : i1 = 4
  · have w := And.left w c1_4
    refine lv_tableIn (tgt := 72) hx hb dX2_toldOfAll_1 (by rw [c1_4]; decide) (by rw [c1_4]; decide) (by rw [c1_4]; rfl) (by decide) ?_
    refine lv_aload_n hx hb dX2_toldOfAll_72 rfl (lv_at hl 0 rfl) ?_
    refine va_get (D := (dC, dI)) (ci := 2) (v := .int (z 19 3)) (C := RX2) (T := TX2) (N := 34) hx hb hts in_X2 hown hK hP 0 rfl rfl 8 (by decide) (hts _ q466) (fun _ h9 => h9) rfl dX2_toldOfAll_73 ?_
    exact W.iret (v := (z 19 3)) hx hb hr (fun t ht hW => ⟨⟨(z 19 3), (z, g), rfl, w, by rw [ht]; exact hP, va_K.moved hW.alike hK, (hD _ _)⟩, hS.F ht⟩) hS.2.2 dX2_toldOfAll_76 hlk
  have w := And.right w c1_4
  by_cases c1_5 : i1 = 5
  · have w := And.left w c1_5
    refine lv_tableIn (tgt := 77) hx hb dX2_toldOfAll_1 (by rw [c1_5]; decide) (by rw [c1_5]; decide) (by rw [c1_5]; rfl) (by decide) ?_
    refine lv_aload_n hx hb dX2_toldOfAll_77 rfl (lv_at hl 0 rfl) ?_
    refine va_get (D := (dC, dI)) (ci := 2) (v := .int (z 19 4)) (C := RX2) (T := TX2) (N := 34) hx hb hts in_X2 hown hK hP 0 rfl rfl 12 (by decide) (hts _ q470) (fun _ h9 => h9) rfl dX2_toldOfAll_78 ?_
    exact W.iret (v := (z 19 4)) hx hb hr (fun t ht hW => ⟨⟨(z 19 4), (z, g), rfl, w, by rw [ht]; exact hP, va_K.moved hW.alike hK, (hD _ _)⟩, hS.F ht⟩) hS.2.2 dX2_toldOfAll_81 hlk
  have w := And.right w c1_5
  by_cases c1_6 : i1 = 6
  · have w := And.left w c1_6
    refine lv_tableIn (tgt := 82) hx hb dX2_toldOfAll_1 (by rw [c1_6]; decide) (by rw [c1_6]; decide) (by rw [c1_6]; rfl) (by decide) ?_
    refine lv_aload_n hx hb dX2_toldOfAll_82 rfl (lv_at hl 0 rfl) ?_
    refine va_calli (va_runV (As := []) (rest := []) ⟨hx, hb, hml, hown, hts⟩ (met_X2_notes l dC dI ct a _ w) (cwV 0 hts (lw_V q675 q677 qs24 q51 q678) rfl rfl rfl hd_X2_notes ⟨Nat.le_of_ble_eq_true rfl, Nat.le_of_ble_eq_true rfl⟩) (pre_V hK hP (hD _ _) hN (va_recv hK hP (ci := 2) (q0 := 0) rfl rfl)) rfl rfl hl.1 rfl (lv_room (Nat.le_of_ble_eq_true rfl)) dX2_toldOfAll_83 ⟨Nat.le_refl _, Nat.le_refl _⟩) hS (fun q _ h => x_free (hD _ _) hS hA q h) (x_free (hD _ _) hS hA) (fun r2 u t H locs ht hvm w hB hz hk hS => ?_)
    obtain ⟨z_2, g_2⟩ := u
    dsimp only at w
    have hP : va_P (dC, dI) vwCl (MW a ct z_2 g_2) H := post_P hB ht
    exact W.iret (v := r2) hx hb hr (fun t ht hW => ⟨⟨r2, (z_2, g_2), rfl, w, by rw [ht]; exact hP, va_K.moved hW.alike hK, (hD _ _)⟩, hS.F ht⟩) hS.2.2 dX2_toldOfAll_86 hlk
  have w := And.right w c1_6
  by_cases c1_7 : i1 = 7
  · have w := And.left w c1_7
    refine lv_tableIn (tgt := 87) hx hb dX2_toldOfAll_1 (by rw [c1_7]; decide) (by rw [c1_7]; decide) (by rw [c1_7]; rfl) (by decide) ?_
    refine lv_aload_n hx hb dX2_toldOfAll_87 rfl (lv_at hl 0 rfl) ?_
    refine va_calli (va_runV (As := []) (rest := []) ⟨hx, hb, hml, hown, hts⟩ (met_X2_land l dC dI ct a _ w) (cwV 0 hts (lw_V q671 q673 qs23 q51 q674) rfl rfl rfl hd_X2_land ⟨Nat.le_of_ble_eq_true rfl, Nat.le_of_ble_eq_true rfl⟩) (pre_V hK hP (hD _ _) hN (va_recv hK hP (ci := 2) (q0 := 0) rfl rfl)) rfl rfl hl.1 rfl (lv_room (Nat.le_of_ble_eq_true rfl)) dX2_toldOfAll_88 ⟨Nat.le_refl _, Nat.le_refl _⟩) hS (fun q _ h => x_free (hD _ _) hS hA q h) (x_free (hD _ _) hS hA) (fun r3 u t H locs ht hvm w hB hz hk hS => ?_)
    obtain ⟨z_3, g_3⟩ := u
    dsimp only at w
    have hP : va_P (dC, dI) vwCl (MW a ct z_3 g_3) H := post_P hB ht
    exact W.iret (v := r3) hx hb hr (fun t ht hW => ⟨⟨r3, (z_3, g_3), rfl, w, by rw [ht]; exact hP, va_K.moved hW.alike hK, (hD _ _)⟩, hS.F ht⟩) hS.2.2 dX2_toldOfAll_91 hlk
  have w := And.right w c1_7
  by_cases c1_8 : i1 = 8
  · have w := And.left w c1_8
    refine lv_tableIn (tgt := 92) hx hb dX2_toldOfAll_1 (by rw [c1_8]; decide) (by rw [c1_8]; decide) (by rw [c1_8]; rfl) (by decide) ?_
    refine lv_aload_n hx hb dX2_toldOfAll_92 rfl (lv_at hl 0 rfl) ?_
    refine va_calli (va_runV (As := []) (rest := []) ⟨hx, hb, hml, hown, hts⟩ (met_X2_rate l dC dI ct a _ w) (cwV 0 hts (lw_V q667 q669 qs22 q51 q670) rfl rfl rfl hd_X2_rate ⟨Nat.le_of_ble_eq_true rfl, Nat.le_of_ble_eq_true rfl⟩) (pre_V hK hP (hD _ _) hN (va_recv hK hP (ci := 2) (q0 := 0) rfl rfl)) rfl rfl hl.1 rfl (lv_room (Nat.le_of_ble_eq_true rfl)) dX2_toldOfAll_93 ⟨Nat.le_refl _, Nat.le_refl _⟩) hS (fun q _ h => x_free (hD _ _) hS hA q h) (x_free (hD _ _) hS hA) (fun r4 u t H locs ht hvm w hB hz hk hS => ?_)
    obtain ⟨z_4, g_4⟩ := u
    dsimp only at w
    have hP : va_P (dC, dI) vwCl (MW a ct z_4 g_4) H := post_P hB ht
    exact W.iret (v := r4) hx hb hr (fun t ht hW => ⟨⟨r4, (z_4, g_4), rfl, w, by rw [ht]; exact hP, va_K.moved hW.alike hK, (hD _ _)⟩, hS.F ht⟩) hS.2.2 dX2_toldOfAll_96 hlk
  have w := And.right w c1_8
  refine lv_tableOut (tgt := 97) hx hb dX2_toldOfAll_1 (by have h0 := lv_neT c1_0 (a := 0) (by decide); have h1 := lv_neT c1_1 (a := 1) (by decide); have h2 := lv_neT c1_2 (a := 2) (by decide); have h3 := lv_neT c1_3 (a := 3) (by decide); have h4 := lv_neT c1_4 (a := 4) (by decide); have h5 := lv_neT c1_5 (a := 5) (by decide); have h6 := lv_neT c1_6 (a := 6) (by decide); have h7 := lv_neT c1_7 (a := 7) (by decide); have h8 := lv_neT c1_8 (a := 8) (by decide); omega) (by decide) ?_
  refine lv_bipush (v := -2) hx hb dX2_toldOfAll_97 (by decide) ?_
  exact W.iret (v := (-2 : Int32)) hx hb hr (fun t ht hW => ⟨⟨(-2 : Int32), (z, g), rfl, w, by rw [ht]; exact hP, va_K.moved hW.alike hK, (hD _ _)⟩, hS.F ht⟩) hS.2.2 dX2_toldOfAll_99 hlk
abbrev rm_X2_told : Room := { frames := 3, cells := 0, slots := 0, locals := 67 }
theorem hd_X2_told : yX2_told.cls = RX2 ∧ yX2_told.cls ≠ "java/lang/invoke/MethodHandle" ∧ yX2_told.cls ≠ "java/lang/invoke/VarHandle" ∧ (parseMethodDescriptor yX2_told.desc).map (fun d => d.parameters.length) = some 1 := by decide +kernel
set_option maxHeartbeats 4000000 in
set_option maxRecDepth 100000 in
theorem wk_X2_told_L49 {p : Program} {l : Launch} {e : Env} {s : State} {m : MethodId} {args : Array Value} {below : List Frame} {meth : Method} {c : Code} {dC : Nat → ClassId} {dI : Nat → Nat → Nat} {ct : Nat → ClassId} {A : Nat → Prop} {a : Nat → Nat} {Post : Int32 → V → VL → Prop}   (X : CxW p s m args meth c cX2_told 3 (some .int) RX2 dC dI ct A) (hD : ∀ (z : V) (g : VL), va_D A (MW a ct z g))  (is0 : Int32) (z : V) (g : VL) (w : wp_X2_told_L49  Post  is0 z g) : ∀ (H : Heap) (locs : List Loc) (ls : Array Slot), va_P (dC, dI) vwCl (MW a ct z g) H → va_S A s.heap H locs → lv_has ls 3 [] → W p l e rm_X2_told s m args below meth c H locs 0 0 (MQ below (va_Qi (fun (r : Int32) (u : V × VL) => Post r u.1 u.2) (fun (u : V × VL) t => WPos dC dI ct (MW a ct u.1 u.2) A t) A) args s 0 0 A) (F0 m 49 ls [.int is0]) := by
  intro H locs ls hP hS hl
  have X0 := X
  obtain ⟨⟨hx, hb, hml, hr, hlk, hown, hts⟩, hA, hK, hN⟩ := X0
  unfold wp_X2_told_L49 at w
  exact W.iret (v := is0) hx hb hr (fun t ht hW => ⟨⟨is0, (z, g), rfl, w, by rw [ht]; exact hP, va_K.moved hW.alike hK, (hD _ _)⟩, hS.F ht⟩) hS.2.2 dX2_told_49 hlk
set_option maxHeartbeats 4000000 in
set_option maxRecDepth 100000 in
theorem wk_X2_told_L107 {p : Program} {l : Launch} {e : Env} {s : State} {m : MethodId} {args : Array Value} {below : List Frame} {meth : Method} {c : Code} {dC : Nat → ClassId} {dI : Nat → Nat → Nat} {ct : Nat → ClassId} {A : Nat → Prop} {a : Nat → Nat} {Post : Int32 → V → VL → Prop}   (X : CxW p s m args meth c cX2_told 3 (some .int) RX2 dC dI ct A) (hD : ∀ (z : V) (g : VL), va_D A (MW a ct z g))  (is0 : Int32) (z : V) (g : VL) (w : wp_X2_told_L107  Post  is0 z g) : ∀ (H : Heap) (locs : List Loc) (ls : Array Slot), va_P (dC, dI) vwCl (MW a ct z g) H → va_S A s.heap H locs → lv_has ls 3 [] → W p l e rm_X2_told s m args below meth c H locs 0 0 (MQ below (va_Qi (fun (r : Int32) (u : V × VL) => Post r u.1 u.2) (fun (u : V × VL) t => WPos dC dI ct (MW a ct u.1 u.2) A t) A) args s 0 0 A) (F0 m 107 ls [.int is0]) := by
  intro H locs ls hP hS hl
  have X0 := X
  obtain ⟨⟨hx, hb, hml, hr, hlk, hown, hts⟩, hA, hK, hN⟩ := X0
  unfold wp_X2_told_L107 at w
  exact W.iret (v := is0) hx hb hr (fun t ht hW => ⟨⟨is0, (z, g), rfl, w, by rw [ht]; exact hP, va_K.moved hW.alike hK, (hD _ _)⟩, hS.F ht⟩) hS.2.2 dX2_told_107 hlk
set_option maxHeartbeats 4000000 in
set_option maxRecDepth 100000 in
theorem wk_X2_told_L144 {p : Program} {l : Launch} {e : Env} {s : State} {m : MethodId} {args : Array Value} {below : List Frame} {meth : Method} {c : Code} {dC : Nat → ClassId} {dI : Nat → Nat → Nat} {ct : Nat → ClassId} {A : Nat → Prop} {a : Nat → Nat} {Post : Int32 → V → VL → Prop}   (X : CxW p s m args meth c cX2_told 3 (some .int) RX2 dC dI ct A) (hD : ∀ (z : V) (g : VL), va_D A (MW a ct z g))  (is0 : Int32) (z : V) (g : VL) (w : wp_X2_told_L144  Post  is0 z g) : ∀ (H : Heap) (locs : List Loc) (ls : Array Slot), va_P (dC, dI) vwCl (MW a ct z g) H → va_S A s.heap H locs → lv_has ls 3 [] → W p l e rm_X2_told s m args below meth c H locs 0 0 (MQ below (va_Qi (fun (r : Int32) (u : V × VL) => Post r u.1 u.2) (fun (u : V × VL) t => WPos dC dI ct (MW a ct u.1 u.2) A t) A) args s 0 0 A) (F0 m 144 ls [.int is0]) := by
  intro H locs ls hP hS hl
  have X0 := X
  obtain ⟨⟨hx, hb, hml, hr, hlk, hown, hts⟩, hA, hK, hN⟩ := X0
  unfold wp_X2_told_L144 at w
  exact W.iret (v := is0) hx hb hr (fun t ht hW => ⟨⟨is0, (z, g), rfl, w, by rw [ht]; exact hP, va_K.moved hW.alike hK, (hD _ _)⟩, hS.F ht⟩) hS.2.2 dX2_told_144 hlk
set_option maxHeartbeats 4000000 in
set_option maxRecDepth 100000 in
theorem met_X2_told (l : Launch) (dC : Nat → ClassId) (dI : Nat → Nat → Nat) (ct : Nat → ClassId) (a : Nat → Nat) (sz : Nat) {i1 : Int32} {z : V} {g : VL} {Post : Int32 → V → VL → Prop} (w : wp_X2_told i1 z g Post) : Met l yX2_told (ws_ yX2_told cX2_told 3 (some .int)) rm_X2_told (va_Pc [.ref (a 0), .int i1] (fun U => WPre dC dI ct (MW a ct z g) sz U)) ((fun A => (va_Qi (fun (r : Int32) (u : V × VL) => Post r u.1 u.2) (fun (u : V × VL) t => WPos dC dI ct (MW a ct u.1 u.2) A t) A)) (va_A (MW a ct z g) sz)) 0 0 (va_A (MW a ct z g) sz) := by
  refine open_W (fun A => (va_Qi (fun (r : Int32) (u : V × VL) => Post r u.1 u.2) (fun (u : V × VL) t => WPos dC dI ct (MW a ct u.1 u.2) A t) A)) (by decide) (Nat.le_of_ble_eq_true rfl) ?_
  intro p e s m args below meth c ls A X hD0 hP hS hl
  have X0 := X
  obtain ⟨⟨hx, hb, hml, hr, hlk, hown, hts⟩, hA, hK, hN⟩ := X0
  have hD : ∀ (z' : V) (g' : VL), va_D A (MW a ct z' g') := fun z' g' => va_D_addr hD0 rfl
  have hl : lv_has ls 3 [(0, .ref (a 0)), (1, .int i1)] := hl
  unfold wp_X2_told at w
  have hS0 := hS
  refine lv_iload_n hx hb dX2_told_0 rfl (lv_at hl 1 rfl) ?_
  refine lv_i2l hx hb dX2_told_1 rfl ?_
  refine lv_ldc2 (v := 200) hx hb hown (hts _ q863) dX2_told_2 ?_
  refine lv_ldc2 (v := 259) hx hb hown (hts _ q864) dX2_told_5 ?_
  refine vp_callSi (W.runS (As := [.long i1.toInt64, .long (200 : Int64), .long (259 : Int64)]) (rest := []) ⟨hx, hb, hml, hown, hts⟩ (met_X2_in l w) (va_cwS 3 hts (lw_S q570 q571 q51 q572) rfl rfl rfl hd_X2_in ⟨Nat.le_of_ble_eq_true rfl, Nat.le_of_ble_eq_true rfl⟩) pre_S rfl rfl hl.1 rfl (lv_room (Nat.le_of_ble_eq_true rfl)) dX2_told_8 ⟨Nat.le_refl _, Nat.le_refl _⟩) (fun r1 w => ?_)
  refine lv_if_eq (tgt := 50) hx hb dX2_told_11 (by decide) (fun c => ?_) (fun c => ?_)
  · have w := And.left w c
    refine lv_iload_n hx hb dX2_told_50 rfl (lv_at hl 1 rfl) ?_
    refine lv_i2l hx hb dX2_told_51 rfl ?_
    refine lv_ldc2 (v := 100) hx hb hown (hts _ q682) dX2_told_52 ?_
    refine lv_ldc2 (v := 179) hx hb hown (hts _ q865) dX2_told_55 ?_
    refine vp_callSi (W.runS (As := [.long i1.toInt64, .long (100 : Int64), .long (179 : Int64)]) (rest := []) ⟨hx, hb, hml, hown, hts⟩ (met_X2_in l w) (va_cwS 3 hts (lw_S q570 q571 q51 q572) rfl rfl rfl hd_X2_in ⟨Nat.le_of_ble_eq_true rfl, Nat.le_of_ble_eq_true rfl⟩) pre_S rfl rfl hl.1 rfl (lv_room (Nat.le_of_ble_eq_true rfl)) dX2_told_58 ⟨Nat.le_refl _, Nat.le_refl _⟩) (fun r2 w => ?_)
    refine lv_if_eq (tgt := 108) hx hb dX2_told_61 (by decide) (fun c => ?_) (fun c => ?_)
    · have w := And.left w c
      refine lv_iload_n hx hb dX2_told_108 rfl (lv_at hl 1 rfl) ?_
      refine lv_i2l hx hb dX2_told_109 rfl ?_
      refine lv_ldc2 (v := 10) hx hb hown (hts _ q784) dX2_told_110 ?_
      refine lv_ldc2 (v := 69) hx hb hown (hts _ q866) dX2_told_113 ?_
      refine vp_callSi (W.runS (As := [.long i1.toInt64, .long (10 : Int64), .long (69 : Int64)]) (rest := []) ⟨hx, hb, hml, hown, hts⟩ (met_X2_in l w) (va_cwS 3 hts (lw_S q570 q571 q51 q572) rfl rfl rfl hd_X2_in ⟨Nat.le_of_ble_eq_true rfl, Nat.le_of_ble_eq_true rfl⟩) pre_S rfl rfl hl.1 rfl (lv_room (Nat.le_of_ble_eq_true rfl)) dX2_told_116 ⟨Nat.le_refl _, Nat.le_refl _⟩) (fun r3 w => ?_)
      refine lv_if_eq (tgt := 139) hx hb dX2_told_119 (by decide) (fun c => ?_) (fun c => ?_)
      · have w := And.left w c
        refine lv_aload_n hx hb dX2_told_139 rfl (lv_at hl 0 rfl) ?_
        refine lv_iload_n hx hb dX2_told_140 rfl (lv_at hl 1 rfl) ?_
        refine va_calli (va_runV (As := [.int i1]) (rest := []) ⟨hx, hb, hml, hown, hts⟩ (met_X2_toldOfAll l dC dI ct a _ w) (cwV 1 hts (lw_V q871 q873 qs46 q51 q874) rfl rfl rfl hd_X2_toldOfAll ⟨Nat.le_of_ble_eq_true rfl, Nat.le_of_ble_eq_true rfl⟩) (pre_V hK hP (hD _ _) hN (va_recv hK hP (ci := 2) (q0 := 0) rfl rfl)) rfl rfl hl.1 rfl (lv_room (Nat.le_of_ble_eq_true rfl)) dX2_told_141 ⟨Nat.le_refl _, Nat.le_refl _⟩) hS (fun q _ h => x_free (hD _ _) hS hA q h) (x_free (hD _ _) hS hA) (fun r4 u t H locs ht hvm w hB hz hk hS => ?_)
        obtain ⟨z_4, g_4⟩ := u
        dsimp only at w
        have hP : va_P (dC, dI) vwCl (MW a ct z_4 g_4) H := post_P hB ht
        exact wk_X2_told_L144 X hD  _ _ _ w _ _ _ hP hS (lv_sub hl [] rfl)
      · have w := And.right w c
        refine lv_aload_n hx hb dX2_told_122 rfl (lv_at hl 0 rfl) ?_
        refine lv_iload_n hx hb dX2_told_123 rfl (lv_at hl 1 rfl) ?_
        refine lv_bipush (v := 10) hx hb dX2_told_124 (by decide) ?_
        refine lv_idiv hx hb dX2_told_126 (by decide) ?_
        refine lv_iconst (v := 1) hx hb dX2_told_127 (by decide) ?_
        refine lv_isub hx hb dX2_told_128 ?_
        refine lv_iload_n hx hb dX2_told_129 rfl (lv_at hl 1 rfl) ?_
        refine lv_bipush (v := 10) hx hb dX2_told_130 (by decide) ?_
        refine lv_irem hx hb dX2_told_132 (by decide) ?_
        refine va_calli (va_runV (As := [.int ((i1 / (10 : Int32)) - (1 : Int32)), .int (i1 - i1 / (10 : Int32) * (10 : Int32))]) (rest := []) ⟨hx, hb, hml, hown, hts⟩ (met_X2_toldOfOne l dC dI ct a _ w) (cwV 2 hts (lw_V q867 q869 qs45 q51 q870) rfl rfl rfl hd_X2_toldOfOne ⟨Nat.le_of_ble_eq_true rfl, Nat.le_of_ble_eq_true rfl⟩) (pre_V hK hP (hD _ _) hN (va_recv hK hP (ci := 2) (q0 := 0) rfl rfl)) rfl rfl hl.1 rfl (lv_room (Nat.le_of_ble_eq_true rfl)) dX2_told_133 ⟨Nat.le_refl _, Nat.le_refl _⟩) hS (fun q _ h => x_free (hD _ _) hS hA q h) (x_free (hD _ _) hS hA) (fun r5 u t H locs ht hvm w hB hz hk hS => ?_)
        obtain ⟨z_5, g_5⟩ := u
        dsimp only at w
        have hP : va_P (dC, dI) vwCl (MW a ct z_5 g_5) H := post_P hB ht
        refine lv_goto (tgt := 144) hx hb dX2_told_136 (by decide) ?_
        exact wk_X2_told_L144 X hD  _ _ _ w _ _ _ hP hS (lv_sub hl [] rfl)
    · have w := And.right w c
      refine lv_iload_n hx hb dX2_told_64 rfl (lv_at hl 1 rfl) ?_
      refine lv_bipush (v := 100) hx hb dX2_told_65 (by decide) ?_
      refine lv_isub hx hb dX2_told_67 ?_
      refine lv_bipush (v := 10) hx hb dX2_told_68 (by decide) ?_
      refine lv_idiv hx hb dX2_told_70 (by decide) ?_
      refine lv_istore_n (lv' := [(2, .int ((i1 - (100 : Int32)) / (10 : Int32))), (0, .ref (a 0)), (1, .int i1)]) hx hb dX2_told_71 rfl hl (by decide) rfl (fun ls hl => ?_)
      refine lv_iload_n hx hb dX2_told_72 rfl (lv_at hl 2 rfl) ?_
      refine lv_bipush (v := 10) hx hb dX2_told_73 (by decide) ?_
      refine lv_irem hx hb dX2_told_75 (by decide) ?_
      refine lv_if_ne (tgt := 88) hx hb dX2_told_76 (by decide) (fun c => ?_) (fun c => ?_)
      · have w := And.right w c
        refine lv_iload_n hx hb dX2_told_88 rfl (lv_at hl 2 rfl) ?_
        refine lv_bipush (v := 10) hx hb dX2_told_89 (by decide) ?_
        refine lv_irem hx hb dX2_told_91 (by decide) ?_
        refine lv_iconst (v := 1) hx hb dX2_told_92 (by decide) ?_
        refine lv_icmp_ne (tgt := 105) hx hb dX2_told_93 (by decide) (fun c => ?_) (fun c => ?_)
        · have w := And.right w c
          refine lv_bipush (v := -2) hx hb dX2_told_105 (by decide) ?_
          exact wk_X2_told_L107 X hD  _ _ _ w _ _ _ hP hS (lv_sub hl [] rfl)
        · have w := And.left w c
          refine lv_aload_n hx hb dX2_told_96 rfl (lv_at hl 1 rfl) ?_
          refine va_get (D := (dC, dI)) (ci := 2) (v := .ref (a 5)) (C := RX2) (T := TX2) (N := 34) hx hb hts in_X2 hown hK hP 0 rfl rfl 4 (by decide) (hts _ q462) (fun _ h9 => h9) rfl dX2_told_97 ?_
          refine lv_iload_n hx hb dX2_told_100 rfl (lv_at hl 0 rfl) ?_
          obtain ⟨gi, w⟩ := w
          refine va_iald hx hb hK hP 5 0 rfl rfl gi dX2_told_101 ?_
          refine lv_goto (tgt := 107) hx hb dX2_told_102 (by decide) ?_
          exact wk_X2_told_L107 X hD  _ _ _ w _ _ _ hP hS (lv_sub hl [] rfl)
      · have w := And.left w c
        refine lv_aload_n hx hb dX2_told_79 rfl (lv_at hl 1 rfl) ?_
        refine va_get (D := (dC, dI)) (ci := 2) (v := .ref (a 4)) (C := RX2) (T := TX2) (N := 34) hx hb hts in_X2 hown hK hP 0 rfl rfl 3 (by decide) (hts _ q461) (fun _ h9 => h9) rfl dX2_told_80 ?_
        refine lv_iload_n hx hb dX2_told_83 rfl (lv_at hl 0 rfl) ?_
        obtain ⟨gi, w⟩ := w
        refine va_iald hx hb hK hP 4 0 rfl rfl gi dX2_told_84 ?_
        refine lv_goto (tgt := 107) hx hb dX2_told_85 (by decide) ?_
        exact wk_X2_told_L107 X hD  _ _ _ w _ _ _ hP hS (lv_sub hl [] rfl)
  · have w := And.right w c
    refine lv_iload_n hx hb dX2_told_14 rfl (lv_at hl 1 rfl) ?_
    refine lv_bipush (v := 10) hx hb dX2_told_15 (by decide) ?_
    refine lv_irem hx hb dX2_told_17 (by decide) ?_
    refine lv_bipush (v := 6) hx hb dX2_told_18 (by decide) ?_
    refine lv_icmp_ge (tgt := 47) hx hb dX2_told_20 (by decide) (fun c => ?_) (fun c => ?_)
    · have w := And.left w c
      refine lv_bipush (v := -2) hx hb dX2_told_47 (by decide) ?_
      exact wk_X2_told_L49 X hD  _ _ _ w _ _ _ hP hS (lv_sub hl [] rfl)
    · have w := And.right w c
      refine lv_aload_n hx hb dX2_told_23 rfl (lv_at hl 0 rfl) ?_
      refine va_get (D := (dC, dI)) (ci := 2) (v := .ref (a 3)) (C := RX2) (T := TX2) (N := 34) hx hb hts in_X2 hown hK hP 0 rfl rfl 2 (by decide) (hts _ q460) (fun _ h9 => h9) rfl dX2_told_24 ?_
      refine lv_bipush (v := 6) hx hb dX2_told_27 (by decide) ?_
      refine lv_iload_n hx hb dX2_told_29 rfl (lv_at hl 1 rfl) ?_
      refine lv_sipush (v := 200) hx hb dX2_told_30 (by decide) ?_
      refine lv_isub hx hb dX2_told_33 ?_
      refine lv_bipush (v := 10) hx hb dX2_told_34 (by decide) ?_
      refine lv_idiv hx hb dX2_told_36 (by decide) ?_
      refine lv_imul hx hb dX2_told_37 ?_
      refine lv_iload_n hx hb dX2_told_38 rfl (lv_at hl 1 rfl) ?_
      refine lv_bipush (v := 10) hx hb dX2_told_39 (by decide) ?_
      refine lv_irem hx hb dX2_told_41 (by decide) ?_
      refine lv_iadd hx hb dX2_told_42 ?_
      obtain ⟨gi, w⟩ := w
      refine va_iald hx hb hK hP 3 0 rfl rfl gi dX2_told_43 ?_
      refine lv_goto (tgt := 49) hx hb dX2_told_44 (by decide) ?_
      exact wk_X2_told_L49 X hD  _ _ _ w _ _ _ hP hS (lv_sub hl [] rfl)
