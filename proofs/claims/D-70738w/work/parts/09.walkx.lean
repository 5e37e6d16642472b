abbrev rm_X0_one : Room := { frames := 2, cells := 0, slots := 0, locals := 42 }
theorem hd_X0_one : yX0_one.cls = RX0 ∧ yX0_one.cls ≠ "java/lang/invoke/MethodHandle" ∧ yX0_one.cls ≠ "java/lang/invoke/VarHandle" ∧ (parseMethodDescriptor yX0_one.desc).map (fun d => d.parameters.length) = some 3 := by decide +kernel
set_option maxHeartbeats 4000000 in
set_option maxRecDepth 100000 in
theorem wk_X0_one_L31 {p : Program} {l : Launch} {e : Env} {s : State} {m : MethodId} {args : Array Value} {below : List Frame} {meth : Method} {c : Code} {dC : Nat → ClassId} {dI : Nat → Nat → Nat} {ct : Nat → ClassId} {A : Nat → Prop} {aX : Nat → Nat} {a0 : Nat → Nat} {a1 : Nat → Nat} {a2 : Nat → Nat} {a3 : Nat → Nat} {Post : Int32 → V → VL → V → V → V → V → Prop}   (X : CxW p s m args meth c cX0_one 5 (some .int) RX0 dC dI ct A) (hD : ∀ (x : V) (y : VL) (v0 : V) (v1 : V) (v2 : V) (v3 : V), va_D A (XW aX a0 a1 a2 a3 ct x y v0 v1 v2 v3))  (x : V) (y : VL) (v0 : V) (v1 : V) (v2 : V) (v3 : V) (w : wp_X0_one_L31  Post  x y v0 v1 v2 v3) : ∀ (H : Heap) (locs : List Loc) (ls : Array Slot), va_P (dC, dI) vwCl (XW aX a0 a1 a2 a3 ct x y v0 v1 v2 v3) H → va_S A s.heap H locs → lv_has ls 5 [] → W p l e rm_X0_one s m args below meth c H locs 0 0 (MQ below (va_Qi (fun (r : Int32) (u : V × VL × V × V × V × V) => Post r u.1 u.2.1 u.2.2.1 u.2.2.2.1 u.2.2.2.2.1 u.2.2.2.2.2) (fun (u : V × VL × V × V × V × V) t => WPos dC dI ct (XW aX a0 a1 a2 a3 ct u.1 u.2.1 u.2.2.1 u.2.2.2.1 u.2.2.2.2.1 u.2.2.2.2.2) A t) A) args s 0 0 A) (F0 m 31 ls []) := by
  intro H locs ls hP hS hl
  have X0 := X
  obtain ⟨⟨hx, hb, hml, hr, hlk, hown, hts⟩, hA, hK, hN⟩ := X0
  unfold wp_X0_one_L31 at w
  refine lv_bipush (v := -2) hx hb dX0_one_31 (by decide) ?_
  exact W.iret (v := (-2 : Int32)) hx hb hr (fun t ht hW => ⟨⟨(-2 : Int32), (x, y, v0, v1, v2, v3), rfl, w, by rw [ht]; exact hP, va_K.moved hW.alike hK, (hD _ _ _ _ _ _)⟩, hS.F ht⟩) hS.2.2 dX0_one_33 hlk
set_option maxHeartbeats 4000000 in
set_option maxRecDepth 100000 in
theorem met_X0_one (l : Launch) (dC : Nat → ClassId) (dI : Nat → Nat → Nat) (ct : Nat → ClassId) (aX : Nat → Nat) (a0 : Nat → Nat) (a1 : Nat → Nat) (a2 : Nat → Nat) (a3 : Nat → Nat) (sz : Nat) {i1 : Int32} {i2 : Int32} {i3 : Int32} {x : V} {y : VL} {v0 : V} {v1 : V} {v2 : V} {v3 : V} {Post : Int32 → V → VL → V → V → V → V → Prop} (w : wp_X0_one i1 i2 i3 x y v0 v1 v2 v3 Post) : Met l yX0_one (ws_ yX0_one cX0_one 5 (some .int)) rm_X0_one (va_Pc [.ref (aX 0), .int i1, .int i2, .int i3] (fun U => WPre dC dI ct (XW aX a0 a1 a2 a3 ct x y v0 v1 v2 v3) sz U)) ((fun A => (va_Qi (fun (r : Int32) (u : V × VL × V × V × V × V) => Post r u.1 u.2.1 u.2.2.1 u.2.2.2.1 u.2.2.2.2.1 u.2.2.2.2.2) (fun (u : V × VL × V × V × V × V) t => WPos dC dI ct (XW aX a0 a1 a2 a3 ct u.1 u.2.1 u.2.2.1 u.2.2.2.1 u.2.2.2.2.1 u.2.2.2.2.2) A t) A)) (va_A (XW aX a0 a1 a2 a3 ct x y v0 v1 v2 v3) sz)) 0 0 (va_A (XW aX a0 a1 a2 a3 ct x y v0 v1 v2 v3) sz) := by
  refine open_W (fun A => (va_Qi (fun (r : Int32) (u : V × VL × V × V × V × V) => Post r u.1 u.2.1 u.2.2.1 u.2.2.2.1 u.2.2.2.2.1 u.2.2.2.2.2) (fun (u : V × VL × V × V × V × V) t => WPos dC dI ct (XW aX a0 a1 a2 a3 ct u.1 u.2.1 u.2.2.1 u.2.2.2.1 u.2.2.2.2.1 u.2.2.2.2.2) A t) A)) (by decide) (Nat.le_of_ble_eq_true rfl) ?_
  intro p e s m args below meth c ls A X hD0 hP hS hl
  have X0 := X
  obtain ⟨⟨hx, hb, hml, hr, hlk, hown, hts⟩, hA, hK, hN⟩ := X0
  have hD : ∀ (x' : V) (y' : VL) (v0' : V) (v1' : V) (v2' : V) (v3' : V), va_D A (XW aX a0 a1 a2 a3 ct x' y' v0' v1' v2' v3') := fun x' y' v0' v1' v2' v3' => va_D_addr hD0 rfl
  have hl : lv_has ls 5 [(0, .ref (aX 0)), (1, .int i1), (2, .int i2), (3, .int i3)] := hl
  unfold wp_X0_one at w
  have hS0 := hS
  refine lv_iload_n hx hb dX0_one_0 rfl (lv_at hl 1 rfl) ?_
  refine vp_callSi (W.runS (As := [.int i1]) (rest := []) ⟨hx, hb, hml, hown, hts⟩ (met_X0_isOne l w) (va_cwS 1 hts (lw_S q177 q178 q48 q179) rfl rfl rfl hd_X0_isOne ⟨Nat.le_of_ble_eq_true rfl, Nat.le_of_ble_eq_true rfl⟩) pre_S rfl rfl hl.1 rfl (lv_room (Nat.le_of_ble_eq_true rfl)) dX0_one_1 ⟨Nat.le_refl _, Nat.le_refl _⟩) (fun r1 w => ?_)
  refine lv_if_ne (tgt := 9) hx hb dX0_one_4 (by decide) (fun c => ?_) (fun c => ?_)
  · have w := And.right w c
    refine lv_iload_n hx hb dX0_one_9 rfl (lv_at hl 2 rfl) ?_
    refine lv_iconst (v := 0) hx hb dX0_one_10 (by decide) ?_
    refine lv_sipush (v := 9999) hx hb dX0_one_11 (by decide) ?_
    refine vp_callSi (W.runS (As := [.int i2, .int (0 : Int32), .int (9999 : Int32)]) (rest := []) ⟨hx, hb, hml, hown, hts⟩ (met_X0_isIn l w) (va_cwS 3 hts (lw_S q180 q181 q48 q182) rfl rfl rfl hd_X0_isIn ⟨Nat.le_of_ble_eq_true rfl, Nat.le_of_ble_eq_true rfl⟩) pre_S rfl rfl hl.1 rfl (lv_room (Nat.le_of_ble_eq_true rfl)) dX0_one_14 ⟨Nat.le_refl _, Nat.le_refl _⟩) (fun r2 w => ?_)
    refine lv_if_eq (tgt := 31) hx hb dX0_one_17 (by decide) (fun c => ?_) (fun c => ?_)
    · have w := And.left w c
      exact wk_X0_one_L31 X hD  _ _ _ _ _ _ w _ _ _ hP hS (lv_sub hl [] rfl)
    · have w := And.right w c
      refine lv_iload_n hx hb dX0_one_20 rfl (lv_at hl 3 rfl) ?_
      refine lv_iconst (v := 0) hx hb dX0_one_21 (by decide) ?_
      refine lv_sipush (v := 9999) hx hb dX0_one_22 (by decide) ?_
      refine vp_callSi (W.runS (As := [.int i3, .int (0 : Int32), .int (9999 : Int32)]) (rest := []) ⟨hx, hb, hml, hown, hts⟩ (met_X0_isIn l w) (va_cwS 3 hts (lw_S q180 q181 q48 q182) rfl rfl rfl hd_X0_isIn ⟨Nat.le_of_ble_eq_true rfl, Nat.le_of_ble_eq_true rfl⟩) pre_S rfl rfl hl.1 rfl (lv_room (Nat.le_of_ble_eq_true rfl)) dX0_one_25 ⟨Nat.le_refl _, Nat.le_refl _⟩) (fun r3 w => ?_)
      refine lv_if_ne (tgt := 34) hx hb dX0_one_28 (by decide) (fun c => ?_) (fun c => ?_)
      · have w := And.right w c
        refine lv_sipush (v := 10000) hx hb dX0_one_34 (by decide) ?_
        refine lv_aload_n hx hb dX0_one_37 rfl (lv_at hl 0 rfl) ?_
        refine va_get (D := (dC, dI)) (ci := 0) (v := .ref (a0 0)) (C := RX0) (T := TX0) (N := 14) hx hb hts in_X0 hown hK hP 0 rfl rfl 0 (by decide) (hts _ q128) (fun _ h9 => h9) rfl dX0_one_38 ?_
        refine va_getN (D := (dC, dI)) (ci := 1) (v := .ref (a0 1)) (C := RX1) (T := TX1) (N := 13) hx hb hts in_X1 hown hK hP 9 rfl rfl 0 (by decide) (va_Nw.use rfl hN.1) (fun _ h9 => h9) rfl dX0_one_41 ?_
        refine lv_iload_n hx hb dX0_one_44 rfl (lv_at hl 1 rfl) ?_
        obtain ⟨gi, w⟩ := w
        refine va_iald hx hb hK hP 10 0 rfl rfl gi dX0_one_45 ?_
        refine lv_imul hx hb dX0_one_46 ?_
        refine lv_aload_n hx hb dX0_one_47 rfl (lv_at hl 0 rfl) ?_
        refine va_get (D := (dC, dI)) (ci := 0) (v := .ref (a0 0)) (C := RX0) (T := TX0) (N := 14) hx hb hts in_X0 hown hK hP 0 rfl rfl 0 (by decide) (hts _ q128) (fun _ h9 => h9) rfl dX0_one_48 ?_
        refine va_getN (D := (dC, dI)) (ci := 1) (v := .ref (a0 2)) (C := RX1) (T := TX1) (N := 13) hx hb hts in_X1 hown hK hP 9 rfl rfl 1 (by decide) (va_Nw.use rfl hN.2.1) (fun _ h9 => h9) rfl dX0_one_51 ?_
        refine lv_iload_n hx hb dX0_one_54 rfl (lv_at hl 1 rfl) ?_
        obtain ⟨gi, w⟩ := w
        refine va_iald hx hb hK hP 11 0 rfl rfl gi dX0_one_55 ?_
        refine lv_iadd hx hb dX0_one_56 ?_
        refine lv_topi (fun n4 en4 => ?_)
        have w := w n4 en4
        refine lv_istore (lv' := [(4, .int n4), (0, .ref (aX 0)), (1, .int i1), (2, .int i2), (3, .int i3)]) hx hb dX0_one_57 hl (by decide) rfl (fun ls hl => ?_)
        refine lv_aload_n hx hb dX0_one_59 rfl (lv_at hl 1 rfl) ?_
        refine va_get (D := (dC, dI)) (ci := 0) (v := .ref (a0 0)) (C := RX0) (T := TX0) (N := 14) hx hb hts in_X0 hown hK hP 0 rfl rfl 0 (by decide) (hts _ q128) (fun _ h9 => h9) rfl dX0_one_60 ?_
        refine va_getN (D := (dC, dI)) (ci := 1) (v := .ref (a0 1)) (C := RX1) (T := TX1) (N := 13) hx hb hts in_X1 hown hK hP 9 rfl rfl 0 (by decide) (va_Nw.use rfl hN.1) (fun _ h9 => h9) rfl dX0_one_63 ?_
        refine lv_iload_n hx hb dX0_one_66 rfl (lv_at hl 2 rfl) ?_
        refine lv_iload_n hx hb dX0_one_67 rfl (lv_at hl 3 rfl) ?_
        obtain ⟨gi, w⟩ := w
        refine va_iast hx hb hK hP (hD _ _ _ _ _ _) hS 10 0 rfl rfl gi dX0_one_68 (fun H locs hP _ hS => ?_)
        have hP : va_P (dC, dI) vwCl (XW aX a0 a1 a2 a3 ct x y (up2 v0 0 i1.toNatClampNeg i2) v1 v2 v3) H := XW_u_v0_0 hP
        refine lv_aload_n hx hb dX0_one_69 rfl (lv_at hl 1 rfl) ?_
        refine va_get (D := (dC, dI)) (ci := 0) (v := .ref (a0 0)) (C := RX0) (T := TX0) (N := 14) hx hb hts in_X0 hown hK hP 0 rfl rfl 0 (by decide) (hts _ q128) (fun _ h9 => h9) rfl dX0_one_70 ?_
        refine va_getN (D := (dC, dI)) (ci := 1) (v := .ref (a0 2)) (C := RX1) (T := TX1) (N := 13) hx hb hts in_X1 hown hK hP 9 rfl rfl 1 (by decide) (va_Nw.use rfl hN.2.1) (fun _ h9 => h9) rfl dX0_one_73 ?_
        refine lv_iload_n hx hb dX0_one_76 rfl (lv_at hl 2 rfl) ?_
        refine lv_iload_n hx hb dX0_one_77 rfl (lv_at hl 4 rfl) ?_
        obtain ⟨gi, w⟩ := w
        refine va_iast hx hb hK hP (hD _ _ _ _ _ _) hS 11 0 rfl rfl gi dX0_one_78 (fun H locs hP _ hS => ?_)
        have hP : va_P (dC, dI) vwCl (XW aX a0 a1 a2 a3 ct x y (up2 (up2 v0 0 i1.toNatClampNeg i2) 1 i1.toNatClampNeg i3) v1 v2 v3) H := XW_u_v0_1 hP
        refine lv_iload hx hb dX0_one_79 (lv_at hl 0 rfl) ?_
        exact W.iret (v := n4) hx hb hr (fun t ht hW => ⟨⟨n4, (x, y, (up2 (up2 v0 0 i1.toNatClampNeg i2) 1 i1.toNatClampNeg i3), v1, v2, v3), rfl, w, by rw [ht]; exact hP, va_K.moved hW.alike hK, (hD _ _ _ _ _ _)⟩, hS.F ht⟩) hS.2.2 dX0_one_81 hlk
      · have w := And.left w c
        exact wk_X0_one_L31 X hD  _ _ _ _ _ _ w _ _ _ hP hS (lv_sub hl [] rfl)
  · have w := And.left w c
    refine lv_iconst (v := -1) hx hb dX0_one_7 (by decide) ?_
    exact W.iret (v := (-1 : Int32)) hx hb hr (fun t ht hW => ⟨⟨(-1 : Int32), (x, y, v0, v1, v2, v3), rfl, w, by rw [ht]; exact hP, va_K.moved hW.alike hK, (hD _ _ _ _ _ _)⟩, hS.F ht⟩) hS.2.2 dX0_one_8 hlk
abbrev rm_X0_owe : Room := { frames := 3, cells := 0, slots := 0, locals := 63 }
theorem hd_X0_owe : yX0_owe.cls = RX0 ∧ yX0_owe.cls ≠ "java/lang/invoke/MethodHandle" ∧ yX0_owe.cls ≠ "java/lang/invoke/VarHandle" ∧ (parseMethodDescriptor yX0_owe.desc).map (fun d => d.parameters.length) = some 3 := by decide +kernel
set_option maxHeartbeats 4000000 in
set_option maxRecDepth 100000 in
theorem met_X0_owe (l : Launch) (dC : Nat → ClassId) (dI : Nat → Nat → Nat) (ct : Nat → ClassId) (aX : Nat → Nat) (a0 : Nat → Nat) (a1 : Nat → Nat) (a2 : Nat → Nat) (a3 : Nat → Nat) (sz : Nat) {i1 : Int32} {i2 : Int32} {i3 : Int32} {x : V} {y : VL} {v0 : V} {v1 : V} {v2 : V} {v3 : V} {Post : Int32 → V → VL → V → V → V → V → Prop} (w : wp_X0_owe i1 i2 i3 x y v0 v1 v2 v3 Post) : Met l yX0_owe (ws_ yX0_owe cX0_owe 5 (some .int)) rm_X0_owe (va_Pc [.ref (aX 0), .int i1, .int i2, .int i3] (fun U => WPre dC dI ct (XW aX a0 a1 a2 a3 ct x y v0 v1 v2 v3) sz U)) ((fun A => (va_Qi (fun (r : Int32) (u : V × VL × V × V × V × V) => Post r u.1 u.2.1 u.2.2.1 u.2.2.2.1 u.2.2.2.2.1 u.2.2.2.2.2) (fun (u : V × VL × V × V × V × V) t => WPos dC dI ct (XW aX a0 a1 a2 a3 ct u.1 u.2.1 u.2.2.1 u.2.2.2.1 u.2.2.2.2.1 u.2.2.2.2.2) A t) A)) (va_A (XW aX a0 a1 a2 a3 ct x y v0 v1 v2 v3) sz)) 0 0 (va_A (XW aX a0 a1 a2 a3 ct x y v0 v1 v2 v3) sz) := by
  refine open_W (fun A => (va_Qi (fun (r : Int32) (u : V × VL × V × V × V × V) => Post r u.1 u.2.1 u.2.2.1 u.2.2.2.1 u.2.2.2.2.1 u.2.2.2.2.2) (fun (u : V × VL × V × V × V × V) t => WPos dC dI ct (XW aX a0 a1 a2 a3 ct u.1 u.2.1 u.2.2.1 u.2.2.2.1 u.2.2.2.2.1 u.2.2.2.2.2) A t) A)) (by decide) (Nat.le_of_ble_eq_true rfl) ?_
  intro p e s m args below meth c ls A X hD0 hP hS hl
  have X0 := X
  obtain ⟨⟨hx, hb, hml, hr, hlk, hown, hts⟩, hA, hK, hN⟩ := X0
  have hD : ∀ (x' : V) (y' : VL) (v0' : V) (v1' : V) (v2' : V) (v3' : V), va_D A (XW aX a0 a1 a2 a3 ct x' y' v0' v1' v2' v3') := fun x' y' v0' v1' v2' v3' => va_D_addr hD0 rfl
  have hl : lv_has ls 5 [(0, .ref (aX 0)), (1, .int i1), (2, .int i2), (3, .int i3)] := hl
  unfold wp_X0_owe at w
  have hS0 := hS
  refine lv_iload_n hx hb dX0_owe_0 rfl (lv_at hl 1 rfl) ?_
  refine lv_iload_n hx hb dX0_owe_1 rfl (lv_at hl 2 rfl) ?_
  refine vp_callSi (W.runS (As := [.int i1, .int i2]) (rest := []) ⟨hx, hb, hml, hown, hts⟩ (met_X0_areTwo l w) (va_cwS 2 hts (lw_S q187 q188 q48 q189) rfl rfl rfl hd_X0_areTwo ⟨Nat.le_of_ble_eq_true rfl, Nat.le_of_ble_eq_true rfl⟩) pre_S rfl rfl hl.1 rfl (lv_room (Nat.le_of_ble_eq_true rfl)) dX0_owe_2 ⟨Nat.le_refl _, Nat.le_refl _⟩) (fun r1 w => ?_)
  refine lv_if_ne (tgt := 10) hx hb dX0_owe_5 (by decide) (fun c => ?_) (fun c => ?_)
  · have w := And.right w c
    refine lv_iload_n hx hb dX0_owe_10 rfl (lv_at hl 3 rfl) ?_
    refine lv_iconst (v := 0) hx hb dX0_owe_11 (by decide) ?_
    refine lv_sipush (v := 999) hx hb dX0_owe_12 (by decide) ?_
    refine vp_callSi (W.runS (As := [.int i3, .int (0 : Int32), .int (999 : Int32)]) (rest := []) ⟨hx, hb, hml, hown, hts⟩ (met_X0_isIn l w) (va_cwS 3 hts (lw_S q180 q181 q48 q182) rfl rfl rfl hd_X0_isIn ⟨Nat.le_of_ble_eq_true rfl, Nat.le_of_ble_eq_true rfl⟩) pre_S rfl rfl hl.1 rfl (lv_room (Nat.le_of_ble_eq_true rfl)) dX0_owe_15 ⟨Nat.le_refl _, Nat.le_refl _⟩) (fun r2 w => ?_)
    refine lv_if_ne (tgt := 24) hx hb dX0_owe_18 (by decide) (fun c => ?_) (fun c => ?_)
    · have w := And.right w c
      refine lv_aload_n hx hb dX0_owe_24 rfl (lv_at hl 0 rfl) ?_
      refine va_get (D := (dC, dI)) (ci := 0) (v := .ref (a0 0)) (C := RX0) (T := TX0) (N := 14) hx hb hts in_X0 hown hK hP 0 rfl rfl 0 (by decide) (hts _ q128) (fun _ h9 => h9) rfl dX0_owe_25 ?_
      refine va_getN (D := (dC, dI)) (ci := 1) (v := .ref (a0 3)) (C := RX1) (T := TX1) (N := 13) hx hb hts in_X1 hown hK hP 9 rfl rfl 2 (by decide) (va_Nw.use rfl hN.2.2.1) (fun _ h9 => h9) rfl dX0_owe_28 ?_
      refine lv_iload_n hx hb dX0_owe_31 rfl (lv_at hl 1 rfl) ?_
      obtain ⟨gi, w⟩ := w
      refine x_aald hx hb hK hP 12 5 rfl rfl rfl gi rfl dX0_owe_32 ?_
      have gk3 := x_vlt gi
      refine lv_iload_n hx hb dX0_owe_33 rfl (lv_at hl 2 rfl) ?_
      have gr := gk3
      obtain ⟨gi, w⟩ := w
      refine va_iald hx hb hK hP (13 + i1.toNatClampNeg) 0 (XW_row0 gr) rfl gi dX0_owe_34 ?_
      refine lv_istore (lv' := [(4, .int (v0 (2 + i1.toNatClampNeg) i2.toNatClampNeg)), (0, .ref (aX 0)), (1, .int i1), (2, .int i2), (3, .int i3)]) hx hb dX0_owe_35 hl (by decide) rfl (fun ls hl => ?_)
      refine lv_aload_n hx hb dX0_owe_37 rfl (lv_at hl 1 rfl) ?_
      refine va_get (D := (dC, dI)) (ci := 0) (v := .ref (a0 0)) (C := RX0) (T := TX0) (N := 14) hx hb hts in_X0 hown hK hP 0 rfl rfl 0 (by decide) (hts _ q128) (fun _ h9 => h9) rfl dX0_owe_38 ?_
      refine va_getN (D := (dC, dI)) (ci := 1) (v := .ref (a0 3)) (C := RX1) (T := TX1) (N := 13) hx hb hts in_X1 hown hK hP 9 rfl rfl 2 (by decide) (va_Nw.use rfl hN.2.2.1) (fun _ h9 => h9) rfl dX0_owe_41 ?_
      refine lv_iload_n hx hb dX0_owe_44 rfl (lv_at hl 2 rfl) ?_
      obtain ⟨gi, w⟩ := w
      refine x_aald hx hb hK hP 12 5 rfl rfl rfl gi rfl dX0_owe_45 ?_
      have gk4 := x_vlt gi
      refine lv_iload_n hx hb dX0_owe_46 rfl (lv_at hl 3 rfl) ?_
      refine lv_iload_n hx hb dX0_owe_47 rfl (lv_at hl 4 rfl) ?_
      have gr := gk4
      obtain ⟨gi, w⟩ := w
      refine va_iast hx hb hK hP (hD _ _ _ _ _ _) hS (13 + i1.toNatClampNeg) 0 (XW_row0 gr) rfl gi dX0_owe_48 (fun H locs hP _ hS => ?_)
      rw [XW_rowset0 gr, ← up2_eq] at hP
      have hP : va_P (dC, dI) vwCl (XW aX a0 a1 a2 a3 ct x y (up2 v0 (2 + i1.toNatClampNeg) i2.toNatClampNeg i3) v1 v2 v3) H := hP
      refine lv_iload hx hb dX0_owe_49 (lv_at hl 0 rfl) ?_
      exact W.iret (v := (v0 (2 + i1.toNatClampNeg) i2.toNatClampNeg)) hx hb hr (fun t ht hW => ⟨⟨(v0 (2 + i1.toNatClampNeg) i2.toNatClampNeg), (x, y, (up2 v0 (2 + i1.toNatClampNeg) i2.toNatClampNeg i3), v1, v2, v3), rfl, w, by rw [ht]; exact hP, va_K.moved hW.alike hK, (hD _ _ _ _ _ _)⟩, hS.F ht⟩) hS.2.2 dX0_owe_51 hlk
    · have w := And.left w c
      refine lv_bipush (v := -2) hx hb dX0_owe_21 (by decide) ?_
      exact W.iret (v := (-2 : Int32)) hx hb hr (fun t ht hW => ⟨⟨(-2 : Int32), (x, y, v0, v1, v2, v3), rfl, w, by rw [ht]; exact hP, va_K.moved hW.alike hK, (hD _ _ _ _ _ _)⟩, hS.F ht⟩) hS.2.2 dX0_owe_23 hlk
  · have w := And.left w c
    refine lv_iconst (v := -1) hx hb dX0_owe_8 (by decide) ?_
    exact W.iret (v := (-1 : Int32)) hx hb hr (fun t ht hW => ⟨⟨(-1 : Int32), (x, y, v0, v1, v2, v3), rfl, w, by rw [ht]; exact hP, va_K.moved hW.alike hK, (hD _ _ _ _ _ _)⟩, hS.F ht⟩) hS.2.2 dX0_owe_9 hlk
abbrev rm_X0_lot : Room := { frames := 2, cells := 0, slots := 0, locals := 42 }
theorem hd_X0_lot : yX0_lot.cls = RX0 ∧ yX0_lot.cls ≠ "java/lang/invoke/MethodHandle" ∧ yX0_lot.cls ≠ "java/lang/invoke/VarHandle" ∧ (parseMethodDescriptor yX0_lot.desc).map (fun d => d.parameters.length) = some 3 := by decide +kernel
set_option maxHeartbeats 4000000 in
set_option maxRecDepth 100000 in
theorem wk_X0_lot_L19 {p : Program} {l : Launch} {e : Env} {s : State} {m : MethodId} {args : Array Value} {below : List Frame} {meth : Method} {c : Code} {dC : Nat → ClassId} {dI : Nat → Nat → Nat} {ct : Nat → ClassId} {A : Nat → Prop} {aX : Nat → Nat} {a0 : Nat → Nat} {a1 : Nat → Nat} {a2 : Nat → Nat} {a3 : Nat → Nat} {Post : Int32 → V → VL → V → V → V → V → Prop}   (X : CxW p s m args meth c cX0_lot 5 (some .int) RX0 dC dI ct A) (hD : ∀ (x : V) (y : VL) (v0 : V) (v1 : V) (v2 : V) (v3 : V), va_D A (XW aX a0 a1 a2 a3 ct x y v0 v1 v2 v3))  (x : V) (y : VL) (v0 : V) (v1 : V) (v2 : V) (v3 : V) (w : wp_X0_lot_L19  Post  x y v0 v1 v2 v3) : ∀ (H : Heap) (locs : List Loc) (ls : Array Slot), va_P (dC, dI) vwCl (XW aX a0 a1 a2 a3 ct x y v0 v1 v2 v3) H → va_S A s.heap H locs → lv_has ls 5 [] → W p l e rm_X0_lot s m args below meth c H locs 0 0 (MQ below (va_Qi (fun (r : Int32) (u : V × VL × V × V × V × V) => Post r u.1 u.2.1 u.2.2.1 u.2.2.2.1 u.2.2.2.2.1 u.2.2.2.2.2) (fun (u : V × VL × V × V × V × V) t => WPos dC dI ct (XW aX a0 a1 a2 a3 ct u.1 u.2.1 u.2.2.1 u.2.2.2.1 u.2.2.2.2.1 u.2.2.2.2.2) A t) A) args s 0 0 A) (F0 m 19 ls []) := by
  intro H locs ls hP hS hl
  have X0 := X
  obtain ⟨⟨hx, hb, hml, hr, hlk, hown, hts⟩, hA, hK, hN⟩ := X0
  unfold wp_X0_lot_L19 at w
  refine lv_iconst (v := -1) hx hb dX0_lot_19 (by decide) ?_
  exact W.iret (v := (-1 : Int32)) hx hb hr (fun t ht hW => ⟨⟨(-1 : Int32), (x, y, v0, v1, v2, v3), rfl, w, by rw [ht]; exact hP, va_K.moved hW.alike hK, (hD _ _ _ _ _ _)⟩, hS.F ht⟩) hS.2.2 dX0_lot_20 hlk
set_option maxHeartbeats 4000000 in
set_option maxRecDepth 100000 in
theorem wk_X0_lot_L74 {p : Program} {l : Launch} {e : Env} {s : State} {m : MethodId} {args : Array Value} {below : List Frame} {meth : Method} {c : Code} {dC : Nat → ClassId} {dI : Nat → Nat → Nat} {ct : Nat → ClassId} {A : Nat → Prop} {aX : Nat → Nat} {a0 : Nat → Nat} {a1 : Nat → Nat} {a2 : Nat → Nat} {a3 : Nat → Nat} {Post : Int32 → V → VL → V → V → V → V → Prop}   (X : CxW p s m args meth c cX0_lot 5 (some .int) RX0 dC dI ct A) (hD : ∀ (x : V) (y : VL) (v0 : V) (v1 : V) (v2 : V) (v3 : V), va_D A (XW aX a0 a1 a2 a3 ct x y v0 v1 v2 v3))  (i4 : Int32) (is0 : Int32) (is1 : Int32) (x : V) (y : VL) (v0 : V) (v1 : V) (v2 : V) (v3 : V) (w : wp_X0_lot_L74  Post  i4 is0 is1 x y v0 v1 v2 v3) : ∀ (H : Heap) (locs : List Loc) (ls : Array Slot), va_P (dC, dI) vwCl (XW aX a0 a1 a2 a3 ct x y v0 v1 v2 v3) H → va_S A s.heap H locs → lv_has ls 5 [(4, .int i4)] → W p l e rm_X0_lot s m args below meth c H locs 0 0 (MQ below (va_Qi (fun (r : Int32) (u : V × VL × V × V × V × V) => Post r u.1 u.2.1 u.2.2.1 u.2.2.2.1 u.2.2.2.2.1 u.2.2.2.2.2) (fun (u : V × VL × V × V × V × V) t => WPos dC dI ct (XW aX a0 a1 a2 a3 ct u.1 u.2.1 u.2.2.1 u.2.2.2.1 u.2.2.2.2.1 u.2.2.2.2.2) A t) A) args s 0 0 A) (F0 m 74 ls [.int is0, .int is1, .ref (a0 11)]) := by
  intro H locs ls hP hS hl
  have X0 := X
  obtain ⟨⟨hx, hb, hml, hr, hlk, hown, hts⟩, hA, hK, hN⟩ := X0
  unfold wp_X0_lot_L74 at w
  obtain ⟨gi, w⟩ := w
  refine va_iast hx hb hK hP (hD _ _ _ _ _ _) hS 20 0 rfl rfl gi dX0_lot_74 (fun H locs hP _ hS => ?_)
  have hP : va_P (dC, dI) vwCl (XW aX a0 a1 a2 a3 ct x y (up2 v0 9 is1.toNatClampNeg is0) v1 v2 v3) H := XW_u_v0_9 hP
  refine lv_iload hx hb dX0_lot_75 (lv_at hl 0 rfl) ?_
  exact W.iret (v := i4) hx hb hr (fun t ht hW => ⟨⟨i4, (x, y, (up2 v0 9 is1.toNatClampNeg is0), v1, v2, v3), rfl, w, by rw [ht]; exact hP, va_K.moved hW.alike hK, (hD _ _ _ _ _ _)⟩, hS.F ht⟩) hS.2.2 dX0_lot_77 hlk
set_option maxHeartbeats 4000000 in
set_option maxRecDepth 100000 in
theorem wk_X0_lot_L21 {p : Program} {l : Launch} {e : Env} {s : State} {m : MethodId} {args : Array Value} {below : List Frame} {meth : Method} {c : Code} {dC : Nat → ClassId} {dI : Nat → Nat → Nat} {ct : Nat → ClassId} {A : Nat → Prop} {aX : Nat → Nat} {a0 : Nat → Nat} {a1 : Nat → Nat} {a2 : Nat → Nat} {a3 : Nat → Nat} {Post : Int32 → V → VL → V → V → V → V → Prop}   (X : CxW p s m args meth c cX0_lot 5 (some .int) RX0 dC dI ct A) (hD : ∀ (x : V) (y : VL) (v0 : V) (v1 : V) (v2 : V) (v3 : V), va_D A (XW aX a0 a1 a2 a3 ct x y v0 v1 v2 v3))  (i1 : Int32) (i2 : Int32) (i3 : Int32) (x : V) (y : VL) (v0 : V) (v1 : V) (v2 : V) (v3 : V) (w : wp_X0_lot_L21  Post  i1 i2 i3 x y v0 v1 v2 v3) : ∀ (H : Heap) (locs : List Loc) (ls : Array Slot), va_P (dC, dI) vwCl (XW aX a0 a1 a2 a3 ct x y v0 v1 v2 v3) H → va_S A s.heap H locs → lv_has ls 5 [(0, .ref (aX 0)), (1, .int i1), (2, .int i2), (3, .int i3)] → W p l e rm_X0_lot s m args below meth c H locs 0 0 (MQ below (va_Qi (fun (r : Int32) (u : V × VL × V × V × V × V) => Post r u.1 u.2.1 u.2.2.1 u.2.2.2.1 u.2.2.2.2.1 u.2.2.2.2.2) (fun (u : V × VL × V × V × V × V) t => WPos dC dI ct (XW aX a0 a1 a2 a3 ct u.1 u.2.1 u.2.2.1 u.2.2.2.1 u.2.2.2.2.1 u.2.2.2.2.2) A t) A) args s 0 0 A) (F0 m 21 ls []) := by
  intro H locs ls hP hS hl
  have X0 := X
  obtain ⟨⟨hx, hb, hml, hr, hlk, hown, hts⟩, hA, hK, hN⟩ := X0
  unfold wp_X0_lot_L21 at w
  refine lv_iload_n hx hb dX0_lot_21 rfl (lv_at hl 2 rfl) ?_
  refine lv_iconst (v := 1) hx hb dX0_lot_22 (by decide) ?_
  refine lv_sipush (v := 999) hx hb dX0_lot_23 (by decide) ?_
  refine vp_callSi (W.runS (As := [.int i2, .int (1 : Int32), .int (999 : Int32)]) (rest := []) ⟨hx, hb, hml, hown, hts⟩ (met_X0_isIn l w) (va_cwS 3 hts (lw_S q180 q181 q48 q182) rfl rfl rfl hd_X0_isIn ⟨Nat.le_of_ble_eq_true rfl, Nat.le_of_ble_eq_true rfl⟩) pre_S rfl rfl hl.1 rfl (lv_room (Nat.le_of_ble_eq_true rfl)) dX0_lot_26 ⟨Nat.le_refl _, Nat.le_refl _⟩) (fun r1 w => ?_)
  refine lv_if_ne (tgt := 35) hx hb dX0_lot_29 (by decide) (fun c => ?_) (fun c => ?_)
  · have w := And.right w c
    refine lv_aload_n hx hb dX0_lot_35 rfl (lv_at hl 0 rfl) ?_
    refine va_get (D := (dC, dI)) (ci := 0) (v := .ref (a0 0)) (C := RX0) (T := TX0) (N := 14) hx hb hts in_X0 hown hK hP 0 rfl rfl 0 (by decide) (hts _ q128) (fun _ h9 => h9) rfl dX0_lot_36 ?_
    refine va_getN (D := (dC, dI)) (ci := 1) (v := .ref (a0 10)) (C := RX1) (T := TX1) (N := 13) hx hb hts in_X1 hown hK hP 9 rfl rfl 3 (by decide) (va_Nw.use rfl hN.2.2.2.1) (fun _ h9 => h9) rfl dX0_lot_39 ?_
    refine lv_iload_n hx hb dX0_lot_42 rfl (lv_at hl 1 rfl) ?_
    obtain ⟨gi, w⟩ := w
    refine va_iald hx hb hK hP 19 0 rfl rfl gi dX0_lot_43 ?_
    refine lv_istore (lv' := [(4, .int (v0 8 i1.toNatClampNeg)), (0, .ref (aX 0)), (1, .int i1), (2, .int i2), (3, .int i3)]) hx hb dX0_lot_44 hl (by decide) rfl (fun ls hl => ?_)
    refine lv_aload_n hx hb dX0_lot_46 rfl (lv_at hl 1 rfl) ?_
    refine va_get (D := (dC, dI)) (ci := 0) (v := .ref (a0 0)) (C := RX0) (T := TX0) (N := 14) hx hb hts in_X0 hown hK hP 0 rfl rfl 0 (by decide) (hts _ q128) (fun _ h9 => h9) rfl dX0_lot_47 ?_
    refine va_getN (D := (dC, dI)) (ci := 1) (v := .ref (a0 10)) (C := RX1) (T := TX1) (N := 13) hx hb hts in_X1 hown hK hP 9 rfl rfl 3 (by decide) (va_Nw.use rfl hN.2.2.2.1) (fun _ h9 => h9) rfl dX0_lot_50 ?_
    refine lv_iload_n hx hb dX0_lot_53 rfl (lv_at hl 2 rfl) ?_
    refine lv_iload_n hx hb dX0_lot_54 rfl (lv_at hl 3 rfl) ?_
    obtain ⟨gi, w⟩ := w
    refine va_iast hx hb hK hP (hD _ _ _ _ _ _) hS 19 0 rfl rfl gi dX0_lot_55 (fun H locs hP _ hS => ?_)
    have hP : va_P (dC, dI) vwCl (XW aX a0 a1 a2 a3 ct x y (up2 v0 8 i1.toNatClampNeg i2) v1 v2 v3) H := XW_u_v0_8 hP
    refine lv_aload_n hx hb dX0_lot_56 rfl (lv_at hl 1 rfl) ?_
    refine va_get (D := (dC, dI)) (ci := 0) (v := .ref (a0 0)) (C := RX0) (T := TX0) (N := 14) hx hb hts in_X0 hown hK hP 0 rfl rfl 0 (by decide) (hts _ q128) (fun _ h9 => h9) rfl dX0_lot_57 ?_
    refine va_getN (D := (dC, dI)) (ci := 1) (v := .ref (a0 11)) (C := RX1) (T := TX1) (N := 13) hx hb hts in_X1 hown hK hP 9 rfl rfl 4 (by decide) (va_Nw.use rfl hN.2.2.2.2.1) (fun _ h9 => h9) rfl dX0_lot_60 ?_
    refine lv_iload_n hx hb dX0_lot_63 rfl (lv_at hl 2 rfl) ?_
    refine lv_iload_n hx hb dX0_lot_64 rfl (lv_at hl 4 rfl) ?_
    refine lv_if_ge (tgt := 73) hx hb dX0_lot_65 (by decide) (fun c => ?_) (fun c => ?_)
    · have w := And.left w c
      refine lv_iload_n hx hb dX0_lot_73 rfl (lv_at hl 4 rfl) ?_
      exact wk_X0_lot_L74 X hD  _ _ _ _ _ _ _ _ _ w _ _ _ hP hS (lv_sub hl [0] rfl)
    · have w := And.right w c
      refine lv_bipush (v := -6) hx hb dX0_lot_68 (by decide) ?_
      refine lv_goto (tgt := 74) hx hb dX0_lot_70 (by decide) ?_
      exact wk_X0_lot_L74 X hD  _ _ _ _ _ _ _ _ _ w _ _ _ hP hS (lv_sub hl [0] rfl)
  · have w := And.left w c
    refine lv_bipush (v := -2) hx hb dX0_lot_32 (by decide) ?_
    exact W.iret (v := (-2 : Int32)) hx hb hr (fun t ht hW => ⟨⟨(-2 : Int32), (x, y, v0, v1, v2, v3), rfl, w, by rw [ht]; exact hP, va_K.moved hW.alike hK, (hD _ _ _ _ _ _)⟩, hS.F ht⟩) hS.2.2 dX0_lot_34 hlk
set_option maxHeartbeats 4000000 in
set_option maxRecDepth 100000 in
theorem met_X0_lot (l : Launch) (dC : Nat → ClassId) (dI : Nat → Nat → Nat) (ct : Nat → ClassId) (aX : Nat → Nat) (a0 : Nat → Nat) (a1 : Nat → Nat) (a2 : Nat → Nat) (a3 : Nat → Nat) (sz : Nat) {i1 : Int32} {i2 : Int32} {i3 : Int32} {x : V} {y : VL} {v0 : V} {v1 : V} {v2 : V} {v3 : V} {Post : Int32 → V → VL → V → V → V → V → Prop} (w : wp_X0_lot i1 i2 i3 x y v0 v1 v2 v3 Post) : Met l yX0_lot (ws_ yX0_lot cX0_lot 5 (some .int)) rm_X0_lot (va_Pc [.ref (aX 0), .int i1, .int i2, .int i3] (fun U => WPre dC dI ct (XW aX a0 a1 a2 a3 ct x y v0 v1 v2 v3) sz U)) ((fun A => (va_Qi (fun (r : Int32) (u : V × VL × V × V × V × V) => Post r u.1 u.2.1 u.2.2.1 u.2.2.2.1 u.2.2.2.2.1 u.2.2.2.2.2) (fun (u : V × VL × V × V × V × V) t => WPos dC dI ct (XW aX a0 a1 a2 a3 ct u.1 u.2.1 u.2.2.1 u.2.2.2.1 u.2.2.2.2.1 u.2.2.2.2.2) A t) A)) (va_A (XW aX a0 a1 a2 a3 ct x y v0 v1 v2 v3) sz)) 0 0 (va_A (XW aX a0 a1 a2 a3 ct x y v0 v1 v2 v3) sz) := by
  refine open_W (fun A => (va_Qi (fun (r : Int32) (u : V × VL × V × V × V × V) => Post r u.1 u.2.1 u.2.2.1 u.2.2.2.1 u.2.2.2.2.1 u.2.2.2.2.2) (fun (u : V × VL × V × V × V × V) t => WPos dC dI ct (XW aX a0 a1 a2 a3 ct u.1 u.2.1 u.2.2.1 u.2.2.2.1 u.2.2.2.2.1 u.2.2.2.2.2) A t) A)) (by decide) (Nat.le_of_ble_eq_true rfl) ?_
  intro p e s m args below meth c ls A X hD0 hP hS hl
  have X0 := X
  obtain ⟨⟨hx, hb, hml, hr, hlk, hown, hts⟩, hA, hK, hN⟩ := X0
  have hD : ∀ (x' : V) (y' : VL) (v0' : V) (v1' : V) (v2' : V) (v3' : V), va_D A (XW aX a0 a1 a2 a3 ct x' y' v0' v1' v2' v3') := fun x' y' v0' v1' v2' v3' => va_D_addr hD0 rfl
  have hl : lv_has ls 5 [(0, .ref (aX 0)), (1, .int i1), (2, .int i2), (3, .int i3)] := hl
  unfold wp_X0_lot at w
  have hS0 := hS
  refine lv_iload_n hx hb dX0_lot_0 rfl (lv_at hl 1 rfl) ?_
  refine vp_callSi (W.runS (As := [.int i1]) (rest := []) ⟨hx, hb, hml, hown, hts⟩ (met_X0_isLot l w) (va_cwS 1 hts (lw_S q194 q195 q48 q196) rfl rfl rfl hd_X0_isLot ⟨Nat.le_of_ble_eq_true rfl, Nat.le_of_ble_eq_true rfl⟩) pre_S rfl rfl hl.1 rfl (lv_room (Nat.le_of_ble_eq_true rfl)) dX0_lot_1 ⟨Nat.le_refl _, Nat.le_refl _⟩) (fun r1 w => ?_)
  refine lv_if_eq (tgt := 19) hx hb dX0_lot_4 (by decide) (fun c => ?_) (fun c => ?_)
  · have w := And.left w c
    exact wk_X0_lot_L19 X hD  _ _ _ _ _ _ w _ _ _ hP hS (lv_sub hl [] rfl)
  · have w := And.right w c
    refine lv_iload_n hx hb dX0_lot_7 rfl (lv_at hl 3 rfl) ?_
    refine lv_iconst (v := -1) hx hb dX0_lot_8 (by decide) ?_
    refine lv_icmp_eq (tgt := 21) hx hb dX0_lot_9 (by decide) (fun c => ?_) (fun c => ?_)
    · have w := And.left w c
      exact wk_X0_lot_L21 X hD  _ _ _ _ _ _ _ _ _ w _ _ _ hP hS (lv_sub hl [0, 1, 2, 3] rfl)
    · have w := And.right w c
      refine lv_iload_n hx hb dX0_lot_12 rfl (lv_at hl 3 rfl) ?_
      refine vp_callSi (W.runS (As := [.int i3]) (rest := []) ⟨hx, hb, hml, hown, hts⟩ (met_X0_isOne l w) (va_cwS 1 hts (lw_S q177 q178 q48 q179) rfl rfl rfl hd_X0_isOne ⟨Nat.le_of_ble_eq_true rfl, Nat.le_of_ble_eq_true rfl⟩) pre_S rfl rfl hl.1 rfl (lv_room (Nat.le_of_ble_eq_true rfl)) dX0_lot_13 ⟨Nat.le_refl _, Nat.le_refl _⟩) (fun r2 w => ?_)
      refine lv_if_ne (tgt := 21) hx hb dX0_lot_16 (by decide) (fun c => ?_) (fun c => ?_)
      · have w := And.right w c
        exact wk_X0_lot_L21 X hD  _ _ _ _ _ _ _ _ _ w _ _ _ hP hS (lv_sub hl [0, 1, 2, 3] rfl)
      · have w := And.left w c
        exact wk_X0_lot_L19 X hD  _ _ _ _ _ _ w _ _ _ hP hS (lv_sub hl [] rfl)
abbrev rm_X0_set : Room := { frames := 1, cells := 0, slots := 0, locals := 22 }
theorem hd_X0_set : yX0_set.cls = RX0 ∧ yX0_set.cls ≠ "java/lang/invoke/MethodHandle" ∧ yX0_set.cls ≠ "java/lang/invoke/VarHandle" ∧ (parseMethodDescriptor yX0_set.desc).map (fun d => d.parameters.length) = some 2 := by decide +kernel
set_option maxHeartbeats 4000000 in
set_option maxRecDepth 100000 in
theorem wk_X0_set_L19 {p : Program} {l : Launch} {e : Env} {s : State} {m : MethodId} {args : Array Value} {below : List Frame} {meth : Method} {c : Code} {dC : Nat → ClassId} {dI : Nat → Nat → Nat} {ct : Nat → ClassId} {A : Nat → Prop} {aX : Nat → Nat} {a0 : Nat → Nat} {a1 : Nat → Nat} {a2 : Nat → Nat} {a3 : Nat → Nat} {Post : Int32 → V → VL → V → V → V → V → Prop}   (X : CxW p s m args meth c cX0_set 4 (some .int) RX0 dC dI ct A) (hD : ∀ (x : V) (y : VL) (v0 : V) (v1 : V) (v2 : V) (v3 : V), va_D A (XW aX a0 a1 a2 a3 ct x y v0 v1 v2 v3))  (x : V) (y : VL) (v0 : V) (v1 : V) (v2 : V) (v3 : V) (w : wp_X0_set_L19  Post  x y v0 v1 v2 v3) : ∀ (H : Heap) (locs : List Loc) (ls : Array Slot), va_P (dC, dI) vwCl (XW aX a0 a1 a2 a3 ct x y v0 v1 v2 v3) H → va_S A s.heap H locs → lv_has ls 4 [] → W p l e rm_X0_set s m args below meth c H locs 0 0 (MQ below (va_Qi (fun (r : Int32) (u : V × VL × V × V × V × V) => Post r u.1 u.2.1 u.2.2.1 u.2.2.2.1 u.2.2.2.2.1 u.2.2.2.2.2) (fun (u : V × VL × V × V × V × V) t => WPos dC dI ct (XW aX a0 a1 a2 a3 ct u.1 u.2.1 u.2.2.1 u.2.2.2.1 u.2.2.2.2.1 u.2.2.2.2.2) A t) A) args s 0 0 A) (F0 m 19 ls []) := by
  intro H locs ls hP hS hl
  have X0 := X
  obtain ⟨⟨hx, hb, hml, hr, hlk, hown, hts⟩, hA, hK, hN⟩ := X0
  unfold wp_X0_set_L19 at w
  refine lv_bipush (v := -2) hx hb dX0_set_19 (by decide) ?_
  exact W.iret (v := (-2 : Int32)) hx hb hr (fun t ht hW => ⟨⟨(-2 : Int32), (x, y, v0, v1, v2, v3), rfl, w, by rw [ht]; exact hP, va_K.moved hW.alike hK, (hD _ _ _ _ _ _)⟩, hS.F ht⟩) hS.2.2 dX0_set_21 hlk
set_option maxHeartbeats 4000000 in
set_option maxRecDepth 100000 in
theorem met_X0_set (l : Launch) (dC : Nat → ClassId) (dI : Nat → Nat → Nat) (ct : Nat → ClassId) (aX : Nat → Nat) (a0 : Nat → Nat) (a1 : Nat → Nat) (a2 : Nat → Nat) (a3 : Nat → Nat) (sz : Nat) {i1 : Int32} {i2 : Int32} {x : V} {y : VL} {v0 : V} {v1 : V} {v2 : V} {v3 : V} {Post : Int32 → V → VL → V → V → V → V → Prop} (w : wp_X0_set i1 i2 x y v0 v1 v2 v3 Post) : Met l yX0_set (ws_ yX0_set cX0_set 4 (some .int)) rm_X0_set (va_Pc [.ref (aX 0), .int i1, .int i2] (fun U => WPre dC dI ct (XW aX a0 a1 a2 a3 ct x y v0 v1 v2 v3) sz U)) ((fun A => (va_Qi (fun (r : Int32) (u : V × VL × V × V × V × V) => Post r u.1 u.2.1 u.2.2.1 u.2.2.2.1 u.2.2.2.2.1 u.2.2.2.2.2) (fun (u : V × VL × V × V × V × V) t => WPos dC dI ct (XW aX a0 a1 a2 a3 ct u.1 u.2.1 u.2.2.1 u.2.2.2.1 u.2.2.2.2.1 u.2.2.2.2.2) A t) A)) (va_A (XW aX a0 a1 a2 a3 ct x y v0 v1 v2 v3) sz)) 0 0 (va_A (XW aX a0 a1 a2 a3 ct x y v0 v1 v2 v3) sz) := by
  refine open_W (fun A => (va_Qi (fun (r : Int32) (u : V × VL × V × V × V × V) => Post r u.1 u.2.1 u.2.2.1 u.2.2.2.1 u.2.2.2.2.1 u.2.2.2.2.2) (fun (u : V × VL × V × V × V × V) t => WPos dC dI ct (XW aX a0 a1 a2 a3 ct u.1 u.2.1 u.2.2.1 u.2.2.2.1 u.2.2.2.2.1 u.2.2.2.2.2) A t) A)) (by decide) (Nat.le_of_ble_eq_true rfl) ?_
  intro p e s m args below meth c ls A X hD0 hP hS hl
  have X0 := X
  obtain ⟨⟨hx, hb, hml, hr, hlk, hown, hts⟩, hA, hK, hN⟩ := X0
  have hD : ∀ (x' : V) (y' : VL) (v0' : V) (v1' : V) (v2' : V) (v3' : V), va_D A (XW aX a0 a1 a2 a3 ct x' y' v0' v1' v2' v3') := fun x' y' v0' v1' v2' v3' => va_D_addr hD0 rfl
  have hl : lv_has ls 4 [(0, .ref (aX 0)), (1, .int i1), (2, .int i2)] := hl
  unfold wp_X0_set at w
  have hS0 := hS
  refine lv_iload_n hx hb dX0_set_0 rfl (lv_at hl 1 rfl) ?_
  refine lv_iconst (v := 0) hx hb dX0_set_1 (by decide) ?_
  refine lv_iconst (v := 1) hx hb dX0_set_2 (by decide) ?_
  refine vp_callSi (W.runS (As := [.int i1, .int (0 : Int32), .int (1 : Int32)]) (rest := []) ⟨hx, hb, hml, hown, hts⟩ (met_X0_isIn l w) (va_cwS 3 hts (lw_S q180 q181 q48 q182) rfl rfl rfl hd_X0_isIn ⟨Nat.le_of_ble_eq_true rfl, Nat.le_of_ble_eq_true rfl⟩) pre_S rfl rfl hl.1 rfl (lv_room (Nat.le_of_ble_eq_true rfl)) dX0_set_3 ⟨Nat.le_refl _, Nat.le_refl _⟩) (fun r1 w => ?_)
  refine lv_if_eq (tgt := 19) hx hb dX0_set_6 (by decide) (fun c => ?_) (fun c => ?_)
  · have w := And.left w c
    exact wk_X0_set_L19 X hD  _ _ _ _ _ _ w _ _ _ hP hS (lv_sub hl [] rfl)
  · have w := And.right w c
    refine lv_iload_n hx hb dX0_set_9 rfl (lv_at hl 2 rfl) ?_
    refine lv_iconst (v := 0) hx hb dX0_set_10 (by decide) ?_
    refine lv_ldc (v := 99999) hx hb hown (hts _ q201) dX0_set_11 ?_
    refine vp_callSi (W.runS (As := [.int i2, .int (0 : Int32), .int (99999 : Int32)]) (rest := []) ⟨hx, hb, hml, hown, hts⟩ (met_X0_isIn l w) (va_cwS 3 hts (lw_S q180 q181 q48 q182) rfl rfl rfl hd_X0_isIn ⟨Nat.le_of_ble_eq_true rfl, Nat.le_of_ble_eq_true rfl⟩) pre_S rfl rfl hl.1 rfl (lv_room (Nat.le_of_ble_eq_true rfl)) dX0_set_13 ⟨Nat.le_refl _, Nat.le_refl _⟩) (fun r2 w => ?_)
    refine lv_if_ne (tgt := 22) hx hb dX0_set_16 (by decide) (fun c => ?_) (fun c => ?_)
    · have w := And.right w c
      refine lv_aload_n hx hb dX0_set_22 rfl (lv_at hl 0 rfl) ?_
      refine va_get (D := (dC, dI)) (ci := 0) (v := .ref (a0 0)) (C := RX0) (T := TX0) (N := 14) hx hb hts in_X0 hown hK hP 0 rfl rfl 0 (by decide) (hts _ q128) (fun _ h9 => h9) rfl dX0_set_23 ?_
      refine va_getN (D := (dC, dI)) (ci := 1) (v := .ref (a0 12)) (C := RX1) (T := TX1) (N := 13) hx hb hts in_X1 hown hK hP 9 rfl rfl 5 (by decide) (va_Nw.use rfl hN.2.2.2.2.2.1) (fun _ h9 => h9) rfl dX0_set_26 ?_
      refine lv_iload_n hx hb dX0_set_29 rfl (lv_at hl 1 rfl) ?_
      obtain ⟨gi, w⟩ := w
      refine va_iald hx hb hK hP 21 0 rfl rfl gi dX0_set_30 ?_
      refine lv_istore_n (lv' := [(3, .int (v0 10 i1.toNatClampNeg)), (0, .ref (aX 0)), (1, .int i1), (2, .int i2)]) hx hb dX0_set_31 rfl hl (by decide) rfl (fun ls hl => ?_)
      refine lv_aload_n hx hb dX0_set_32 rfl (lv_at hl 1 rfl) ?_
      refine va_get (D := (dC, dI)) (ci := 0) (v := .ref (a0 0)) (C := RX0) (T := TX0) (N := 14) hx hb hts in_X0 hown hK hP 0 rfl rfl 0 (by decide) (hts _ q128) (fun _ h9 => h9) rfl dX0_set_33 ?_
      refine va_getN (D := (dC, dI)) (ci := 1) (v := .ref (a0 12)) (C := RX1) (T := TX1) (N := 13) hx hb hts in_X1 hown hK hP 9 rfl rfl 5 (by decide) (va_Nw.use rfl hN.2.2.2.2.2.1) (fun _ h9 => h9) rfl dX0_set_36 ?_
      refine lv_iload_n hx hb dX0_set_39 rfl (lv_at hl 2 rfl) ?_
      refine lv_iload_n hx hb dX0_set_40 rfl (lv_at hl 3 rfl) ?_
      obtain ⟨gi, w⟩ := w
      refine va_iast hx hb hK hP (hD _ _ _ _ _ _) hS 21 0 rfl rfl gi dX0_set_41 (fun H locs hP _ hS => ?_)
      have hP : va_P (dC, dI) vwCl (XW aX a0 a1 a2 a3 ct x y (up2 v0 10 i1.toNatClampNeg i2) v1 v2 v3) H := XW_u_v0_10 hP
      refine lv_iload_n hx hb dX0_set_42 rfl (lv_at hl 0 rfl) ?_
      exact W.iret (v := (v0 10 i1.toNatClampNeg)) hx hb hr (fun t ht hW => ⟨⟨(v0 10 i1.toNatClampNeg), (x, y, (up2 v0 10 i1.toNatClampNeg i2), v1, v2, v3), rfl, w, by rw [ht]; exact hP, va_K.moved hW.alike hK, (hD _ _ _ _ _ _)⟩, hS.F ht⟩) hS.2.2 dX0_set_43 hlk
    · have w := And.left w c
      exact wk_X0_set_L19 X hD  _ _ _ _ _ _ w _ _ _ hP hS (lv_sub hl [] rfl)
abbrev rm_X0_say : Room := { frames := 1, cells := 0, slots := 0, locals := 22 }
theorem hd_X0_say : yX0_say.cls = RX0 ∧ yX0_say.cls ≠ "java/lang/invoke/MethodHandle" ∧ yX0_say.cls ≠ "java/lang/invoke/VarHandle" ∧ (parseMethodDescriptor yX0_say.desc).map (fun d => d.parameters.length) = some 1 := by decide +kernel
set_option maxHeartbeats 4000000 in
set_option maxRecDepth 100000 in
theorem met_X0_say (l : Launch) (dC : Nat → ClassId) (dI : Nat → Nat → Nat) (ct : Nat → ClassId) (aX : Nat → Nat) (a0 : Nat → Nat) (a1 : Nat → Nat) (a2 : Nat → Nat) (a3 : Nat → Nat) (sz : Nat) {i1 : Int32} {x : V} {y : VL} {v0 : V} {v1 : V} {v2 : V} {v3 : V} {Post : Int32 → V → VL → V → V → V → V → Prop} (w : wp_X0_say i1 x y v0 v1 v2 v3 Post) : Met l yX0_say (ws_ yX0_say cX0_say 2 (some .int)) rm_X0_say (va_Pc [.ref (aX 0), .int i1] (fun U => WPre dC dI ct (XW aX a0 a1 a2 a3 ct x y v0 v1 v2 v3) sz U)) ((fun A => (va_Qi (fun (r : Int32) (u : V × VL × V × V × V × V) => Post r u.1 u.2.1 u.2.2.1 u.2.2.2.1 u.2.2.2.2.1 u.2.2.2.2.2) (fun (u : V × VL × V × V × V × V) t => WPos dC dI ct (XW aX a0 a1 a2 a3 ct u.1 u.2.1 u.2.2.1 u.2.2.2.1 u.2.2.2.2.1 u.2.2.2.2.2) A t) A)) (va_A (XW aX a0 a1 a2 a3 ct x y v0 v1 v2 v3) sz)) 0 0 (va_A (XW aX a0 a1 a2 a3 ct x y v0 v1 v2 v3) sz) := by
  refine open_W (fun A => (va_Qi (fun (r : Int32) (u : V × VL × V × V × V × V) => Post r u.1 u.2.1 u.2.2.1 u.2.2.2.1 u.2.2.2.2.1 u.2.2.2.2.2) (fun (u : V × VL × V × V × V × V) t => WPos dC dI ct (XW aX a0 a1 a2 a3 ct u.1 u.2.1 u.2.2.1 u.2.2.2.1 u.2.2.2.2.1 u.2.2.2.2.2) A t) A)) (by decide) (Nat.le_of_ble_eq_true rfl) ?_
  intro p e s m args below meth c ls A X hD0 hP hS hl
  have X0 := X
  obtain ⟨⟨hx, hb, hml, hr, hlk, hown, hts⟩, hA, hK, hN⟩ := X0
  have hD : ∀ (x' : V) (y' : VL) (v0' : V) (v1' : V) (v2' : V) (v3' : V), va_D A (XW aX a0 a1 a2 a3 ct x' y' v0' v1' v2' v3') := fun x' y' v0' v1' v2' v3' => va_D_addr hD0 rfl
  have hl : lv_has ls 2 [(0, .ref (aX 0)), (1, .int i1)] := hl
  unfold wp_X0_say at w
  have hS0 := hS
  refine lv_iload_n hx hb dX0_say_0 rfl (lv_at hl 1 rfl) ?_
  refine lv_bipush (v := 33) hx hb dX0_say_1 (by decide) ?_
  refine lv_bipush (v := 126) hx hb dX0_say_3 (by decide) ?_
  refine vp_callSi (W.runS (As := [.int i1, .int (33 : Int32), .int (126 : Int32)]) (rest := []) ⟨hx, hb, hml, hown, hts⟩ (met_X0_isIn l w) (va_cwS 3 hts (lw_S q180 q181 q48 q182) rfl rfl rfl hd_X0_isIn ⟨Nat.le_of_ble_eq_true rfl, Nat.le_of_ble_eq_true rfl⟩) pre_S rfl rfl hl.1 rfl (lv_room (Nat.le_of_ble_eq_true rfl)) dX0_say_5 ⟨Nat.le_refl _, Nat.le_refl _⟩) (fun r1 w => ?_)
  refine lv_if_ne (tgt := 14) hx hb dX0_say_8 (by decide) (fun c => ?_) (fun c => ?_)
  · have w := And.right w c
    refine lv_aload_n hx hb dX0_say_14 rfl (lv_at hl 0 rfl) ?_
    refine va_get (D := (dC, dI)) (ci := 0) (v := .int (x 5 0)) (C := RX0) (T := TX0) (N := 14) hx hb hts in_X0 hown hK hP 0 rfl rfl 3 (by decide) (hts _ q131) (fun _ h9 => h9) rfl dX0_say_15 ?_
    refine lv_bipush (v := 60) hx hb dX0_say_18 (by decide) ?_
    refine lv_icmp_ne (tgt := 26) hx hb dX0_say_20 (by decide) (fun c => ?_) (fun c => ?_)
    · have w := And.right w c
      refine lv_aload_n hx hb dX0_say_26 rfl (lv_at hl 0 rfl) ?_
      refine va_get (D := (dC, dI)) (ci := 0) (v := .ref (aX 2)) (C := RX0) (T := TX0) (N := 14) hx hb hts in_X0 hown hK hP 0 rfl rfl 4 (by decide) (hts _ q132) (fun _ h9 => h9) rfl dX0_say_27 ?_
      refine lv_aload_n hx hb dX0_say_30 rfl (lv_at hl 0 rfl) ?_
      refine va_get (D := (dC, dI)) (ci := 0) (v := .int (x 5 0)) (C := RX0) (T := TX0) (N := 14) hx hb hts in_X0 hown hK hP 0 rfl rfl 3 (by decide) (hts _ q131) (fun _ h9 => h9) rfl dX0_say_31 ?_
      refine lv_iload_n hx hb dX0_say_34 rfl (lv_at hl 1 rfl) ?_
      refine lv_i2c hx hb dX0_say_35 rfl ?_
      obtain ⟨gi, w⟩ := w
      refine va_cast hx hb hK hP (hD _ _ _ _ _ _) hS 2 2 rfl rfl gi dX0_say_36 (fun H locs hP _ hS => ?_)
      have hP : va_P (dC, dI) vwCl (XW aX a0 a1 a2 a3 ct (up2 x 0 (x 5 0).toNatClampNeg (vp_nar .char ((i1.toUInt32 % 65536).toInt32))) y v0 v1 v2 v3) H := XW_u_x_0 hP
      refine lv_aload_n hx hb dX0_say_37 rfl (lv_at hl 0 rfl) ?_
      refine lv_dup hx hb dX0_say_38 rfl ?_
      refine va_get (D := (dC, dI)) (ci := 0) (v := .int (x 5 0)) (C := RX0) (T := TX0) (N := 14) hx hb hts in_X0 hown hK hP 0 rfl rfl 3 (by decide) (hts _ q131) (fun _ h9 => h9) rfl dX0_say_39 ?_
      refine lv_iconst (v := 1) hx hb dX0_say_42 (by decide) ?_
      refine lv_iadd hx hb dX0_say_43 ?_
      refine va_put (D := (dC, dI)) (ci := 0) (v := .int ((x 5 0) + (1 : Int32))) (ty := .int) (C := RX0) (T := TX0) (N := 14) hx hb hts in_X0 tyX0 tyX0_ok nmX0 hown hK hP (hD _ _ _ _ _ _) hS 0 rfl rfl 3 (by decide) (hts _ q131) (fun _ h9 => h9) rfl (by decide +kernel) rfl rfl (Nat.le_of_ble_eq_true rfl) dX0_say_44 (fun H locs hP _ hS => ?_)
      have hP : va_P (dC, dI) vwCl (XW aX a0 a1 a2 a3 ct (up2 (up2 x 0 (x 5 0).toNatClampNeg (vp_nar .char ((i1.toUInt32 % 65536).toInt32))) 5 0 ((x 5 0) + (1 : Int32))) y v0 v1 v2 v3) H := XW_s_x_0 hP
      refine lv_aload_n hx hb dX0_say_47 rfl (lv_at hl 0 rfl) ?_
      refine va_get (D := (dC, dI)) (ci := 0) (v := .int ((x 5 0) + (1 : Int32))) (C := RX0) (T := TX0) (N := 14) hx hb hts in_X0 hown hK hP 0 rfl rfl 3 (by decide) (hts _ q131) (fun _ h9 => h9) rfl dX0_say_48 ?_
      exact W.iret (v := ((x 5 0) + (1 : Int32))) hx hb hr (fun t ht hW => ⟨⟨((x 5 0) + (1 : Int32)), ((up2 (up2 x 0 (x 5 0).toNatClampNeg (vp_nar .char ((i1.toUInt32 % 65536).toInt32))) 5 0 ((x 5 0) + (1 : Int32))), y, v0, v1, v2, v3), rfl, w, by rw [ht]; exact hP, va_K.moved hW.alike hK, (hD _ _ _ _ _ _)⟩, hS.F ht⟩) hS.2.2 dX0_say_51 hlk
    · have w := And.left w c
      refine lv_bipush (v := -4) hx hb dX0_say_23 (by decide) ?_
      exact W.iret (v := (-4 : Int32)) hx hb hr (fun t ht hW => ⟨⟨(-4 : Int32), (x, y, v0, v1, v2, v3), rfl, w, by rw [ht]; exact hP, va_K.moved hW.alike hK, (hD _ _ _ _ _ _)⟩, hS.F ht⟩) hS.2.2 dX0_say_25 hlk
  · have w := And.left w c
    refine lv_bipush (v := -2) hx hb dX0_say_11 (by decide) ?_
    exact W.iret (v := (-2 : Int32)) hx hb hr (fun t ht hW => ⟨⟨(-2 : Int32), (x, y, v0, v1, v2, v3), rfl, w, by rw [ht]; exact hP, va_K.moved hW.alike hK, (hD _ _ _ _ _ _)⟩, hS.F ht⟩) hS.2.2 dX0_say_13 hlk
abbrev rm_X0_wipe : Room := { frames := 0, cells := 0, slots := 0, locals := 0 }
theorem hd_X0_wipe : yX0_wipe.cls = RX0 ∧ yX0_wipe.cls ≠ "java/lang/invoke/MethodHandle" ∧ yX0_wipe.cls ≠ "java/lang/invoke/VarHandle" ∧ (parseMethodDescriptor yX0_wipe.desc).map (fun d => d.parameters.length) = some 0 := by decide +kernel
set_option maxHeartbeats 4000000 in
set_option maxRecDepth 100000 in
theorem met_X0_wipe (l : Launch) (dC : Nat → ClassId) (dI : Nat → Nat → Nat) (ct : Nat → ClassId) (aX : Nat → Nat) (a0 : Nat → Nat) (a1 : Nat → Nat) (a2 : Nat → Nat) (a3 : Nat → Nat) (sz : Nat)  {x : V} {y : VL} {v0 : V} {v1 : V} {v2 : V} {v3 : V} {Post : Int32 → V → VL → V → V → V → V → Prop} (w : wp_X0_wipe x y v0 v1 v2 v3 Post) : Met l yX0_wipe (ws_ yX0_wipe cX0_wipe 2 (some .int)) rm_X0_wipe (va_Pc [.ref (aX 0)] (fun U => WPre dC dI ct (XW aX a0 a1 a2 a3 ct x y v0 v1 v2 v3) sz U)) ((fun A => (va_Qi (fun (r : Int32) (u : V × VL × V × V × V × V) => Post r u.1 u.2.1 u.2.2.1 u.2.2.2.1 u.2.2.2.2.1 u.2.2.2.2.2) (fun (u : V × VL × V × V × V × V) t => WPos dC dI ct (XW aX a0 a1 a2 a3 ct u.1 u.2.1 u.2.2.1 u.2.2.2.1 u.2.2.2.2.1 u.2.2.2.2.2) A t) A)) (va_A (XW aX a0 a1 a2 a3 ct x y v0 v1 v2 v3) sz)) 0 0 (va_A (XW aX a0 a1 a2 a3 ct x y v0 v1 v2 v3) sz) := by
  refine open_W (fun A => (va_Qi (fun (r : Int32) (u : V × VL × V × V × V × V) => Post r u.1 u.2.1 u.2.2.1 u.2.2.2.1 u.2.2.2.2.1 u.2.2.2.2.2) (fun (u : V × VL × V × V × V × V) t => WPos dC dI ct (XW aX a0 a1 a2 a3 ct u.1 u.2.1 u.2.2.1 u.2.2.2.1 u.2.2.2.2.1 u.2.2.2.2.2) A t) A)) (by decide) (Nat.le_of_ble_eq_true rfl) ?_
  intro p e s m args below meth c ls A X hD0 hP hS hl
  have X0 := X
  obtain ⟨⟨hx, hb, hml, hr, hlk, hown, hts⟩, hA, hK, hN⟩ := X0
  have hD : ∀ (x' : V) (y' : VL) (v0' : V) (v1' : V) (v2' : V) (v3' : V), va_D A (XW aX a0 a1 a2 a3 ct x' y' v0' v1' v2' v3') := fun x' y' v0' v1' v2' v3' => va_D_addr hD0 rfl
  have hl : lv_has ls 2 [(0, .ref (aX 0))] := hl
  unfold wp_X0_wipe at w
  have hS0 := hS
  refine lv_aload_n hx hb dX0_wipe_0 rfl (lv_at hl 0 rfl) ?_
  refine va_get (D := (dC, dI)) (ci := 0) (v := .int (x 5 0)) (C := RX0) (T := TX0) (N := 14) hx hb hts in_X0 hown hK hP 0 rfl rfl 3 (by decide) (hts _ q131) (fun _ h9 => h9) rfl dX0_wipe_1 ?_
  refine lv_istore_n (lv' := [(1, .int (x 5 0)), (0, .ref (aX 0))]) hx hb dX0_wipe_4 rfl hl (by decide) rfl (fun ls hl => ?_)
  refine lv_aload_n hx hb dX0_wipe_5 rfl (lv_at hl 1 rfl) ?_
  refine lv_iconst (v := 0) hx hb dX0_wipe_6 (by decide) ?_
  refine va_put (D := (dC, dI)) (ci := 0) (v := .int (0 : Int32)) (ty := .int) (C := RX0) (T := TX0) (N := 14) hx hb hts in_X0 tyX0 tyX0_ok nmX0 hown hK hP (hD _ _ _ _ _ _) hS 0 rfl rfl 3 (by decide) (hts _ q131) (fun _ h9 => h9) rfl (by decide +kernel) rfl rfl (Nat.le_of_ble_eq_true rfl) dX0_wipe_7 (fun H locs hP _ hS => ?_)
  have hP : va_P (dC, dI) vwCl (XW aX a0 a1 a2 a3 ct (up2 x 5 0 (0 : Int32)) y v0 v1 v2 v3) H := XW_s_x_0 hP
  refine lv_iload_n hx hb dX0_wipe_10 rfl (lv_at hl 0 rfl) ?_
  exact W.iret (v := (x 5 0)) hx hb hr (fun t ht hW => ⟨⟨(x 5 0), ((up2 x 5 0 (0 : Int32)), y, v0, v1, v2, v3), rfl, w, by rw [ht]; exact hP, va_K.moved hW.alike hK, (hD _ _ _ _ _ _)⟩, hS.F ht⟩) hS.2.2 dX0_wipe_11 hlk
abbrev rm_X0_faultOf : Room := { frames := 3, cells := 0, slots := 0, locals := 64 }
theorem hd_X0_faultOf : yX0_faultOf.cls = RX0 ∧ yX0_faultOf.cls ≠ "java/lang/invoke/MethodHandle" ∧ yX0_faultOf.cls ≠ "java/lang/invoke/VarHandle" ∧ (parseMethodDescriptor yX0_faultOf.desc).map (fun d => d.parameters.length) = some 0 := by decide +kernel
set_option maxHeartbeats 4000000 in
set_option maxRecDepth 100000 in
theorem wk_X0_faultOf_L48 {p : Program} {l : Launch} {e : Env} {s : State} {m : MethodId} {args : Array Value} {below : List Frame} {meth : Method} {c : Code} {dC : Nat → ClassId} {dI : Nat → Nat → Nat} {ct : Nat → ClassId} {A : Nat → Prop} {aX : Nat → Nat} {a0 : Nat → Nat} {a1 : Nat → Nat} {a2 : Nat → Nat} {a3 : Nat → Nat} {Post : Int32 → V → VL → V → V → V → V → Prop}   (X : CxW p s m args meth c cX0_faultOf 3 (some .int) RX0 dC dI ct A) (hD : ∀ (x : V) (y : VL) (v0 : V) (v1 : V) (v2 : V) (v3 : V), va_D A (XW aX a0 a1 a2 a3 ct x y v0 v1 v2 v3))  (is0 : Int32) (x : V) (y : VL) (v0 : V) (v1 : V) (v2 : V) (v3 : V) (w : wp_X0_faultOf_L48  Post  is0 x y v0 v1 v2 v3) : ∀ (H : Heap) (locs : List Loc) (ls : Array Slot), va_P (dC, dI) vwCl (XW aX a0 a1 a2 a3 ct x y v0 v1 v2 v3) H → va_S A s.heap H locs → lv_has ls 3 [] → W p l e rm_X0_faultOf s m args below meth c H locs 0 0 (MQ below (va_Qi (fun (r : Int32) (u : V × VL × V × V × V × V) => Post r u.1 u.2.1 u.2.2.1 u.2.2.2.1 u.2.2.2.2.1 u.2.2.2.2.2) (fun (u : V × VL × V × V × V × V) t => WPos dC dI ct (XW aX a0 a1 a2 a3 ct u.1 u.2.1 u.2.2.1 u.2.2.2.1 u.2.2.2.2.1 u.2.2.2.2.2) A t) A) args s 0 0 A) (F0 m 48 ls [.int is0]) := by
  intro H locs ls hP hS hl
  have X0 := X
  obtain ⟨⟨hx, hb, hml, hr, hlk, hown, hts⟩, hA, hK, hN⟩ := X0
  unfold wp_X0_faultOf_L48 at w
  exact W.iret (v := is0) hx hb hr (fun t ht hW => ⟨⟨is0, (x, y, v0, v1, v2, v3), rfl, w, by rw [ht]; exact hP, va_K.moved hW.alike hK, (hD _ _ _ _ _ _)⟩, hS.F ht⟩) hS.2.2 dX0_faultOf_48 hlk
set_option maxHeartbeats 4000000 in
set_option maxRecDepth 100000 in
theorem wk_X0_faultOf_S4 {p : Program} {l : Launch} {e : Env} {s : State} {m : MethodId} {args : Array Value} {below : List Frame} {meth : Method} {c : Code} {dC : Nat → ClassId} {dI : Nat → Nat → Nat} {ct : Nat → ClassId} {A : Nat → Prop} {aX : Nat → Nat} {a0 : Nat → Nat} {a1 : Nat → Nat} {a2 : Nat → Nat} {a3 : Nat → Nat} {Post : Int32 → V → VL → V → V → V → V → Prop} {K4 : Int32 → Int32 → V → VL → V → V → V → V → Prop}  (X : CxW p s m args meth c cX0_faultOf 3 (some .int) RX0 dC dI ct A) (hD : ∀ (x : V) (y : VL) (v0 : V) (v1 : V) (v2 : V) (v3 : V), va_D A (XW aX a0 a1 a2 a3 ct x y v0 v1 v2 v3)) (hK4 : ∀ (i1 : Int32) (i2 : Int32) (x : V) (y : VL) (v0 : V) (v1 : V) (v2 : V) (v3 : V), K4 i1 i2 x y v0 v1 v2 v3 → ∀ (H : Heap) (locs : List Loc) (ls : Array Slot), va_P (dC, dI) vwCl (XW aX a0 a1 a2 a3 ct x y v0 v1 v2 v3) H → va_S A s.heap H locs → lv_has ls 3 [(0, .ref (aX 0)), (1, .int i1), (2, .int i2)] → W p l e rm_X0_faultOf s m args below meth c H locs 0 0 (MQ below (va_Qi (fun (r : Int32) (u : V × VL × V × V × V × V) => Post r u.1 u.2.1 u.2.2.1 u.2.2.2.1 u.2.2.2.2.1 u.2.2.2.2.2) (fun (u : V × VL × V × V × V × V) t => WPos dC dI ct (XW aX a0 a1 a2 a3 ct u.1 u.2.1 u.2.2.1 u.2.2.2.1 u.2.2.2.2.1 u.2.2.2.2.2) A t) A) args s 0 0 A) (F0 m 4 ls [])) (i1 : Int32) (i2 : Int32) (x : V) (y : VL) (v0 : V) (v1 : V) (v2 : V) (v3 : V) (w : wp_X0_faultOf_S4  Post K4 i1 i2 x y v0 v1 v2 v3) : ∀ (H : Heap) (locs : List Loc) (ls : Array Slot), va_P (dC, dI) vwCl (XW aX a0 a1 a2 a3 ct x y v0 v1 v2 v3) H → va_S A s.heap H locs → lv_has ls 3 [(0, .ref (aX 0)), (1, .int i1), (2, .int i2)] → W p l e rm_X0_faultOf s m args below meth c H locs 0 0 (MQ below (va_Qi (fun (r : Int32) (u : V × VL × V × V × V × V) => Post r u.1 u.2.1 u.2.2.1 u.2.2.2.1 u.2.2.2.2.1 u.2.2.2.2.2) (fun (u : V × VL × V × V × V × V) t => WPos dC dI ct (XW aX a0 a1 a2 a3 ct u.1 u.2.1 u.2.2.1 u.2.2.2.1 u.2.2.2.2.1 u.2.2.2.2.2) A t) A) args s 0 0 A) (F0 m 4 ls []) := by
  intro H locs ls hP hS hl
  have X0 := X
  obtain ⟨⟨hx, hb, hml, hr, hlk, hown, hts⟩, hA, hK, hN⟩ := X0
  unfold wp_X0_faultOf_S4 at w
  refine lv_iload_n hx hb dX0_faultOf_4 rfl (lv_at hl 2 rfl) ?_
  refine lv_aload_n hx hb dX0_faultOf_5 rfl (lv_at hl 0 rfl) ?_
  refine va_get (D := (dC, dI)) (ci := 0) (v := .int (x 5 0)) (C := RX0) (T := TX0) (N := 14) hx hb hts in_X0 hown hK hP 0 rfl rfl 3 (by decide) (hts _ q131) (fun _ h9 => h9) rfl dX0_faultOf_6 ?_
  refine lv_icmp_ge (tgt := 35) hx hb dX0_faultOf_9 (by decide) (fun c => ?_) (fun c => ?_)
  · have w := And.left w c
    refine lv_iload_n hx hb dX0_faultOf_35 rfl (lv_at hl 1 rfl) ?_
    refine lv_if_ne (tgt := 44) hx hb dX0_faultOf_36 (by decide) (fun c => ?_) (fun c => ?_)
    · have w := And.right w c
      refine lv_aload_n hx hb dX0_faultOf_44 rfl (lv_at hl 0 rfl) ?_
      refine va_get (D := (dC, dI)) (ci := 0) (v := .int (x 5 0)) (C := RX0) (T := TX0) (N := 14) hx hb hts in_X0 hown hK hP 0 rfl rfl 3 (by decide) (hts _ q131) (fun _ h9 => h9) rfl dX0_faultOf_45 ?_
      exact wk_X0_faultOf_L48 X hD  _ _ _ _ _ _ _ w _ _ _ hP hS (lv_sub hl [] rfl)
    · have w := And.left w c
      refine lv_bipush (v := -6) hx hb dX0_faultOf_39 (by decide) ?_
      refine lv_goto (tgt := 48) hx hb dX0_faultOf_41 (by decide) ?_
      exact wk_X0_faultOf_L48 X hD  _ _ _ _ _ _ _ w _ _ _ hP hS (lv_sub hl [] rfl)
  · have w := And.right w c
    refine lv_iload_n hx hb dX0_faultOf_12 rfl (lv_at hl 1 rfl) ?_
    refine lv_aload_n hx hb dX0_faultOf_13 rfl (lv_at hl 0 rfl) ?_
    refine va_get (D := (dC, dI)) (ci := 0) (v := .ref (aX 2)) (C := RX0) (T := TX0) (N := 14) hx hb hts in_X0 hown hK hP 0 rfl rfl 4 (by decide) (hts _ q132) (fun _ h9 => h9) rfl dX0_faultOf_14 ?_
    refine lv_iload_n hx hb dX0_faultOf_17 rfl (lv_at hl 2 rfl) ?_
    obtain ⟨gi, w⟩ := w
    refine va_cald hx hb hK hP 2 2 rfl rfl gi dX0_faultOf_18 ?_
    refine vp_callSi (W.runS (As := [.int i1, .int (x 0 i2.toNatClampNeg)]) (rest := []) ⟨hx, hb, hml, hown, hts⟩ (met_X0_step l w) (va_cwS 2 hts (lw_S q218 q219 q48 q220) rfl rfl rfl hd_X0_step ⟨Nat.le_of_ble_eq_true rfl, Nat.le_of_ble_eq_true rfl⟩) pre_S rfl rfl hl.1 rfl (lv_room (Nat.le_of_ble_eq_true rfl)) dX0_faultOf_19 ⟨Nat.le_refl _, Nat.le_refl _⟩) (fun r1 w => ?_)
    refine lv_istore_n (lv' := [(1, .int r1), (0, .ref (aX 0)), (2, .int i2)]) hx hb dX0_faultOf_22 rfl hl (by decide) rfl (fun ls hl => ?_)
    refine lv_iload_n hx hb dX0_faultOf_23 rfl (lv_at hl 0 rfl) ?_
    refine lv_if_ge (tgt := 29) hx hb dX0_faultOf_24 (by decide) (fun c => ?_) (fun c => ?_)
    · have w := And.left w c
      refine lv_iinc (v := (i2 + 1)) (lv' := [(2, .int (i2 + 1)), (1, .int r1), (0, .ref (aX 0))]) hx hb dX0_faultOf_29 hl (k := 2) rfl rfl (by decide) rfl (fun ls hl => ?_)
      refine lv_goto (tgt := 4) hx hb dX0_faultOf_32 (by decide) ?_
      exact hK4 _ _ _ _ _ _ _ _ w _ _ _ hP hS (lv_sub hl [2, 1, 0] rfl)
    · have w := And.right w c
      refine lv_iload_n hx hb dX0_faultOf_27 rfl (lv_at hl 2 rfl) ?_
      exact W.iret (v := i2) hx hb hr (fun t ht hW => ⟨⟨i2, (x, y, v0, v1, v2, v3), rfl, w, by rw [ht]; exact hP, va_K.moved hW.alike hK, (hD _ _ _ _ _ _)⟩, hS.F ht⟩) hS.2.2 dX0_faultOf_28 hlk
set_option maxHeartbeats 4000000 in
set_option maxRecDepth 100000 in
theorem wk_X0_faultOf_L4 {p : Program} {l : Launch} {e : Env} {s : State} {m : MethodId} {args : Array Value} {below : List Frame} {meth : Method} {c : Code} {dC : Nat → ClassId} {dI : Nat → Nat → Nat} {ct : Nat → ClassId} {A : Nat → Prop} {aX : Nat → Nat} {a0 : Nat → Nat} {a1 : Nat → Nat} {a2 : Nat → Nat} {a3 : Nat → Nat} {Post : Int32 → V → VL → V → V → V → V → Prop}   (X : CxW p s m args meth c cX0_faultOf 3 (some .int) RX0 dC dI ct A) (hD : ∀ (x : V) (y : VL) (v0 : V) (v1 : V) (v2 : V) (v3 : V), va_D A (XW aX a0 a1 a2 a3 ct x y v0 v1 v2 v3))  : ∀ (n : Nat) (i1 : Int32) (i2 : Int32) (x : V) (y : VL) (v0 : V) (v1 : V) (v2 : V) (v3 : V), wp_X0_faultOf_L4  Post  n i1 i2 x y v0 v1 v2 v3 → ∀ (H : Heap) (locs : List Loc) (ls : Array Slot), va_P (dC, dI) vwCl (XW aX a0 a1 a2 a3 ct x y v0 v1 v2 v3) H → va_S A s.heap H locs → lv_has ls 3 [(0, .ref (aX 0)), (1, .int i1), (2, .int i2)] → W p l e rm_X0_faultOf s m args below meth c H locs 0 0 (MQ below (va_Qi (fun (r : Int32) (u : V × VL × V × V × V × V) => Post r u.1 u.2.1 u.2.2.1 u.2.2.2.1 u.2.2.2.2.1 u.2.2.2.2.2) (fun (u : V × VL × V × V × V × V) t => WPos dC dI ct (XW aX a0 a1 a2 a3 ct u.1 u.2.1 u.2.2.1 u.2.2.2.1 u.2.2.2.2.1 u.2.2.2.2.2) A t) A) args s 0 0 A) (F0 m 4 ls []) := by
  intro n
  induction n with
  | zero => intro i1 i2 x y v0 v1 v2 v3 w; exact False.elim w
  | succ n ih => intro i1 i2 x y v0 v1 v2 v3 w H locs ls hP hS hl; exact wk_X0_faultOf_S4 X hD  ih i1 i2 x y v0 v1 v2 v3 w H locs ls hP hS hl
set_option maxHeartbeats 4000000 in
set_option maxRecDepth 100000 in
theorem met_X0_faultOf (l : Launch) (dC : Nat → ClassId) (dI : Nat → Nat → Nat) (ct : Nat → ClassId) (aX : Nat → Nat) (a0 : Nat → Nat) (a1 : Nat → Nat) (a2 : Nat → Nat) (a3 : Nat → Nat) (sz : Nat)  {x : V} {y : VL} {v0 : V} {v1 : V} {v2 : V} {v3 : V} {Post : Int32 → V → VL → V → V → V → V → Prop} (w : wp_X0_faultOf x y v0 v1 v2 v3 Post) : Met l yX0_faultOf (ws_ yX0_faultOf cX0_faultOf 3 (some .int)) rm_X0_faultOf (va_Pc [.ref (aX 0)] (fun U => WPre dC dI ct (XW aX a0 a1 a2 a3 ct x y v0 v1 v2 v3) sz U)) ((fun A => (va_Qi (fun (r : Int32) (u : V × VL × V × V × V × V) => Post r u.1 u.2.1 u.2.2.1 u.2.2.2.1 u.2.2.2.2.1 u.2.2.2.2.2) (fun (u : V × VL × V × V × V × V) t => WPos dC dI ct (XW aX a0 a1 a2 a3 ct u.1 u.2.1 u.2.2.1 u.2.2.2.1 u.2.2.2.2.1 u.2.2.2.2.2) A t) A)) (va_A (XW aX a0 a1 a2 a3 ct x y v0 v1 v2 v3) sz)) 0 0 (va_A (XW aX a0 a1 a2 a3 ct x y v0 v1 v2 v3) sz) := by
  refine open_W (fun A => (va_Qi (fun (r : Int32) (u : V × VL × V × V × V × V) => Post r u.1 u.2.1 u.2.2.1 u.2.2.2.1 u.2.2.2.2.1 u.2.2.2.2.2) (fun (u : V × VL × V × V × V × V) t => WPos dC dI ct (XW aX a0 a1 a2 a3 ct u.1 u.2.1 u.2.2.1 u.2.2.2.1 u.2.2.2.2.1 u.2.2.2.2.2) A t) A)) (by decide) (Nat.le_of_ble_eq_true rfl) ?_
  intro p e s m args below meth c ls A X hD0 hP hS hl
  have X0 := X
  obtain ⟨⟨hx, hb, hml, hr, hlk, hown, hts⟩, hA, hK, hN⟩ := X0
  have hD : ∀ (x' : V) (y' : VL) (v0' : V) (v1' : V) (v2' : V) (v3' : V), va_D A (XW aX a0 a1 a2 a3 ct x' y' v0' v1' v2' v3') := fun x' y' v0' v1' v2' v3' => va_D_addr hD0 rfl
  have hl : lv_has ls 3 [(0, .ref (aX 0))] := hl
  unfold wp_X0_faultOf at w
  have hS0 := hS
  refine lv_iconst (v := 0) hx hb dX0_faultOf_0 (by decide) ?_
  refine lv_istore_n (lv' := [(1, .int (0 : Int32)), (0, .ref (aX 0))]) hx hb dX0_faultOf_1 rfl hl (by decide) rfl (fun ls hl => ?_)
  refine lv_iconst (v := 0) hx hb dX0_faultOf_2 (by decide) ?_
  refine lv_istore_n (lv' := [(2, .int (0 : Int32)), (1, .int (0 : Int32)), (0, .ref (aX 0))]) hx hb dX0_faultOf_3 rfl hl (by decide) rfl (fun ls hl => ?_)
  obtain ⟨n, w⟩ := w
  exact wk_X0_faultOf_L4 X hD  n _ _ _ _ _ _ _ _ w _ _ _ hP hS (lv_sub hl [2, 1, 0] rfl)
abbrev rm_X0_fault : Room := { frames := 4, cells := 0, slots := 0, locals := 86 }
theorem hd_X0_fault : yX0_fault.cls = RX0 ∧ yX0_fault.cls ≠ "java/lang/invoke/MethodHandle" ∧ yX0_fault.cls ≠ "java/lang/invoke/VarHandle" ∧ (parseMethodDescriptor yX0_fault.desc).map (fun d => d.parameters.length) = some 0 := by decide +kernel
set_option maxHeartbeats 4000000 in
set_option maxRecDepth 100000 in
theorem met_X0_fault (l : Launch) (dC : Nat → ClassId) (dI : Nat → Nat → Nat) (ct : Nat → ClassId) (aX : Nat → Nat) (a0 : Nat → Nat) (a1 : Nat → Nat) (a2 : Nat → Nat) (a3 : Nat → Nat) (sz : Nat)  {x : V} {y : VL} {v0 : V} {v1 : V} {v2 : V} {v3 : V} {Post : Int32 → V → VL → V → V → V → V → Prop} (w : wp_X0_fault x y v0 v1 v2 v3 Post) : Met l yX0_fault (ws_ yX0_fault cX0_fault 1 (some .int)) rm_X0_fault (va_Pc [.ref (aX 0)] (fun U => WPre dC dI ct (XW aX a0 a1 a2 a3 ct x y v0 v1 v2 v3) sz U)) ((fun A => (va_Qi (fun (r : Int32) (u : V × VL × V × V × V × V) => Post r u.1 u.2.1 u.2.2.1 u.2.2.2.1 u.2.2.2.2.1 u.2.2.2.2.2) (fun (u : V × VL × V × V × V × V) t => WPos dC dI ct (XW aX a0 a1 a2 a3 ct u.1 u.2.1 u.2.2.1 u.2.2.2.1 u.2.2.2.2.1 u.2.2.2.2.2) A t) A)) (va_A (XW aX a0 a1 a2 a3 ct x y v0 v1 v2 v3) sz)) 0 0 (va_A (XW aX a0 a1 a2 a3 ct x y v0 v1 v2 v3) sz) := by
  refine open_W (fun A => (va_Qi (fun (r : Int32) (u : V × VL × V × V × V × V) => Post r u.1 u.2.1 u.2.2.1 u.2.2.2.1 u.2.2.2.2.1 u.2.2.2.2.2) (fun (u : V × VL × V × V × V × V) t => WPos dC dI ct (XW aX a0 a1 a2 a3 ct u.1 u.2.1 u.2.2.1 u.2.2.2.1 u.2.2.2.2.1 u.2.2.2.2.2) A t) A)) (by decide) (Nat.le_of_ble_eq_true rfl) ?_
  intro p e s m args below meth c ls A X hD0 hP hS hl
  have X0 := X
  obtain ⟨⟨hx, hb, hml, hr, hlk, hown, hts⟩, hA, hK, hN⟩ := X0
  have hD : ∀ (x' : V) (y' : VL) (v0' : V) (v1' : V) (v2' : V) (v3' : V), va_D A (XW aX a0 a1 a2 a3 ct x' y' v0' v1' v2' v3') := fun x' y' v0' v1' v2' v3' => va_D_addr hD0 rfl
  have hl : lv_has ls 1 [(0, .ref (aX 0))] := hl
  unfold wp_X0_fault at w
  have hS0 := hS
  refine lv_aload_n hx hb dX0_fault_0 rfl (lv_at hl 0 rfl) ?_
  refine va_calli (va_runV (As := []) (rest := []) ⟨hx, hb, hml, hown, hts⟩ (met_X0_faultOf l dC dI ct aX a0 a1 a2 a3 _ w) (cwV 0 hts (lw_V q214 q216 qs0 q48 q217) rfl rfl rfl hd_X0_faultOf ⟨Nat.le_of_ble_eq_true rfl, Nat.le_of_ble_eq_true rfl⟩) (pre_V hK hP (hD _ _ _ _ _ _) hN (va_recv hK hP (ci := 0) (q0 := 0) rfl rfl)) rfl rfl hl.1 rfl (lv_room (Nat.le_of_ble_eq_true rfl)) dX0_fault_1 ⟨Nat.le_refl _, Nat.le_refl _⟩) hS (fun q _ h => x_free (hD _ _ _ _ _ _) hS hA q h) (x_free (hD _ _ _ _ _ _) hS hA) (fun r1 u t H locs ht hvm w hB hz hk hS => ?_)
  obtain ⟨x_1, y_1, v0_1, v1_1, v2_1, v3_1⟩ := u
  dsimp only at w
  have hP : va_P (dC, dI) vwCl (XW aX a0 a1 a2 a3 ct x_1 y_1 v0_1 v1_1 v2_1 v3_1) H := post_P hB ht
  exact W.iret (v := r1) hx hb hr (fun t ht hW => ⟨⟨r1, (x_1, y_1, v0_1, v1_1, v2_1, v3_1), rfl, w, by rw [ht]; exact hP, va_K.moved hW.alike hK, (hD _ _ _ _ _ _)⟩, hS.F ht⟩) hS.2.2 dX0_fault_4 hlk
abbrev rm_X0_verb : Room := { frames := 4, cells := 0, slots := 0, locals := 95 }
theorem hd_X0_verb : yX0_verb.cls = RX0 ∧ yX0_verb.cls ≠ "java/lang/invoke/MethodHandle" ∧ yX0_verb.cls ≠ "java/lang/invoke/VarHandle" ∧ (parseMethodDescriptor yX0_verb.desc).map (fun d => d.parameters.length) = some 3 := by decide +kernel
set_option maxHeartbeats 4000000 in
set_option maxRecDepth 100000 in
theorem met_X0_verb (l : Launch) (dC : Nat → ClassId) (dI : Nat → Nat → Nat) (ct : Nat → ClassId) (aX : Nat → Nat) (a0 : Nat → Nat) (a1 : Nat → Nat) (a2 : Nat → Nat) (a3 : Nat → Nat) (sz : Nat) {i1 : Int32} {i2 : Int32} {i3 : Int32} {x : V} {y : VL} {v0 : V} {v1 : V} {v2 : V} {v3 : V} {Post : Int32 → V → VL → V → V → V → V → Prop} (w : wp_X0_verb i1 i2 i3 x y v0 v1 v2 v3 Post) : Met l yX0_verb (ws_ yX0_verb cX0_verb 4 (some .int)) rm_X0_verb (va_Pc [.ref (aX 0), .int i1, .int i2, .int i3] (fun U => WPre dC dI ct (XW aX a0 a1 a2 a3 ct x y v0 v1 v2 v3) sz U)) ((fun A => (va_Qi (fun (r : Int32) (u : V × VL × V × V × V × V) => Post r u.1 u.2.1 u.2.2.1 u.2.2.2.1 u.2.2.2.2.1 u.2.2.2.2.2) (fun (u : V × VL × V × V × V × V) t => WPos dC dI ct (XW aX a0 a1 a2 a3 ct u.1 u.2.1 u.2.2.1 u.2.2.2.1 u.2.2.2.2.1 u.2.2.2.2.2) A t) A)) (va_A (XW aX a0 a1 a2 a3 ct x y v0 v1 v2 v3) sz)) 0 0 (va_A (XW aX a0 a1 a2 a3 ct x y v0 v1 v2 v3) sz) := by
  refine open_W (fun A => (va_Qi (fun (r : Int32) (u : V × VL × V × V × V × V) => Post r u.1 u.2.1 u.2.2.1 u.2.2.2.1 u.2.2.2.2.1 u.2.2.2.2.2) (fun (u : V × VL × V × V × V × V) t => WPos dC dI ct (XW aX a0 a1 a2 a3 ct u.1 u.2.1 u.2.2.1 u.2.2.2.1 u.2.2.2.2.1 u.2.2.2.2.2) A t) A)) (by decide) (Nat.le_of_ble_eq_true rfl) ?_
  intro p e s m args below meth c ls A X hD0 hP hS hl
  have X0 := X
  obtain ⟨⟨hx, hb, hml, hr, hlk, hown, hts⟩, hA, hK, hN⟩ := X0
  have hD : ∀ (x' : V) (y' : VL) (v0' : V) (v1' : V) (v2' : V) (v3' : V), va_D A (XW aX a0 a1 a2 a3 ct x' y' v0' v1' v2' v3') := fun x' y' v0' v1' v2' v3' => va_D_addr hD0 rfl
  have hl : lv_has ls 4 [(0, .ref (aX 0)), (1, .int i1), (2, .int i2), (3, .int i3)] := hl
  unfold wp_X0_verb at w
  have hS0 := hS
  refine lv_iload_n hx hb dX0_verb_0 rfl (lv_at hl 2 rfl) ?_
  by_cases c1_0 : i2 = 36
  · have w := And.left w c1_0
    refine lv_lookup (off := 35) (tgt := 36) hx hb dX0_verb_1 rfl (by rw [c1_0] <;> rfl) (by decide) ?_
    refine lv_aload_n hx hb dX0_verb_36 rfl (lv_at hl 0 rfl) ?_
    refine va_get (D := (dC, dI)) (ci := 0) (v := .ref (a1 0)) (C := RX0) (T := TX0) (N := 14) hx hb hts in_X0 hown hK hP 0 rfl rfl 1 (by decide) (hts _ q129) (fun _ h9 => h9) rfl dX0_verb_37 ?_
    refine lv_iload_n hx hb dX0_verb_40 rfl (lv_at hl 1 rfl) ?_
    refine lv_iload_n hx hb dX0_verb_41 rfl (lv_at hl 3 rfl) ?_
    refine lv_bipush (v := 48) hx hb dX0_verb_42 (by decide) ?_
    refine lv_isub hx hb dX0_verb_44 ?_
    have hPc := XW_g1 hP
    have hDc := XW_d1 (hD x y v0 v1 v2 v3)
    refine va_calli (va_runV (As := [.int i1, .int (i3 - (48 : Int32))]) (rest := []) ⟨hx, hb, hml, hown, hts⟩ (met_X1_buy l dC dI ct a1 _ w) (cwV 2 hts (lw_V q276 q277 q278 q49 q279) rfl rfl rfl hd_X1_buy ⟨Nat.le_of_ble_eq_true rfl, Nat.le_of_ble_eq_true rfl⟩) (pre_V hK hPc hDc hN (va_recv hK hPc (ci := 1) (q0 := 0) rfl rfl)) rfl rfl hl.1 rfl (lv_room (Nat.le_of_ble_eq_true rfl)) dX0_verb_45 ⟨Nat.le_refl _, Nat.le_refl _⟩) hS (fun q _ h => x_free hDc hS hA q h) (x_free hDc hS hA) (fun r2 v1_2 t H locs ht hvm w hB hz hk hS => ?_)
    have hP := XW_j1 hP (hD _ _ _ _ _ _) hk (post_P hB ht)
    have hP : va_P (dC, dI) vwCl (XW aX a0 a1 a2 a3 ct x y v0 v1_2 v2 v3) H := hP
    exact W.iret (v := r2) hx hb hr (fun t ht hW => ⟨⟨r2, (x, y, v0, v1_2, v2, v3), rfl, w, by rw [ht]; exact hP, va_K.moved hW.alike hK, (hD _ _ _ _ _ _)⟩, hS.F ht⟩) hS.2.2 dX0_verb_48 hlk
  have w := And.right w c1_0
  by_cases c1_1 : i2 = 47
  · have w := And.left w c1_1
    refine lv_lookup (off := 48) (tgt := 49) hx hb dX0_verb_1 rfl (by rw [c1_1] <;> rfl) (by decide) ?_
    refine lv_aload_n hx hb dX0_verb_49 rfl (lv_at hl 0 rfl) ?_
    refine va_get (D := (dC, dI)) (ci := 0) (v := .ref (a1 0)) (C := RX0) (T := TX0) (N := 14) hx hb hts in_X0 hown hK hP 0 rfl rfl 1 (by decide) (hts _ q129) (fun _ h9 => h9) rfl dX0_verb_50 ?_
    refine lv_iload_n hx hb dX0_verb_53 rfl (lv_at hl 1 rfl) ?_
    refine lv_bipush (v := 10) hx hb dX0_verb_54 (by decide) ?_
    refine lv_iload_n hx hb dX0_verb_56 rfl (lv_at hl 3 rfl) ?_
    refine lv_bipush (v := 48) hx hb dX0_verb_57 (by decide) ?_
    refine lv_isub hx hb dX0_verb_59 ?_
    refine lv_imul hx hb dX0_verb_60 ?_
    have hPc := XW_g1 hP
    have hDc := XW_d1 (hD x y v0 v1 v2 v3)
    refine va_calli (va_runV (As := [.int i1, .int ((10 : Int32) * (i3 - (48 : Int32)))]) (rest := []) ⟨hx, hb, hml, hown, hts⟩ (met_X1_change l dC dI ct a1 _ w) (cwV 2 hts (lw_V q280 q281 q282 q49 q283) rfl rfl rfl hd_X1_change ⟨Nat.le_of_ble_eq_true rfl, Nat.le_of_ble_eq_true rfl⟩) (pre_V hK hPc hDc hN (va_recv hK hPc (ci := 1) (q0 := 0) rfl rfl)) rfl rfl hl.1 rfl (lv_room (Nat.le_of_ble_eq_true rfl)) dX0_verb_61 ⟨Nat.le_refl _, Nat.le_refl _⟩) hS (fun q _ h => x_free hDc hS hA q h) (x_free hDc hS hA) (fun r3 v1_3 t H locs ht hvm w hB hz hk hS => ?_)
    have hP := XW_j1 hP (hD _ _ _ _ _ _) hk (post_P hB ht)
    have hP : va_P (dC, dI) vwCl (XW aX a0 a1 a2 a3 ct x y v0 v1_3 v2 v3) H := hP
    exact W.iret (v := r3) hx hb hr (fun t ht hW => ⟨⟨r3, (x, y, v0, v1_3, v2, v3), rfl, w, by rw [ht]; exact hP, va_K.moved hW.alike hK, (hD _ _ _ _ _ _)⟩, hS.F ht⟩) hS.2.2 dX0_verb_64 hlk
  have w := And.right w c1_1
  by_cases c1_2 : i2 = 62
  · have w := And.left w c1_2
    refine lv_lookup (off := 64) (tgt := 65) hx hb dX0_verb_1 rfl (by rw [c1_2] <;> rfl) (by decide) ?_
    refine lv_aload_n hx hb dX0_verb_65 rfl (lv_at hl 0 rfl) ?_
    refine va_get (D := (dC, dI)) (ci := 0) (v := .ref (a1 0)) (C := RX0) (T := TX0) (N := 14) hx hb hts in_X0 hown hK hP 0 rfl rfl 1 (by decide) (hts _ q129) (fun _ h9 => h9) rfl dX0_verb_66 ?_
    refine lv_iload_n hx hb dX0_verb_69 rfl (lv_at hl 1 rfl) ?_
    refine lv_iload_n hx hb dX0_verb_70 rfl (lv_at hl 3 rfl) ?_
    refine lv_bipush (v := 65) hx hb dX0_verb_71 (by decide) ?_
    refine lv_isub hx hb dX0_verb_73 ?_
    have hPc := XW_g1 hP
    have hDc := XW_d1 (hD x y v0 v1 v2 v3)
    refine va_calli (va_runV (As := [.int i1, .int (i3 - (65 : Int32))]) (rest := []) ⟨hx, hb, hml, hown, hts⟩ (met_X1_pay l dC dI ct a1 _ w) (cwV 2 hts (lw_V q285 q286 q287 q49 q288) rfl rfl rfl hd_X1_pay ⟨Nat.le_of_ble_eq_true rfl, Nat.le_of_ble_eq_true rfl⟩) (pre_V hK hPc hDc hN (va_recv hK hPc (ci := 1) (q0 := 0) rfl rfl)) rfl rfl hl.1 rfl (lv_room (Nat.le_of_ble_eq_true rfl)) dX0_verb_74 ⟨Nat.le_refl _, Nat.le_refl _⟩) hS (fun q _ h => x_free hDc hS hA q h) (x_free hDc hS hA) (fun r4 v1_4 t H locs ht hvm w hB hz hk hS => ?_)
    have hP := XW_j1 hP (hD _ _ _ _ _ _) hk (post_P hB ht)
    have hP : va_P (dC, dI) vwCl (XW aX a0 a1 a2 a3 ct x y v0 v1_4 v2 v3) H := hP
    exact W.iret (v := r4) hx hb hr (fun t ht hW => ⟨⟨r4, (x, y, v0, v1_4, v2, v3), rfl, w, by rw [ht]; exact hP, va_K.moved hW.alike hK, (hD _ _ _ _ _ _)⟩, hS.F ht⟩) hS.2.2 dX0_verb_77 hlk
  have w := And.right w c1_2
  refine lv_lookup (off := 77) (tgt := 78) hx hb dX0_verb_1 rfl (by show Op.lookupswitch.offset [(36, 35), (47, 48), (62, 64)] (77) _ = _; rw [lv_osw (a := 36) (k := 36) c1_0 rfl, lv_osw (a := 47) (k := 47) c1_1 rfl, lv_osw (a := 62) (k := 62) c1_2 rfl] <;> rfl) (by decide) ?_
  refine lv_aload_n hx hb dX0_verb_78 rfl (lv_at hl 0 rfl) ?_
  refine va_get (D := (dC, dI)) (ci := 0) (v := .ref (a1 0)) (C := RX0) (T := TX0) (N := 14) hx hb hts in_X0 hown hK hP 0 rfl rfl 1 (by decide) (hts _ q129) (fun _ h9 => h9) rfl dX0_verb_79 ?_
  refine lv_iload_n hx hb dX0_verb_82 rfl (lv_at hl 1 rfl) ?_
  refine lv_bipush (v := 100) hx hb dX0_verb_83 (by decide) ?_
  refine lv_iload_n hx hb dX0_verb_85 rfl (lv_at hl 3 rfl) ?_
  refine lv_bipush (v := 48) hx hb dX0_verb_86 (by decide) ?_
  refine lv_isub hx hb dX0_verb_88 ?_
  refine lv_imul hx hb dX0_verb_89 ?_
  have hPc := XW_g1 hP
  have hDc := XW_d1 (hD x y v0 v1 v2 v3)
  refine va_calli (va_runV (As := [.int i1, .int ((100 : Int32) * (i3 - (48 : Int32)))]) (rest := []) ⟨hx, hb, hml, hown, hts⟩ (met_X1_spend l dC dI ct a1 _ w) (cwV 2 hts (lw_V q292 q293 q294 q49 q295) rfl rfl rfl hd_X1_spend ⟨Nat.le_of_ble_eq_true rfl, Nat.le_of_ble_eq_true rfl⟩) (pre_V hK hPc hDc hN (va_recv hK hPc (ci := 1) (q0 := 0) rfl rfl)) rfl rfl hl.1 rfl (lv_room (Nat.le_of_ble_eq_true rfl)) dX0_verb_90 ⟨Nat.le_refl _, Nat.le_refl _⟩) hS (fun q _ h => x_free hDc hS hA q h) (x_free hDc hS hA) (fun r5 v1_5 t H locs ht hvm w hB hz hk hS => ?_)
  have hP := XW_j1 hP (hD _ _ _ _ _ _) hk (post_P hB ht)
  have hP : va_P (dC, dI) vwCl (XW aX a0 a1 a2 a3 ct x y v0 v1_5 v2 v3) H := hP
  exact W.iret (v := r5) hx hb hr (fun t ht hW => ⟨⟨r5, (x, y, v0, v1_5, v2, v3), rfl, w, by rw [ht]; exact hP, va_K.moved hW.alike hK, (hD _ _ _ _ _ _)⟩, hS.F ht⟩) hS.2.2 dX0_verb_93 hlk
abbrev rm_X0_act : Room := { frames := 5, cells := 0, slots := 0, locals := 118 }
theorem hd_X0_act : yX0_act.cls = RX0 ∧ yX0_act.cls ≠ "java/lang/invoke/MethodHandle" ∧ yX0_act.cls ≠ "java/lang/invoke/VarHandle" ∧ (parseMethodDescriptor yX0_act.desc).map (fun d => d.parameters.length) = some 1 := by decide +kernel
set_option maxHeartbeats 4000000 in
set_option maxRecDepth 100000 in
theorem met_X0_act (l : Launch) (dC : Nat → ClassId) (dI : Nat → Nat → Nat) (ct : Nat → ClassId) (aX : Nat → Nat) (a0 : Nat → Nat) (a1 : Nat → Nat) (a2 : Nat → Nat) (a3 : Nat → Nat) (sz : Nat) {i1 : Int32} {x : V} {y : VL} {v0 : V} {v1 : V} {v2 : V} {v3 : V} {Post : Int32 → V → VL → V → V → V → V → Prop} (w : wp_X0_act i1 x y v0 v1 v2 v3 Post) : Met l yX0_act (ws_ yX0_act cX0_act 2 (some .int)) rm_X0_act (va_Pc [.ref (aX 0), .int i1] (fun U => WPre dC dI ct (XW aX a0 a1 a2 a3 ct x y v0 v1 v2 v3) sz U)) ((fun A => (va_Qi (fun (r : Int32) (u : V × VL × V × V × V × V) => Post r u.1 u.2.1 u.2.2.1 u.2.2.2.1 u.2.2.2.2.1 u.2.2.2.2.2) (fun (u : V × VL × V × V × V × V) t => WPos dC dI ct (XW aX a0 a1 a2 a3 ct u.1 u.2.1 u.2.2.1 u.2.2.2.1 u.2.2.2.2.1 u.2.2.2.2.2) A t) A)) (va_A (XW aX a0 a1 a2 a3 ct x y v0 v1 v2 v3) sz)) 0 0 (va_A (XW aX a0 a1 a2 a3 ct x y v0 v1 v2 v3) sz) := by
  refine open_W (fun A => (va_Qi (fun (r : Int32) (u : V × VL × V × V × V × V) => Post r u.1 u.2.1 u.2.2.1 u.2.2.2.1 u.2.2.2.2.1 u.2.2.2.2.2) (fun (u : V × VL × V × V × V × V) t => WPos dC dI ct (XW aX a0 a1 a2 a3 ct u.1 u.2.1 u.2.2.1 u.2.2.2.1 u.2.2.2.2.1 u.2.2.2.2.2) A t) A)) (by decide) (Nat.le_of_ble_eq_true rfl) ?_
  intro p e s m args below meth c ls A X hD0 hP hS hl
  have X0 := X
  obtain ⟨⟨hx, hb, hml, hr, hlk, hown, hts⟩, hA, hK, hN⟩ := X0
  have hD : ∀ (x' : V) (y' : VL) (v0' : V) (v1' : V) (v2' : V) (v3' : V), va_D A (XW aX a0 a1 a2 a3 ct x' y' v0' v1' v2' v3') := fun x' y' v0' v1' v2' v3' => va_D_addr hD0 rfl
  have hl : lv_has ls 2 [(0, .ref (aX 0)), (1, .int i1)] := hl
  unfold wp_X0_act at w
  have hS0 := hS
  refine lv_aload_n hx hb dX0_act_0 rfl (lv_at hl 0 rfl) ?_
  refine va_get (D := (dC, dI)) (ci := 0) (v := .ref (aX 2)) (C := RX0) (T := TX0) (N := 14) hx hb hts in_X0 hown hK hP 0 rfl rfl 4 (by decide) (hts _ q132) (fun _ h9 => h9) rfl dX0_act_1 ?_
  refine lv_iload_n hx hb dX0_act_4 rfl (lv_at hl 1 rfl) ?_
  obtain ⟨gi, w⟩ := w
  refine va_cald hx hb hK hP 2 2 rfl rfl gi dX0_act_5 ?_
  by_cases c1_0 : (x 0 i1.toNatClampNeg) = 33
  · have w := And.left w c1_0
    refine lv_lookup (off := 63) (tgt := 69) hx hb dX0_act_6 rfl (by rw [c1_0] <;> rfl) (by decide) ?_
    refine lv_aload_n hx hb dX0_act_69 rfl (lv_at hl 0 rfl) ?_
    refine lv_aload_n hx hb dX0_act_70 rfl (lv_at hl 0 rfl) ?_
    refine va_get (D := (dC, dI)) (ci := 0) (v := .ref (a1 0)) (C := RX0) (T := TX0) (N := 14) hx hb hts in_X0 hown hK hP 0 rfl rfl 1 (by decide) (hts _ q129) (fun _ h9 => h9) rfl dX0_act_71 ?_
    refine lv_aload_n hx hb dX0_act_74 rfl (lv_at hl 0 rfl) ?_
    refine va_get (D := (dC, dI)) (ci := 0) (v := .ref (aX 2)) (C := RX0) (T := TX0) (N := 14) hx hb hts in_X0 hown hK hP 0 rfl rfl 4 (by decide) (hts _ q132) (fun _ h9 => h9) rfl dX0_act_75 ?_
    refine lv_iload_n hx hb dX0_act_78 rfl (lv_at hl 1 rfl) ?_
    refine lv_iconst (v := 1) hx hb dX0_act_79 (by decide) ?_
    refine lv_iadd hx hb dX0_act_80 ?_
    obtain ⟨gi, w⟩ := w
    refine va_cald hx hb hK hP 2 2 rfl rfl gi dX0_act_81 ?_
    refine lv_bipush (v := 65) hx hb dX0_act_82 (by decide) ?_
    refine lv_isub hx hb dX0_act_84 ?_
    refine lv_bipush (v := 100) hx hb dX0_act_85 (by decide) ?_
    refine lv_aload_n hx hb dX0_act_87 rfl (lv_at hl 0 rfl) ?_
    refine va_get (D := (dC, dI)) (ci := 0) (v := .ref (aX 2)) (C := RX0) (T := TX0) (N := 14) hx hb hts in_X0 hown hK hP 0 rfl rfl 4 (by decide) (hts _ q132) (fun _ h9 => h9) rfl dX0_act_88 ?_
    refine lv_iload_n hx hb dX0_act_91 rfl (lv_at hl 1 rfl) ?_
    refine lv_iconst (v := 2) hx hb dX0_act_92 (by decide) ?_
    refine lv_iadd hx hb dX0_act_93 ?_
    obtain ⟨gi, w⟩ := w
    refine va_cald hx hb hK hP 2 2 rfl rfl gi dX0_act_94 ?_
    refine lv_bipush (v := 48) hx hb dX0_act_95 (by decide) ?_
    refine lv_isub hx hb dX0_act_97 ?_
    refine lv_imul hx hb dX0_act_98 ?_
    have hPc := XW_g1 hP
    have hDc := XW_d1 (hD x y v0 v1 v2 v3)
    refine va_calli (va_runV (As := [.int ((x 0 (i1 + (1 : Int32)).toNatClampNeg) - (65 : Int32)), .int ((100 : Int32) * ((x 0 (i1 + (2 : Int32)).toNatClampNeg) - (48 : Int32)))]) (rest := [.ref (aX 0)]) ⟨hx, hb, hml, hown, hts⟩ (met_X1_forge l dC dI ct a1 _ w) (cwV 2 hts (lw_V q245 q246 q247 q49 q248) rfl rfl rfl hd_X1_forge ⟨Nat.le_of_ble_eq_true rfl, Nat.le_of_ble_eq_true rfl⟩) (pre_V hK hPc hDc hN (va_recv hK hPc (ci := 1) (q0 := 0) rfl rfl)) rfl rfl hl.1 rfl (lv_room (Nat.le_of_ble_eq_true rfl)) dX0_act_99 ⟨Nat.le_refl _, Nat.le_refl _⟩) hS (fun q _ h => x_free hDc hS hA q h) (x_free hDc hS hA) (fun r2 v1_2 t H locs ht hvm w hB hz hk hS => ?_)
    have hP := XW_j1 hP (hD _ _ _ _ _ _) hk (post_P hB ht)
    have hP : va_P (dC, dI) vwCl (XW aX a0 a1 a2 a3 ct x y v0 v1_2 v2 v3) H := hP
    refine va_put (D := (dC, dI)) (ci := 0) (v := .int r2) (ty := .int) (C := RX0) (T := TX0) (N := 14) hx hb hts in_X0 tyX0 tyX0_ok nmX0 hown hK hP (hD _ _ _ _ _ _) hS 0 rfl rfl 5 (by decide) (hts _ q133) (fun _ h9 => h9) rfl (by decide +kernel) rfl rfl (Nat.le_of_ble_eq_true rfl) dX0_act_102 (fun H locs hP _ hS => ?_)
    have hP : va_P (dC, dI) vwCl (XW aX a0 a1 a2 a3 ct (up2 x 5 1 r2) y v0 v1_2 v2 v3) H := XW_s_x_1 hP
    refine lv_iload_n hx hb dX0_act_105 rfl (lv_at hl 1 rfl) ?_
    refine lv_iconst (v := 3) hx hb dX0_act_106 (by decide) ?_
    refine lv_iadd hx hb dX0_act_107 ?_
    exact W.iret (v := (i1 + (3 : Int32))) hx hb hr (fun t ht hW => ⟨⟨(i1 + (3 : Int32)), ((up2 x 5 1 r2), y, v0, v1_2, v2, v3), rfl, w, by rw [ht]; exact hP, va_K.moved hW.alike hK, (hD _ _ _ _ _ _)⟩, hS.F ht⟩) hS.2.2 dX0_act_108 hlk
  have w := And.right w c1_0
  by_cases c1_1 : (x 0 i1.toNatClampNeg) = 43
  · have w := And.left w c1_1
    refine lv_lookup (off := 34) (tgt := 40) hx hb dX0_act_6 rfl (by rw [c1_1] <;> rfl) (by decide) ?_
    refine lv_aload_n hx hb dX0_act_40 rfl (lv_at hl 0 rfl) ?_
    refine lv_aload_n hx hb dX0_act_41 rfl (lv_at hl 0 rfl) ?_
    refine va_get (D := (dC, dI)) (ci := 0) (v := .ref (a1 0)) (C := RX0) (T := TX0) (N := 14) hx hb hts in_X0 hown hK hP 0 rfl rfl 1 (by decide) (hts _ q129) (fun _ h9 => h9) rfl dX0_act_42 ?_
    refine lv_bipush (v := 100) hx hb dX0_act_45 (by decide) ?_
    refine lv_aload_n hx hb dX0_act_47 rfl (lv_at hl 0 rfl) ?_
    refine va_get (D := (dC, dI)) (ci := 0) (v := .ref (aX 2)) (C := RX0) (T := TX0) (N := 14) hx hb hts in_X0 hown hK hP 0 rfl rfl 4 (by decide) (hts _ q132) (fun _ h9 => h9) rfl dX0_act_48 ?_
    refine lv_iload_n hx hb dX0_act_51 rfl (lv_at hl 1 rfl) ?_
    refine lv_iconst (v := 1) hx hb dX0_act_52 (by decide) ?_
    refine lv_iadd hx hb dX0_act_53 ?_
    obtain ⟨gi, w⟩ := w
    refine va_cald hx hb hK hP 2 2 rfl rfl gi dX0_act_54 ?_
    refine lv_bipush (v := 48) hx hb dX0_act_55 (by decide) ?_
    refine lv_isub hx hb dX0_act_57 ?_
    refine lv_imul hx hb dX0_act_58 ?_
    have hPc := XW_g1 hP
    have hDc := XW_d1 (hD x y v0 v1 v2 v3)
    refine va_calli (va_runV (As := [.int ((100 : Int32) * ((x 0 (i1 + (1 : Int32)).toNatClampNeg) - (48 : Int32)))]) (rest := [.ref (aX 0)]) ⟨hx, hb, hml, hown, hts⟩ (met_X1_print l dC dI ct a1 _ w) (cwV 1 hts (lw_V q240 q241 q242 q49 q243) rfl rfl rfl hd_X1_print ⟨Nat.le_of_ble_eq_true rfl, Nat.le_of_ble_eq_true rfl⟩) (pre_V hK hPc hDc hN (va_recv hK hPc (ci := 1) (q0 := 0) rfl rfl)) rfl rfl hl.1 rfl (lv_room (Nat.le_of_ble_eq_true rfl)) dX0_act_59 ⟨Nat.le_refl _, Nat.le_refl _⟩) hS (fun q _ h => x_free hDc hS hA q h) (x_free hDc hS hA) (fun r3 v1_3 t H locs ht hvm w hB hz hk hS => ?_)
    have hP := XW_j1 hP (hD _ _ _ _ _ _) hk (post_P hB ht)
    have hP : va_P (dC, dI) vwCl (XW aX a0 a1 a2 a3 ct x y v0 v1_3 v2 v3) H := hP
    refine va_put (D := (dC, dI)) (ci := 0) (v := .int r3) (ty := .int) (C := RX0) (T := TX0) (N := 14) hx hb hts in_X0 tyX0 tyX0_ok nmX0 hown hK hP (hD _ _ _ _ _ _) hS 0 rfl rfl 5 (by decide) (hts _ q133) (fun _ h9 => h9) rfl (by decide +kernel) rfl rfl (Nat.le_of_ble_eq_true rfl) dX0_act_62 (fun H locs hP _ hS => ?_)
    have hP : va_P (dC, dI) vwCl (XW aX a0 a1 a2 a3 ct (up2 x 5 1 r3) y v0 v1_3 v2 v3) H := XW_s_x_1 hP
    refine lv_iload_n hx hb dX0_act_65 rfl (lv_at hl 1 rfl) ?_
    refine lv_iconst (v := 2) hx hb dX0_act_66 (by decide) ?_
    refine lv_iadd hx hb dX0_act_67 ?_
    exact W.iret (v := (i1 + (2 : Int32))) hx hb hr (fun t ht hW => ⟨⟨(i1 + (2 : Int32)), ((up2 x 5 1 r3), y, v0, v1_3, v2, v3), rfl, w, by rw [ht]; exact hP, va_K.moved hW.alike hK, (hD _ _ _ _ _ _)⟩, hS.F ht⟩) hS.2.2 dX0_act_68 hlk
  have w := And.right w c1_1
  by_cases c1_2 : (x 0 i1.toNatClampNeg) = 46
  · have w := And.left w c1_2
    refine lv_lookup (off := 103) (tgt := 109) hx hb dX0_act_6 rfl (by rw [c1_2] <;> rfl) (by decide) ?_
    refine lv_aload_n hx hb dX0_act_109 rfl (lv_at hl 0 rfl) ?_
    refine lv_aload_n hx hb dX0_act_110 rfl (lv_at hl 0 rfl) ?_
    refine va_get (D := (dC, dI)) (ci := 0) (v := .ref (a1 0)) (C := RX0) (T := TX0) (N := 14) hx hb hts in_X0 hown hK hP 0 rfl rfl 1 (by decide) (hts _ q129) (fun _ h9 => h9) rfl dX0_act_111 ?_
    have hPc := XW_g1 hP
    have hDc := XW_d1 (hD x y v0 v1 v2 v3)
    refine va_calli (va_runV (As := []) (rest := [.ref (aX 0)]) ⟨hx, hb, hml, hown, hts⟩ (met_X1_month l dC dI ct a1 _ w) (cwV 0 hts (lw_V q249 q250 q251 q49 q252) rfl rfl rfl hd_X1_month ⟨Nat.le_of_ble_eq_true rfl, Nat.le_of_ble_eq_true rfl⟩) (pre_V hK hPc hDc hN (va_recv hK hPc (ci := 1) (q0 := 0) rfl rfl)) rfl rfl hl.1 rfl (lv_room (Nat.le_of_ble_eq_true rfl)) dX0_act_114 ⟨Nat.le_refl _, Nat.le_refl _⟩) hS (fun q _ h => x_free hDc hS hA q h) (x_free hDc hS hA) (fun r4 v1_4 t H locs ht hvm w hB hz hk hS => ?_)
    have hP := XW_j1 hP (hD _ _ _ _ _ _) hk (post_P hB ht)
    have hP : va_P (dC, dI) vwCl (XW aX a0 a1 a2 a3 ct x y v0 v1_4 v2 v3) H := hP
    refine va_put (D := (dC, dI)) (ci := 0) (v := .int r4) (ty := .int) (C := RX0) (T := TX0) (N := 14) hx hb hts in_X0 tyX0 tyX0_ok nmX0 hown hK hP (hD _ _ _ _ _ _) hS 0 rfl rfl 5 (by decide) (hts _ q133) (fun _ h9 => h9) rfl (by decide +kernel) rfl rfl (Nat.le_of_ble_eq_true rfl) dX0_act_117 (fun H locs hP _ hS => ?_)
    have hP : va_P (dC, dI) vwCl (XW aX a0 a1 a2 a3 ct (up2 x 5 1 r4) y v0 v1_4 v2 v3) H := XW_s_x_1 hP
    refine lv_aload_n hx hb dX0_act_120 rfl (lv_at hl 0 rfl) ?_
    refine va_get (D := (dC, dI)) (ci := 0) (v := .ref (aX 3)) (C := RX0) (T := TX0) (N := 14) hx hb hts in_X0 hown hK hP 0 rfl rfl 8 (by decide) (hts _ q136) (fun _ h9 => h9) rfl dX0_act_121 ?_
    refine lv_aload_n hx hb dX0_act_124 rfl (lv_at hl 0 rfl) ?_
    refine va_get (D := (dC, dI)) (ci := 0) (v := .int (x 5 3)) (C := RX0) (T := TX0) (N := 14) hx hb hts in_X0 hown hK hP 0 rfl rfl 7 (by decide) (hts _ q135) (fun _ h9 => h9) rfl dX0_act_125 ?_
    refine lv_aload_n hx hb dX0_act_128 rfl (lv_at hl 0 rfl) ?_
    refine va_get (D := (dC, dI)) (ci := 0) (v := .ref (a1 0)) (C := RX0) (T := TX0) (N := 14) hx hb hts in_X0 hown hK hP 0 rfl rfl 1 (by decide) (hts _ q129) (fun _ h9 => h9) rfl dX0_act_129 ?_
    have hPc := XW_g1 hP
    have hDc := XW_d1 (hD (up2 x 5 1 r4) y v0 v1_4 v2 v3)
    refine va_calli (va_runV (As := []) (rest := [.int (x 5 3), .ref (aX 3)]) ⟨hx, hb, hml, hown, hts⟩ (met_X1_rate l dC dI ct a1 _ w) (cwV 0 hts (lw_V q253 q254 q255 q49 q256) rfl rfl rfl hd_X1_rate ⟨Nat.le_of_ble_eq_true rfl, Nat.le_of_ble_eq_true rfl⟩) (pre_V hK hPc hDc hN (va_recv hK hPc (ci := 1) (q0 := 0) rfl rfl)) rfl rfl hl.1 rfl (lv_room (Nat.le_of_ble_eq_true rfl)) dX0_act_132 ⟨Nat.le_refl _, Nat.le_refl _⟩) hS (fun q _ h => x_free hDc hS hA q h) (x_free hDc hS hA) (fun r5 v1_5 t H locs ht hvm w hB hz hk hS => ?_)
    have hP := XW_j1 hP (hD _ _ _ _ _ _) hk (post_P hB ht)
    have hP : va_P (dC, dI) vwCl (XW aX a0 a1 a2 a3 ct (up2 x 5 1 r4) y v0 v1_5 v2 v3) H := hP
    obtain ⟨gi, w⟩ := w
    refine va_iast hx hb hK hP (hD _ _ _ _ _ _) hS 3 0 rfl rfl gi dX0_act_135 (fun H locs hP _ hS => ?_)
    have hP : va_P (dC, dI) vwCl (XW aX a0 a1 a2 a3 ct (up2 (up2 x 5 1 r4) 1 (x 5 3).toNatClampNeg r5) y v0 v1_5 v2 v3) H := XW_u_x_1 hP
    refine lv_aload_n hx hb dX0_act_136 rfl (lv_at hl 0 rfl) ?_
    refine lv_dup hx hb dX0_act_137 rfl ?_
    refine va_get (D := (dC, dI)) (ci := 0) (v := .int (x 5 3)) (C := RX0) (T := TX0) (N := 14) hx hb hts in_X0 hown hK hP 0 rfl rfl 7 (by decide) (hts _ q135) (fun _ h9 => h9) rfl dX0_act_138 ?_
    refine lv_iconst (v := 1) hx hb dX0_act_141 (by decide) ?_
    refine lv_iadd hx hb dX0_act_142 ?_
    refine va_put (D := (dC, dI)) (ci := 0) (v := .int ((x 5 3) + (1 : Int32))) (ty := .int) (C := RX0) (T := TX0) (N := 14) hx hb hts in_X0 tyX0 tyX0_ok nmX0 hown hK hP (hD _ _ _ _ _ _) hS 0 rfl rfl 7 (by decide) (hts _ q135) (fun _ h9 => h9) rfl (by decide +kernel) rfl rfl (Nat.le_of_ble_eq_true rfl) dX0_act_143 (fun H locs hP _ hS => ?_)
    have hP : va_P (dC, dI) vwCl (XW aX a0 a1 a2 a3 ct (up2 (up2 (up2 x 5 1 r4) 1 (x 5 3).toNatClampNeg r5) 5 3 ((x 5 3) + (1 : Int32))) y v0 v1_5 v2 v3) H := XW_s_x_3 hP
    refine lv_iload_n hx hb dX0_act_146 rfl (lv_at hl 1 rfl) ?_
    refine lv_iconst (v := 1) hx hb dX0_act_147 (by decide) ?_
    refine lv_iadd hx hb dX0_act_148 ?_
    exact W.iret (v := (i1 + (1 : Int32))) hx hb hr (fun t ht hW => ⟨⟨(i1 + (1 : Int32)), ((up2 (up2 (up2 x 5 1 r4) 1 (x 5 3).toNatClampNeg r5) 5 3 ((x 5 3) + (1 : Int32))), y, v0, v1_5, v2, v3), rfl, w, by rw [ht]; exact hP, va_K.moved hW.alike hK, (hD _ _ _ _ _ _)⟩, hS.F ht⟩) hS.2.2 dX0_act_149 hlk
  have w := And.right w c1_2
  refine lv_lookup (off := 144) (tgt := 150) hx hb dX0_act_6 rfl (by show Op.lookupswitch.offset [(33, 63), (43, 34), (46, 103)] (144) _ = _; rw [lv_osw (a := 33) (k := 33) c1_0 rfl, lv_osw (a := 43) (k := 43) c1_1 rfl, lv_osw (a := 46) (k := 46) c1_2 rfl] <;> rfl) (by decide) ?_
  refine lv_aload_n hx hb dX0_act_150 rfl (lv_at hl 0 rfl) ?_
  refine lv_aload_n hx hb dX0_act_151 rfl (lv_at hl 0 rfl) ?_
  refine lv_aload_n hx hb dX0_act_152 rfl (lv_at hl 0 rfl) ?_
  refine va_get (D := (dC, dI)) (ci := 0) (v := .ref (aX 2)) (C := RX0) (T := TX0) (N := 14) hx hb hts in_X0 hown hK hP 0 rfl rfl 4 (by decide) (hts _ q132) (fun _ h9 => h9) rfl dX0_act_153 ?_
  refine lv_iload_n hx hb dX0_act_156 rfl (lv_at hl 1 rfl) ?_
  obtain ⟨gi, w⟩ := w
  refine va_cald hx hb hK hP 2 2 rfl rfl gi dX0_act_157 ?_
  refine lv_bipush (v := 65) hx hb dX0_act_158 (by decide) ?_
  refine lv_isub hx hb dX0_act_160 ?_
  refine lv_aload_n hx hb dX0_act_161 rfl (lv_at hl 0 rfl) ?_
  refine va_get (D := (dC, dI)) (ci := 0) (v := .ref (aX 2)) (C := RX0) (T := TX0) (N := 14) hx hb hts in_X0 hown hK hP 0 rfl rfl 4 (by decide) (hts _ q132) (fun _ h9 => h9) rfl dX0_act_162 ?_
  refine lv_iload_n hx hb dX0_act_165 rfl (lv_at hl 1 rfl) ?_
  refine lv_iconst (v := 1) hx hb dX0_act_166 (by decide) ?_
  refine lv_iadd hx hb dX0_act_167 ?_
  obtain ⟨gi, w⟩ := w
  refine va_cald hx hb hK hP 2 2 rfl rfl gi dX0_act_168 ?_
  refine lv_aload_n hx hb dX0_act_169 rfl (lv_at hl 0 rfl) ?_
  refine va_get (D := (dC, dI)) (ci := 0) (v := .ref (aX 2)) (C := RX0) (T := TX0) (N := 14) hx hb hts in_X0 hown hK hP 0 rfl rfl 4 (by decide) (hts _ q132) (fun _ h9 => h9) rfl dX0_act_170 ?_
  refine lv_iload_n hx hb dX0_act_173 rfl (lv_at hl 1 rfl) ?_
  refine lv_iconst (v := 2) hx hb dX0_act_174 (by decide) ?_
  refine lv_iadd hx hb dX0_act_175 ?_
  obtain ⟨gi, w⟩ := w
  refine va_cald hx hb hK hP 2 2 rfl rfl gi dX0_act_176 ?_
  refine va_calli (va_runV (As := [.int ((x 0 i1.toNatClampNeg) - (65 : Int32)), .int (x 0 (i1 + (1 : Int32)).toNatClampNeg), .int (x 0 (i1 + (2 : Int32)).toNatClampNeg)]) (rest := [.ref (aX 0)]) ⟨hx, hb, hml, hown, hts⟩ (met_X0_verb l dC dI ct aX a0 a1 a2 a3 _ w) (cwV 3 hts (lw_V q272 q274 qs3 q48 q275) rfl rfl rfl hd_X0_verb ⟨Nat.le_of_ble_eq_true rfl, Nat.le_of_ble_eq_true rfl⟩) (pre_V hK hP (hD _ _ _ _ _ _) hN (va_recv hK hP (ci := 0) (q0 := 0) rfl rfl)) rfl rfl hl.1 rfl (lv_room (Nat.le_of_ble_eq_true rfl)) dX0_act_177 ⟨Nat.le_refl _, Nat.le_refl _⟩) hS (fun q _ h => x_free (hD _ _ _ _ _ _) hS hA q h) (x_free (hD _ _ _ _ _ _) hS hA) (fun r6 u t H locs ht hvm w hB hz hk hS => ?_)
  obtain ⟨x_6, y_6, v0_6, v1_6, v2_6, v3_6⟩ := u
  dsimp only at w
  have hP : va_P (dC, dI) vwCl (XW aX a0 a1 a2 a3 ct x_6 y_6 v0_6 v1_6 v2_6 v3_6) H := post_P hB ht
  refine va_put (D := (dC, dI)) (ci := 0) (v := .int r6) (ty := .int) (C := RX0) (T := TX0) (N := 14) hx hb hts in_X0 tyX0 tyX0_ok nmX0 hown hK hP (hD _ _ _ _ _ _) hS 0 rfl rfl 5 (by decide) (hts _ q133) (fun _ h9 => h9) rfl (by decide +kernel) rfl rfl (Nat.le_of_ble_eq_true rfl) dX0_act_180 (fun H locs hP _ hS => ?_)
  have hP : va_P (dC, dI) vwCl (XW aX a0 a1 a2 a3 ct (up2 x_6 5 1 r6) y_6 v0_6 v1_6 v2_6 v3_6) H := XW_s_x_1 hP
  refine lv_iload_n hx hb dX0_act_183 rfl (lv_at hl 1 rfl) ?_
  refine lv_iconst (v := 3) hx hb dX0_act_184 (by decide) ?_
  refine lv_iadd hx hb dX0_act_185 ?_
  exact W.iret (v := (i1 + (3 : Int32))) hx hb hr (fun t ht hW => ⟨⟨(i1 + (3 : Int32)), ((up2 x_6 5 1 r6), y_6, v0_6, v1_6, v2_6, v3_6), rfl, w, by rw [ht]; exact hP, va_K.moved hW.alike hK, (hD _ _ _ _ _ _)⟩, hS.F ht⟩) hS.2.2 dX0_act_186 hlk
abbrev rm_X0_goMonths : Room := { frames := 6, cells := 0, slots := 0, locals := 142 }
theorem hd_X0_goMonths : yX0_goMonths.cls = RX0 ∧ yX0_goMonths.cls ≠ "java/lang/invoke/MethodHandle" ∧ yX0_goMonths.cls ≠ "java/lang/invoke/VarHandle" ∧ (parseMethodDescriptor yX0_goMonths.desc).map (fun d => d.parameters.length) = some 0 := by decide +kernel
set_option maxHeartbeats 4000000 in
set_option maxRecDepth 100000 in
theorem wk_X0_goMonths_S23 {p : Program} {l : Launch} {e : Env} {s : State} {m : MethodId} {args : Array Value} {below : List Frame} {meth : Method} {c : Code} {dC : Nat → ClassId} {dI : Nat → Nat → Nat} {ct : Nat → ClassId} {A : Nat → Prop} {aX : Nat → Nat} {a0 : Nat → Nat} {a1 : Nat → Nat} {a2 : Nat → Nat} {a3 : Nat → Nat} {Post : Int32 → V → VL → V → V → V → V → Prop} {K23 : Int32 → V → VL → V → V → V → V → Prop}  (X : CxW p s m args meth c cX0_goMonths 2 (some .int) RX0 dC dI ct A) (hD : ∀ (x : V) (y : VL) (v0 : V) (v1 : V) (v2 : V) (v3 : V), va_D A (XW aX a0 a1 a2 a3 ct x y v0 v1 v2 v3)) (hK23 : ∀ (i1 : Int32) (x : V) (y : VL) (v0 : V) (v1 : V) (v2 : V) (v3 : V), K23 i1 x y v0 v1 v2 v3 → ∀ (H : Heap) (locs : List Loc) (ls : Array Slot), va_P (dC, dI) vwCl (XW aX a0 a1 a2 a3 ct x y v0 v1 v2 v3) H → va_S A s.heap H locs → lv_has ls 2 [(0, .ref (aX 0)), (1, .int i1)] → W p l e rm_X0_goMonths s m args below meth c H locs 0 0 (MQ below (va_Qi (fun (r : Int32) (u : V × VL × V × V × V × V) => Post r u.1 u.2.1 u.2.2.1 u.2.2.2.1 u.2.2.2.2.1 u.2.2.2.2.2) (fun (u : V × VL × V × V × V × V) t => WPos dC dI ct (XW aX a0 a1 a2 a3 ct u.1 u.2.1 u.2.2.1 u.2.2.2.1 u.2.2.2.2.1 u.2.2.2.2.2) A t) A) args s 0 0 A) (F0 m 23 ls [])) (i1 : Int32) (x : V) (y : VL) (v0 : V) (v1 : V) (v2 : V) (v3 : V) (w : wp_X0_goMonths_S23  Post K23 i1 x y v0 v1 v2 v3) : ∀ (H : Heap) (locs : List Loc) (ls : Array Slot), va_P (dC, dI) vwCl (XW aX a0 a1 a2 a3 ct x y v0 v1 v2 v3) H → va_S A s.heap H locs → lv_has ls 2 [(0, .ref (aX 0)), (1, .int i1)] → W p l e rm_X0_goMonths s m args below meth c H locs 0 0 (MQ below (va_Qi (fun (r : Int32) (u : V × VL × V × V × V × V) => Post r u.1 u.2.1 u.2.2.1 u.2.2.2.1 u.2.2.2.2.1 u.2.2.2.2.2) (fun (u : V × VL × V × V × V × V) t => WPos dC dI ct (XW aX a0 a1 a2 a3 ct u.1 u.2.1 u.2.2.1 u.2.2.2.1 u.2.2.2.2.1 u.2.2.2.2.2) A t) A) args s 0 0 A) (F0 m 23 ls []) := by
  intro H locs ls hP hS hl
  have X0 := X
  obtain ⟨⟨hx, hb, hml, hr, hlk, hown, hts⟩, hA, hK, hN⟩ := X0
  unfold wp_X0_goMonths_S23 at w
  refine lv_iload_n hx hb dX0_goMonths_23 rfl (lv_at hl 1 rfl) ?_
  refine lv_aload_n hx hb dX0_goMonths_24 rfl (lv_at hl 0 rfl) ?_
  refine va_get (D := (dC, dI)) (ci := 0) (v := .int (x 5 0)) (C := RX0) (T := TX0) (N := 14) hx hb hts in_X0 hown hK hP 0 rfl rfl 3 (by decide) (hts _ q131) (fun _ h9 => h9) rfl dX0_goMonths_25 ?_
  refine lv_icmp_ge (tgt := 62) hx hb dX0_goMonths_28 (by decide) (fun c => ?_) (fun c => ?_)
  · have w := And.left w c
    refine lv_bipush (v := -6) hx hb dX0_goMonths_62 (by decide) ?_
    exact W.iret (v := (-6 : Int32)) hx hb hr (fun t ht hW => ⟨⟨(-6 : Int32), (x, y, v0, v1, v2, v3), rfl, w, by rw [ht]; exact hP, va_K.moved hW.alike hK, (hD _ _ _ _ _ _)⟩, hS.F ht⟩) hS.2.2 dX0_goMonths_64 hlk
  · have w := And.right w c
    refine lv_aload_n hx hb dX0_goMonths_31 rfl (lv_at hl 0 rfl) ?_
    refine lv_iload_n hx hb dX0_goMonths_32 rfl (lv_at hl 1 rfl) ?_
    refine va_calli (va_runV (As := [.int i1]) (rest := []) ⟨hx, hb, hml, hown, hts⟩ (met_X0_act l dC dI ct aX a0 a1 a2 a3 _ w) (cwV 1 hts (lw_V q236 q238 qs2 q48 q239) rfl rfl rfl hd_X0_act ⟨Nat.le_of_ble_eq_true rfl, Nat.le_of_ble_eq_true rfl⟩) (pre_V hK hP (hD _ _ _ _ _ _) hN (va_recv hK hP (ci := 0) (q0 := 0) rfl rfl)) rfl rfl hl.1 rfl (lv_room (Nat.le_of_ble_eq_true rfl)) dX0_goMonths_33 ⟨Nat.le_refl _, Nat.le_refl _⟩) hS (fun q _ h => x_free (hD _ _ _ _ _ _) hS hA q h) (x_free (hD _ _ _ _ _ _) hS hA) (fun r1 u t H locs ht hvm w hB hz hk hS => ?_)
    obtain ⟨x_1, y_1, v0_1, v1_1, v2_1, v3_1⟩ := u
    dsimp only at w
    have hP : va_P (dC, dI) vwCl (XW aX a0 a1 a2 a3 ct x_1 y_1 v0_1 v1_1 v2_1 v3_1) H := post_P hB ht
    refine lv_istore_n (lv' := [(1, .int r1), (0, .ref (aX 0))]) hx hb dX0_goMonths_36 rfl hl (by decide) rfl (fun ls hl => ?_)
    refine lv_aload_n hx hb dX0_goMonths_37 rfl (lv_at hl 1 rfl) ?_
    refine va_get (D := (dC, dI)) (ci := 0) (v := .int (x_1 5 1)) (C := RX0) (T := TX0) (N := 14) hx hb hts in_X0 hown hK hP 0 rfl rfl 5 (by decide) (hts _ q133) (fun _ h9 => h9) rfl dX0_goMonths_38 ?_
    refine lv_if_le (tgt := 49) hx hb dX0_goMonths_41 (by decide) (fun c => ?_) (fun c => ?_)
    · have w := And.left w c
      refine lv_aload_n hx hb dX0_goMonths_49 rfl (lv_at hl 1 rfl) ?_
      refine lv_dup hx hb dX0_goMonths_50 rfl ?_
      refine va_get (D := (dC, dI)) (ci := 0) (v := .int (x_1 5 2)) (C := RX0) (T := TX0) (N := 14) hx hb hts in_X0 hown hK hP 0 rfl rfl 6 (by decide) (hts _ q134) (fun _ h9 => h9) rfl dX0_goMonths_51 ?_
      refine lv_iconst (v := 1) hx hb dX0_goMonths_54 (by decide) ?_
      refine lv_iadd hx hb dX0_goMonths_55 ?_
      refine va_put (D := (dC, dI)) (ci := 0) (v := .int ((x_1 5 2) + (1 : Int32))) (ty := .int) (C := RX0) (T := TX0) (N := 14) hx hb hts in_X0 tyX0 tyX0_ok nmX0 hown hK hP (hD _ _ _ _ _ _) hS 0 rfl rfl 6 (by decide) (hts _ q134) (fun _ h9 => h9) rfl (by decide +kernel) rfl rfl (Nat.le_of_ble_eq_true rfl) dX0_goMonths_56 (fun H locs hP _ hS => ?_)
      have hP : va_P (dC, dI) vwCl (XW aX a0 a1 a2 a3 ct (up2 x_1 5 2 ((x_1 5 2) + (1 : Int32))) y_1 v0_1 v1_1 v2_1 v3_1) H := XW_s_x_2 hP
      refine lv_goto (tgt := 23) hx hb dX0_goMonths_59 (by decide) ?_
      exact hK23 _ _ _ _ _ _ _ w _ _ _ hP hS (lv_sub hl [1, 0] rfl)
    · have w := And.right w c
      refine lv_aload_n hx hb dX0_goMonths_44 rfl (lv_at hl 1 rfl) ?_
      refine va_get (D := (dC, dI)) (ci := 0) (v := .int (x_1 5 2)) (C := RX0) (T := TX0) (N := 14) hx hb hts in_X0 hown hK hP 0 rfl rfl 6 (by decide) (hts _ q134) (fun _ h9 => h9) rfl dX0_goMonths_45 ?_
      exact W.iret (v := (x_1 5 2)) hx hb hr (fun t ht hW => ⟨⟨(x_1 5 2), (x_1, y_1, v0_1, v1_1, v2_1, v3_1), rfl, w, by rw [ht]; exact hP, va_K.moved hW.alike hK, (hD _ _ _ _ _ _)⟩, hS.F ht⟩) hS.2.2 dX0_goMonths_48 hlk
set_option maxHeartbeats 4000000 in
set_option maxRecDepth 100000 in
theorem wk_X0_goMonths_L23 {p : Program} {l : Launch} {e : Env} {s : State} {m : MethodId} {args : Array Value} {below : List Frame} {meth : Method} {c : Code} {dC : Nat → ClassId} {dI : Nat → Nat → Nat} {ct : Nat → ClassId} {A : Nat → Prop} {aX : Nat → Nat} {a0 : Nat → Nat} {a1 : Nat → Nat} {a2 : Nat → Nat} {a3 : Nat → Nat} {Post : Int32 → V → VL → V → V → V → V → Prop}   (X : CxW p s m args meth c cX0_goMonths 2 (some .int) RX0 dC dI ct A) (hD : ∀ (x : V) (y : VL) (v0 : V) (v1 : V) (v2 : V) (v3 : V), va_D A (XW aX a0 a1 a2 a3 ct x y v0 v1 v2 v3))  : ∀ (n : Nat) (i1 : Int32) (x : V) (y : VL) (v0 : V) (v1 : V) (v2 : V) (v3 : V), wp_X0_goMonths_L23  Post  n i1 x y v0 v1 v2 v3 → ∀ (H : Heap) (locs : List Loc) (ls : Array Slot), va_P (dC, dI) vwCl (XW aX a0 a1 a2 a3 ct x y v0 v1 v2 v3) H → va_S A s.heap H locs → lv_has ls 2 [(0, .ref (aX 0)), (1, .int i1)] → W p l e rm_X0_goMonths s m args below meth c H locs 0 0 (MQ below (va_Qi (fun (r : Int32) (u : V × VL × V × V × V × V) => Post r u.1 u.2.1 u.2.2.1 u.2.2.2.1 u.2.2.2.2.1 u.2.2.2.2.2) (fun (u : V × VL × V × V × V × V) t => WPos dC dI ct (XW aX a0 a1 a2 a3 ct u.1 u.2.1 u.2.2.1 u.2.2.2.1 u.2.2.2.2.1 u.2.2.2.2.2) A t) A) args s 0 0 A) (F0 m 23 ls []) := by
  intro n
  induction n with
  | zero => intro i1 x y v0 v1 v2 v3 w; exact False.elim w
  | succ n ih => intro i1 x y v0 v1 v2 v3 w H locs ls hP hS hl; exact wk_X0_goMonths_S23 X hD  ih i1 x y v0 v1 v2 v3 w H locs ls hP hS hl
set_option maxHeartbeats 4000000 in
set_option maxRecDepth 100000 in
theorem met_X0_goMonths (l : Launch) (dC : Nat → ClassId) (dI : Nat → Nat → Nat) (ct : Nat → ClassId) (aX : Nat → Nat) (a0 : Nat → Nat) (a1 : Nat → Nat) (a2 : Nat → Nat) (a3 : Nat → Nat) (sz : Nat)  {x : V} {y : VL} {v0 : V} {v1 : V} {v2 : V} {v3 : V} {Post : Int32 → V → VL → V → V → V → V → Prop} (w : wp_X0_goMonths x y v0 v1 v2 v3 Post) : Met l yX0_goMonths (ws_ yX0_goMonths cX0_goMonths 2 (some .int)) rm_X0_goMonths (va_Pc [.ref (aX 0)] (fun U => WPre dC dI ct (XW aX a0 a1 a2 a3 ct x y v0 v1 v2 v3) sz U)) ((fun A => (va_Qi (fun (r : Int32) (u : V × VL × V × V × V × V) => Post r u.1 u.2.1 u.2.2.1 u.2.2.2.1 u.2.2.2.2.1 u.2.2.2.2.2) (fun (u : V × VL × V × V × V × V) t => WPos dC dI ct (XW aX a0 a1 a2 a3 ct u.1 u.2.1 u.2.2.1 u.2.2.2.1 u.2.2.2.2.1 u.2.2.2.2.2) A t) A)) (va_A (XW aX a0 a1 a2 a3 ct x y v0 v1 v2 v3) sz)) 0 0 (va_A (XW aX a0 a1 a2 a3 ct x y v0 v1 v2 v3) sz) := by
  refine open_W (fun A => (va_Qi (fun (r : Int32) (u : V × VL × V × V × V × V) => Post r u.1 u.2.1 u.2.2.1 u.2.2.2.1 u.2.2.2.2.1 u.2.2.2.2.2) (fun (u : V × VL × V × V × V × V) t => WPos dC dI ct (XW aX a0 a1 a2 a3 ct u.1 u.2.1 u.2.2.1 u.2.2.2.1 u.2.2.2.2.1 u.2.2.2.2.2) A t) A)) (by decide) (Nat.le_of_ble_eq_true rfl) ?_
  intro p e s m args below meth c ls A X hD0 hP hS hl
  have X0 := X
  obtain ⟨⟨hx, hb, hml, hr, hlk, hown, hts⟩, hA, hK, hN⟩ := X0
  have hD : ∀ (x' : V) (y' : VL) (v0' : V) (v1' : V) (v2' : V) (v3' : V), va_D A (XW aX a0 a1 a2 a3 ct x' y' v0' v1' v2' v3') := fun x' y' v0' v1' v2' v3' => va_D_addr hD0 rfl
  have hl : lv_has ls 2 [(0, .ref (aX 0))] := hl
  unfold wp_X0_goMonths at w
  have hS0 := hS
  refine lv_aload_n hx hb dX0_goMonths_0 rfl (lv_at hl 0 rfl) ?_
  refine va_get (D := (dC, dI)) (ci := 0) (v := .ref (a1 0)) (C := RX0) (T := TX0) (N := 14) hx hb hts in_X0 hown hK hP 0 rfl rfl 1 (by decide) (hts _ q129) (fun _ h9 => h9) rfl dX0_goMonths_1 ?_
  refine lv_aload_n hx hb dX0_goMonths_4 rfl (lv_at hl 0 rfl) ?_
  refine va_get (D := (dC, dI)) (ci := 0) (v := .ref (a0 0)) (C := RX0) (T := TX0) (N := 14) hx hb hts in_X0 hown hK hP 0 rfl rfl 0 (by decide) (hts _ q128) (fun _ h9 => h9) rfl dX0_goMonths_5 ?_
  have hPc := XW_gc10 hP
  have hDc := XW_dc10 (hD x y v0 v1 v2 v3)
  refine va_callv (va_runV (As := [.ref (a0 0)]) (rest := []) ⟨hx, hb, hml, hown, hts⟩ (met_X1_copy l dC dI ct a1 a0 _ w) (cwV 1 hts (lw_V q229 q230 q231 q49 q232) rfl rfl rfl hd_X1_copy ⟨Nat.le_of_ble_eq_true rfl, Nat.le_of_ble_eq_true rfl⟩) (pre_V hK hPc hDc hN (va_recv hK hPc (ci := 1) (q0 := 0) rfl rfl)) rfl rfl hl.1 rfl (lv_room (Nat.le_of_ble_eq_true rfl)) dX0_goMonths_8 ⟨Nat.le_refl _, Nat.le_refl _⟩) hS (fun q _ h => x_free hDc hS hA q h) (x_free hDc hS hA) (fun v1_1 t H locs ht hvm w hB hz hk hS => ?_)
  have hP := XW_jc10 hP (hD _ _ _ _ _ _) hk (post_P hB ht)
  have hP : va_P (dC, dI) vwCl (XW aX a0 a1 a2 a3 ct x y v0 v1_1 v2 v3) H := hP
  refine lv_aload_n hx hb dX0_goMonths_11 rfl (lv_at hl 0 rfl) ?_
  refine lv_iconst (v := 0) hx hb dX0_goMonths_12 (by decide) ?_
  refine va_put (D := (dC, dI)) (ci := 0) (v := .int (0 : Int32)) (ty := .int) (C := RX0) (T := TX0) (N := 14) hx hb hts in_X0 tyX0 tyX0_ok nmX0 hown hK hP (hD _ _ _ _ _ _) hS 0 rfl rfl 6 (by decide) (hts _ q134) (fun _ h9 => h9) rfl (by decide +kernel) rfl rfl (Nat.le_of_ble_eq_true rfl) dX0_goMonths_13 (fun H locs hP _ hS => ?_)
  have hP : va_P (dC, dI) vwCl (XW aX a0 a1 a2 a3 ct (up2 x 5 2 (0 : Int32)) y v0 v1_1 v2 v3) H := XW_s_x_2 hP
  refine lv_aload_n hx hb dX0_goMonths_16 rfl (lv_at hl 0 rfl) ?_
  refine lv_iconst (v := 0) hx hb dX0_goMonths_17 (by decide) ?_
  refine va_put (D := (dC, dI)) (ci := 0) (v := .int (0 : Int32)) (ty := .int) (C := RX0) (T := TX0) (N := 14) hx hb hts in_X0 tyX0 tyX0_ok nmX0 hown hK hP (hD _ _ _ _ _ _) hS 0 rfl rfl 7 (by decide) (hts _ q135) (fun _ h9 => h9) rfl (by decide +kernel) rfl rfl (Nat.le_of_ble_eq_true rfl) dX0_goMonths_18 (fun H locs hP _ hS => ?_)
  have hP : va_P (dC, dI) vwCl (XW aX a0 a1 a2 a3 ct (up2 (up2 x 5 2 (0 : Int32)) 5 3 (0 : Int32)) y v0 v1_1 v2 v3) H := XW_s_x_3 hP
  refine lv_iconst (v := 0) hx hb dX0_goMonths_21 (by decide) ?_
  refine lv_istore_n (lv' := [(1, .int (0 : Int32)), (0, .ref (aX 0))]) hx hb dX0_goMonths_22 rfl hl (by decide) rfl (fun ls hl => ?_)
  obtain ⟨n, w⟩ := w
  exact wk_X0_goMonths_L23 X hD  n _ _ _ _ _ _ _ w _ _ _ hP hS (lv_sub hl [1, 0] rfl)
abbrev rm_X0_judge : Room := { frames := 7, cells := 0, slots := 0, locals := 163 }
theorem hd_X0_judge : yX0_judge.cls = RX0 ∧ yX0_judge.cls ≠ "java/lang/invoke/MethodHandle" ∧ yX0_judge.cls ≠ "java/lang/invoke/VarHandle" ∧ (parseMethodDescriptor yX0_judge.desc).map (fun d => d.parameters.length) = some 1 := by decide +kernel
set_option maxHeartbeats 4000000 in
set_option maxRecDepth 100000 in
theorem wk_X0_judge_L48 {p : Program} {l : Launch} {e : Env} {s : State} {m : MethodId} {args : Array Value} {below : List Frame} {meth : Method} {c : Code} {dC : Nat → ClassId} {dI : Nat → Nat → Nat} {ct : Nat → ClassId} {A : Nat → Prop} {aX : Nat → Nat} {a0 : Nat → Nat} {a1 : Nat → Nat} {a2 : Nat → Nat} {a3 : Nat → Nat} {Post : Int32 → V → VL → V → V → V → V → Prop}   (X : CxW p s m args meth c cX0_judge 3 (some .int) RX0 dC dI ct A) (hD : ∀ (x : V) (y : VL) (v0 : V) (v1 : V) (v2 : V) (v3 : V), va_D A (XW aX a0 a1 a2 a3 ct x y v0 v1 v2 v3))  (is0 : Int32) (x : V) (y : VL) (v0 : V) (v1 : V) (v2 : V) (v3 : V) (w : wp_X0_judge_L48  Post  is0 x y v0 v1 v2 v3) : ∀ (H : Heap) (locs : List Loc) (ls : Array Slot), va_P (dC, dI) vwCl (XW aX a0 a1 a2 a3 ct x y v0 v1 v2 v3) H → va_S A s.heap H locs → lv_has ls 3 [] → W p l e rm_X0_judge s m args below meth c H locs 0 0 (MQ below (va_Qi (fun (r : Int32) (u : V × VL × V × V × V × V) => Post r u.1 u.2.1 u.2.2.1 u.2.2.2.1 u.2.2.2.2.1 u.2.2.2.2.2) (fun (u : V × VL × V × V × V × V) t => WPos dC dI ct (XW aX a0 a1 a2 a3 ct u.1 u.2.1 u.2.2.1 u.2.2.2.1 u.2.2.2.2.1 u.2.2.2.2.2) A t) A) args s 0 0 A) (F0 m 48 ls [.int is0]) := by
  intro H locs ls hP hS hl
  have X0 := X
  obtain ⟨⟨hx, hb, hml, hr, hlk, hown, hts⟩, hA, hK, hN⟩ := X0
  unfold wp_X0_judge_L48 at w
  exact W.iret (v := is0) hx hb hr (fun t ht hW => ⟨⟨is0, (x, y, v0, v1, v2, v3), rfl, w, by rw [ht]; exact hP, va_K.moved hW.alike hK, (hD _ _ _ _ _ _)⟩, hS.F ht⟩) hS.2.2 dX0_judge_48 hlk
set_option maxHeartbeats 4000000 in
set_option maxRecDepth 100000 in
theorem wk_X0_judge_L40 {p : Program} {l : Launch} {e : Env} {s : State} {m : MethodId} {args : Array Value} {below : List Frame} {meth : Method} {c : Code} {dC : Nat → ClassId} {dI : Nat → Nat → Nat} {ct : Nat → ClassId} {A : Nat → Prop} {aX : Nat → Nat} {a0 : Nat → Nat} {a1 : Nat → Nat} {a2 : Nat → Nat} {a3 : Nat → Nat} {Post : Int32 → V → VL → V → V → V → V → Prop}   (X : CxW p s m args meth c cX0_judge 3 (some .int) RX0 dC dI ct A) (hD : ∀ (x : V) (y : VL) (v0 : V) (v1 : V) (v2 : V) (v3 : V), va_D A (XW aX a0 a1 a2 a3 ct x y v0 v1 v2 v3))  (i2 : Int32) (x : V) (y : VL) (v0 : V) (v1 : V) (v2 : V) (v3 : V) (w : wp_X0_judge_L40  Post  i2 x y v0 v1 v2 v3) : ∀ (H : Heap) (locs : List Loc) (ls : Array Slot), va_P (dC, dI) vwCl (XW aX a0 a1 a2 a3 ct x y v0 v1 v2 v3) H → va_S A s.heap H locs → lv_has ls 3 [(2, .int i2)] → W p l e rm_X0_judge s m args below meth c H locs 0 0 (MQ below (va_Qi (fun (r : Int32) (u : V × VL × V × V × V × V) => Post r u.1 u.2.1 u.2.2.1 u.2.2.2.1 u.2.2.2.2.1 u.2.2.2.2.2) (fun (u : V × VL × V × V × V × V) t => WPos dC dI ct (XW aX a0 a1 a2 a3 ct u.1 u.2.1 u.2.2.1 u.2.2.2.1 u.2.2.2.2.1 u.2.2.2.2.2) A t) A) args s 0 0 A) (F0 m 40 ls []) := by
  intro H locs ls hP hS hl
  have X0 := X
  obtain ⟨⟨hx, hb, hml, hr, hlk, hown, hts⟩, hA, hK, hN⟩ := X0
  unfold wp_X0_judge_L40 at w
  refine lv_iload_n hx hb dX0_judge_40 rfl (lv_at hl 0 rfl) ?_
  refine lv_goto (tgt := 48) hx hb dX0_judge_41 (by decide) ?_
  exact wk_X0_judge_L48 X hD  _ _ _ _ _ _ _ w _ _ _ hP hS (lv_sub hl [] rfl)
set_option maxHeartbeats 4000000 in
set_option maxRecDepth 100000 in
theorem wk_X0_judge_L62 {p : Program} {l : Launch} {e : Env} {s : State} {m : MethodId} {args : Array Value} {below : List Frame} {meth : Method} {c : Code} {dC : Nat → ClassId} {dI : Nat → Nat → Nat} {ct : Nat → ClassId} {A : Nat → Prop} {aX : Nat → Nat} {a0 : Nat → Nat} {a1 : Nat → Nat} {a2 : Nat → Nat} {a3 : Nat → Nat} {Post : Int32 → V → VL → V → V → V → V → Prop}   (X : CxW p s m args meth c cX0_judge 3 (some .int) RX0 dC dI ct A) (hD : ∀ (x : V) (y : VL) (v0 : V) (v1 : V) (v2 : V) (v3 : V), va_D A (XW aX a0 a1 a2 a3 ct x y v0 v1 v2 v3))  (is0 : Int32) (x : V) (y : VL) (v0 : V) (v1 : V) (v2 : V) (v3 : V) (w : wp_X0_judge_L62  Post  is0 x y v0 v1 v2 v3) : ∀ (H : Heap) (locs : List Loc) (ls : Array Slot), va_P (dC, dI) vwCl (XW aX a0 a1 a2 a3 ct x y v0 v1 v2 v3) H → va_S A s.heap H locs → lv_has ls 3 [] → W p l e rm_X0_judge s m args below meth c H locs 0 0 (MQ below (va_Qi (fun (r : Int32) (u : V × VL × V × V × V × V) => Post r u.1 u.2.1 u.2.2.1 u.2.2.2.1 u.2.2.2.2.1 u.2.2.2.2.2) (fun (u : V × VL × V × V × V × V) t => WPos dC dI ct (XW aX a0 a1 a2 a3 ct u.1 u.2.1 u.2.2.1 u.2.2.2.1 u.2.2.2.2.1 u.2.2.2.2.2) A t) A) args s 0 0 A) (F0 m 62 ls [.int is0]) := by
  intro H locs ls hP hS hl
  have X0 := X
  obtain ⟨⟨hx, hb, hml, hr, hlk, hown, hts⟩, hA, hK, hN⟩ := X0
  unfold wp_X0_judge_L62 at w
  exact W.iret (v := is0) hx hb hr (fun t ht hW => ⟨⟨is0, (x, y, v0, v1, v2, v3), rfl, w, by rw [ht]; exact hP, va_K.moved hW.alike hK, (hD _ _ _ _ _ _)⟩, hS.F ht⟩) hS.2.2 dX0_judge_62 hlk
set_option maxHeartbeats 4000000 in
set_option maxRecDepth 100000 in
theorem met_X0_judge (l : Launch) (dC : Nat → ClassId) (dI : Nat → Nat → Nat) (ct : Nat → ClassId) (aX : Nat → Nat) (a0 : Nat → Nat) (a1 : Nat → Nat) (a2 : Nat → Nat) (a3 : Nat → Nat) (sz : Nat) {i1 : Int32} {x : V} {y : VL} {v0 : V} {v1 : V} {v2 : V} {v3 : V} {Post : Int32 → V → VL → V → V → V → V → Prop} (w : wp_X0_judge i1 x y v0 v1 v2 v3 Post) : Met l yX0_judge (ws_ yX0_judge cX0_judge 3 (some .int)) rm_X0_judge (va_Pc [.ref (aX 0), .int i1] (fun U => WPre dC dI ct (XW aX a0 a1 a2 a3 ct x y v0 v1 v2 v3) sz U)) ((fun A => (va_Qi (fun (r : Int32) (u : V × VL × V × V × V × V) => Post r u.1 u.2.1 u.2.2.1 u.2.2.2.1 u.2.2.2.2.1 u.2.2.2.2.2) (fun (u : V × VL × V × V × V × V) t => WPos dC dI ct (XW aX a0 a1 a2 a3 ct u.1 u.2.1 u.2.2.1 u.2.2.2.1 u.2.2.2.2.1 u.2.2.2.2.2) A t) A)) (va_A (XW aX a0 a1 a2 a3 ct x y v0 v1 v2 v3) sz)) 0 0 (va_A (XW aX a0 a1 a2 a3 ct x y v0 v1 v2 v3) sz) := by
  refine open_W (fun A => (va_Qi (fun (r : Int32) (u : V × VL × V × V × V × V) => Post r u.1 u.2.1 u.2.2.1 u.2.2.2.1 u.2.2.2.2.1 u.2.2.2.2.2) (fun (u : V × VL × V × V × V × V) t => WPos dC dI ct (XW aX a0 a1 a2 a3 ct u.1 u.2.1 u.2.2.1 u.2.2.2.1 u.2.2.2.2.1 u.2.2.2.2.2) A t) A)) (by decide) (Nat.le_of_ble_eq_true rfl) ?_
  intro p e s m args below meth c ls A X hD0 hP hS hl
  have X0 := X
  obtain ⟨⟨hx, hb, hml, hr, hlk, hown, hts⟩, hA, hK, hN⟩ := X0
  have hD : ∀ (x' : V) (y' : VL) (v0' : V) (v1' : V) (v2' : V) (v3' : V), va_D A (XW aX a0 a1 a2 a3 ct x' y' v0' v1' v2' v3') := fun x' y' v0' v1' v2' v3' => va_D_addr hD0 rfl
  have hl : lv_has ls 3 [(0, .ref (aX 0)), (1, .int i1)] := hl
  unfold wp_X0_judge at w
  have hS0 := hS
  refine lv_iload_n hx hb dX0_judge_0 rfl (lv_at hl 1 rfl) ?_
  refine lv_iconst (v := 0) hx hb dX0_judge_1 (by decide) ?_
  refine lv_iconst (v := 2) hx hb dX0_judge_2 (by decide) ?_
  refine vp_callSi (W.runS (As := [.int i1, .int (0 : Int32), .int (2 : Int32)]) (rest := []) ⟨hx, hb, hml, hown, hts⟩ (met_X0_isIn l w) (va_cwS 3 hts (lw_S q180 q181 q48 q182) rfl rfl rfl hd_X0_isIn ⟨Nat.le_of_ble_eq_true rfl, Nat.le_of_ble_eq_true rfl⟩) pre_S rfl rfl hl.1 rfl (lv_room (Nat.le_of_ble_eq_true rfl)) dX0_judge_3 ⟨Nat.le_refl _, Nat.le_refl _⟩) (fun r1 w => ?_)
  refine lv_if_ne (tgt := 12) hx hb dX0_judge_6 (by decide) (fun c => ?_) (fun c => ?_)
  · have w := And.right w c
    refine lv_aload_n hx hb dX0_judge_12 rfl (lv_at hl 0 rfl) ?_
    refine va_calli (va_runV (As := []) (rest := []) ⟨hx, hb, hml, hown, hts⟩ (met_X0_faultOf l dC dI ct aX a0 a1 a2 a3 _ w) (cwV 0 hts (lw_V q214 q216 qs0 q48 q217) rfl rfl rfl hd_X0_faultOf ⟨Nat.le_of_ble_eq_true rfl, Nat.le_of_ble_eq_true rfl⟩) (pre_V hK hP (hD _ _ _ _ _ _) hN (va_recv hK hP (ci := 0) (q0 := 0) rfl rfl)) rfl rfl hl.1 rfl (lv_room (Nat.le_of_ble_eq_true rfl)) dX0_judge_13 ⟨Nat.le_refl _, Nat.le_refl _⟩) hS (fun q _ h => x_free (hD _ _ _ _ _ _) hS hA q h) (x_free (hD _ _ _ _ _ _) hS hA) (fun r2 u t H locs ht hvm w hB hz hk hS => ?_)
    obtain ⟨x_2, y_2, v0_2, v1_2, v2_2, v3_2⟩ := u
    dsimp only at w
    have hP : va_P (dC, dI) vwCl (XW aX a0 a1 a2 a3 ct x_2 y_2 v0_2 v1_2 v2_2 v3_2) H := post_P hB ht
    refine lv_if_lt (tgt := 22) hx hb dX0_judge_16 (by decide) (fun c => ?_) (fun c => ?_)
    · have w := And.left w c
      refine lv_aload_n hx hb dX0_judge_22 rfl (lv_at hl 0 rfl) ?_
      refine va_calli (va_runV (As := []) (rest := []) ⟨hx, hb, hml, hown, hts⟩ (met_X0_goMonths l dC dI ct aX a0 a1 a2 a3 _ w) (cwV 0 hts (lw_V q225 q227 qs1 q48 q228) rfl rfl rfl hd_X0_goMonths ⟨Nat.le_of_ble_eq_true rfl, Nat.le_of_ble_eq_true rfl⟩) (pre_V hK hP (hD _ _ _ _ _ _) hN (va_recv hK hP (ci := 0) (q0 := 0) rfl rfl)) rfl rfl hl.1 rfl (lv_room (Nat.le_of_ble_eq_true rfl)) dX0_judge_23 ⟨Nat.le_refl _, Nat.le_refl _⟩) hS (fun q _ h => x_free (hD _ _ _ _ _ _) hS hA q h) (x_free (hD _ _ _ _ _ _) hS hA) (fun r3 u t H locs ht hvm w hB hz hk hS => ?_)
      obtain ⟨x_3, y_3, v0_3, v1_3, v2_3, v3_3⟩ := u
      dsimp only at w
      have hP : va_P (dC, dI) vwCl (XW aX a0 a1 a2 a3 ct x_3 y_3 v0_3 v1_3 v2_3 v3_3) H := post_P hB ht
      refine lv_istore_n (lv' := [(2, .int r3), (0, .ref (aX 0)), (1, .int i1)]) hx hb dX0_judge_26 rfl hl (by decide) rfl (fun ls hl => ?_)
      refine lv_iload_n hx hb dX0_judge_27 rfl (lv_at hl 2 rfl) ?_
      refine lv_iconst (v := 2) hx hb dX0_judge_28 (by decide) ?_
      refine lv_icmp_ge (tgt := 49) hx hb dX0_judge_29 (by decide) (fun c => ?_) (fun c => ?_)
      · have w := And.left w c
        refine lv_iload_n hx hb dX0_judge_49 rfl (lv_at hl 0 rfl) ?_
        refine lv_if_lt (tgt := 58) hx hb dX0_judge_50 (by decide) (fun c => ?_) (fun c => ?_)
        · have w := And.left w c
          refine lv_aload_n hx hb dX0_judge_58 rfl (lv_at hl 1 rfl) ?_
          refine va_get (D := (dC, dI)) (ci := 0) (v := .int (x_3 5 3)) (C := RX0) (T := TX0) (N := 14) hx hb hts in_X0 hown hK hP 0 rfl rfl 7 (by decide) (hts _ q135) (fun _ h9 => h9) rfl dX0_judge_59 ?_
          exact wk_X0_judge_L62 X hD  _ _ _ _ _ _ _ w _ _ _ hP hS (lv_sub hl [] rfl)
        · have w := And.right w c
          refine lv_bipush (v := -3) hx hb dX0_judge_53 (by decide) ?_
          refine lv_goto (tgt := 62) hx hb dX0_judge_55 (by decide) ?_
          exact wk_X0_judge_L62 X hD  _ _ _ _ _ _ _ w _ _ _ hP hS (lv_sub hl [] rfl)
      · have w := And.right w c
        refine lv_iload_n hx hb dX0_judge_32 rfl (lv_at hl 0 rfl) ?_
        refine lv_if_lt (tgt := 40) hx hb dX0_judge_33 (by decide) (fun c => ?_) (fun c => ?_)
        · have w := And.left w c
          exact wk_X0_judge_L40 X hD  _ _ _ _ _ _ _ w _ _ _ hP hS (lv_sub hl [0] rfl)
        · have w := And.right w c
          refine lv_iload_n hx hb dX0_judge_36 rfl (lv_at hl 2 rfl) ?_
          refine lv_if_ne (tgt := 44) hx hb dX0_judge_37 (by decide) (fun c => ?_) (fun c => ?_)
          · have w := And.right w c
            refine lv_aload_n hx hb dX0_judge_44 rfl (lv_at hl 1 rfl) ?_
            refine va_get (D := (dC, dI)) (ci := 0) (v := .int (x_3 5 1)) (C := RX0) (T := TX0) (N := 14) hx hb hts in_X0 hown hK hP 0 rfl rfl 5 (by decide) (hts _ q133) (fun _ h9 => h9) rfl dX0_judge_45 ?_
            exact wk_X0_judge_L48 X hD  _ _ _ _ _ _ _ w _ _ _ hP hS (lv_sub hl [] rfl)
          · have w := And.left w c
            exact wk_X0_judge_L40 X hD  _ _ _ _ _ _ _ w _ _ _ hP hS (lv_sub hl [0] rfl)
    · have w := And.right w c
      refine lv_bipush (v := -5) hx hb dX0_judge_19 (by decide) ?_
      exact W.iret (v := (-5 : Int32)) hx hb hr (fun t ht hW => ⟨⟨(-5 : Int32), (x_2, y_2, v0_2, v1_2, v2_2, v3_2), rfl, w, by rw [ht]; exact hP, va_K.moved hW.alike hK, (hD _ _ _ _ _ _)⟩, hS.F ht⟩) hS.2.2 dX0_judge_21 hlk
  · have w := And.left w c
    refine lv_bipush (v := -2) hx hb dX0_judge_9 (by decide) ?_
    exact W.iret (v := (-2 : Int32)) hx hb hr (fun t ht hW => ⟨⟨(-2 : Int32), (x, y, v0, v1, v2, v3), rfl, w, by rw [ht]; exact hP, va_K.moved hW.alike hK, (hD _ _ _ _ _ _)⟩, hS.F ht⟩) hS.2.2 dX0_judge_11 hlk
abbrev rm_X0_barOfMonths : Room := { frames := 7, cells := 0, slots := 0, locals := 163 }
theorem hd_X0_barOfMonths : yX0_barOfMonths.cls = RX0 ∧ yX0_barOfMonths.cls ≠ "java/lang/invoke/MethodHandle" ∧ yX0_barOfMonths.cls ≠ "java/lang/invoke/VarHandle" ∧ (parseMethodDescriptor yX0_barOfMonths.desc).map (fun d => d.parameters.length) = some 0 := by decide +kernel
set_option maxHeartbeats 4000000 in
set_option maxRecDepth 100000 in
theorem wk_X0_barOfMonths_L25 {p : Program} {l : Launch} {e : Env} {s : State} {m : MethodId} {args : Array Value} {below : List Frame} {meth : Method} {c : Code} {dC : Nat → ClassId} {dI : Nat → Nat → Nat} {ct : Nat → ClassId} {A : Nat → Prop} {aX : Nat → Nat} {a0 : Nat → Nat} {a1 : Nat → Nat} {a2 : Nat → Nat} {a3 : Nat → Nat} {Post : Int32 → V → VL → V → V → V → V → Prop}   (X : CxW p s m args meth c cX0_barOfMonths 1 (some .int) RX0 dC dI ct A) (hD : ∀ (x : V) (y : VL) (v0 : V) (v1 : V) (v2 : V) (v3 : V), va_D A (XW aX a0 a1 a2 a3 ct x y v0 v1 v2 v3))  (is0 : Int32) (x : V) (y : VL) (v0 : V) (v1 : V) (v2 : V) (v3 : V) (w : wp_X0_barOfMonths_L25  Post  is0 x y v0 v1 v2 v3) : ∀ (H : Heap) (locs : List Loc) (ls : Array Slot), va_P (dC, dI) vwCl (XW aX a0 a1 a2 a3 ct x y v0 v1 v2 v3) H → va_S A s.heap H locs → lv_has ls 1 [] → W p l e rm_X0_barOfMonths s m args below meth c H locs 0 0 (MQ below (va_Qi (fun (r : Int32) (u : V × VL × V × V × V × V) => Post r u.1 u.2.1 u.2.2.1 u.2.2.2.1 u.2.2.2.2.1 u.2.2.2.2.2) (fun (u : V × VL × V × V × V × V) t => WPos dC dI ct (XW aX a0 a1 a2 a3 ct u.1 u.2.1 u.2.2.1 u.2.2.2.1 u.2.2.2.2.1 u.2.2.2.2.2) A t) A) args s 0 0 A) (F0 m 25 ls [.int is0]) := by
  intro H locs ls hP hS hl
  have X0 := X
  obtain ⟨⟨hx, hb, hml, hr, hlk, hown, hts⟩, hA, hK, hN⟩ := X0
  unfold wp_X0_barOfMonths_L25 at w
  exact W.iret (v := is0) hx hb hr (fun t ht hW => ⟨⟨is0, (x, y, v0, v1, v2, v3), rfl, w, by rw [ht]; exact hP, va_K.moved hW.alike hK, (hD _ _ _ _ _ _)⟩, hS.F ht⟩) hS.2.2 dX0_barOfMonths_25 hlk
set_option maxHeartbeats 4000000 in
set_option maxRecDepth 100000 in
theorem met_X0_barOfMonths (l : Launch) (dC : Nat → ClassId) (dI : Nat → Nat → Nat) (ct : Nat → ClassId) (aX : Nat → Nat) (a0 : Nat → Nat) (a1 : Nat → Nat) (a2 : Nat → Nat) (a3 : Nat → Nat) (sz : Nat)  {x : V} {y : VL} {v0 : V} {v1 : V} {v2 : V} {v3 : V} {Post : Int32 → V → VL → V → V → V → V → Prop} (w : wp_X0_barOfMonths x y v0 v1 v2 v3 Post) : Met l yX0_barOfMonths (ws_ yX0_barOfMonths cX0_barOfMonths 1 (some .int)) rm_X0_barOfMonths (va_Pc [.ref (aX 0)] (fun U => WPre dC dI ct (XW aX a0 a1 a2 a3 ct x y v0 v1 v2 v3) sz U)) ((fun A => (va_Qi (fun (r : Int32) (u : V × VL × V × V × V × V) => Post r u.1 u.2.1 u.2.2.1 u.2.2.2.1 u.2.2.2.2.1 u.2.2.2.2.2) (fun (u : V × VL × V × V × V × V) t => WPos dC dI ct (XW aX a0 a1 a2 a3 ct u.1 u.2.1 u.2.2.1 u.2.2.2.1 u.2.2.2.2.1 u.2.2.2.2.2) A t) A)) (va_A (XW aX a0 a1 a2 a3 ct x y v0 v1 v2 v3) sz)) 0 0 (va_A (XW aX a0 a1 a2 a3 ct x y v0 v1 v2 v3) sz) := by
  refine open_W (fun A => (va_Qi (fun (r : Int32) (u : V × VL × V × V × V × V) => Post r u.1 u.2.1 u.2.2.1 u.2.2.2.1 u.2.2.2.2.1 u.2.2.2.2.2) (fun (u : V × VL × V × V × V × V) t => WPos dC dI ct (XW aX a0 a1 a2 a3 ct u.1 u.2.1 u.2.2.1 u.2.2.2.1 u.2.2.2.2.1 u.2.2.2.2.2) A t) A)) (by decide) (Nat.le_of_ble_eq_true rfl) ?_
  intro p e s m args below meth c ls A X hD0 hP hS hl
  have X0 := X
  obtain ⟨⟨hx, hb, hml, hr, hlk, hown, hts⟩, hA, hK, hN⟩ := X0
  have hD : ∀ (x' : V) (y' : VL) (v0' : V) (v1' : V) (v2' : V) (v3' : V), va_D A (XW aX a0 a1 a2 a3 ct x' y' v0' v1' v2' v3') := fun x' y' v0' v1' v2' v3' => va_D_addr hD0 rfl
  have hl : lv_has ls 1 [(0, .ref (aX 0))] := hl
  unfold wp_X0_barOfMonths at w
  have hS0 := hS
  refine lv_aload_n hx hb dX0_barOfMonths_0 rfl (lv_at hl 0 rfl) ?_
  refine va_calli (va_runV (As := []) (rest := []) ⟨hx, hb, hml, hown, hts⟩ (met_X0_faultOf l dC dI ct aX a0 a1 a2 a3 _ w) (cwV 0 hts (lw_V q214 q216 qs0 q48 q217) rfl rfl rfl hd_X0_faultOf ⟨Nat.le_of_ble_eq_true rfl, Nat.le_of_ble_eq_true rfl⟩) (pre_V hK hP (hD _ _ _ _ _ _) hN (va_recv hK hP (ci := 0) (q0 := 0) rfl rfl)) rfl rfl hl.1 rfl (lv_room (Nat.le_of_ble_eq_true rfl)) dX0_barOfMonths_1 ⟨Nat.le_refl _, Nat.le_refl _⟩) hS (fun q _ h => x_free (hD _ _ _ _ _ _) hS hA q h) (x_free (hD _ _ _ _ _ _) hS hA) (fun r1 u t H locs ht hvm w hB hz hk hS => ?_)
  obtain ⟨x_1, y_1, v0_1, v1_1, v2_1, v3_1⟩ := u
  dsimp only at w
  have hP : va_P (dC, dI) vwCl (XW aX a0 a1 a2 a3 ct x_1 y_1 v0_1 v1_1 v2_1 v3_1) H := post_P hB ht
  refine lv_if_lt (tgt := 12) hx hb dX0_barOfMonths_4 (by decide) (fun c => ?_) (fun c => ?_)
  · have w := And.left w c
    refine lv_aload_n hx hb dX0_barOfMonths_12 rfl (lv_at hl 0 rfl) ?_
    refine va_calli (va_runV (As := []) (rest := []) ⟨hx, hb, hml, hown, hts⟩ (met_X0_goMonths l dC dI ct aX a0 a1 a2 a3 _ w) (cwV 0 hts (lw_V q225 q227 qs1 q48 q228) rfl rfl rfl hd_X0_goMonths ⟨Nat.le_of_ble_eq_true rfl, Nat.le_of_ble_eq_true rfl⟩) (pre_V hK hP (hD _ _ _ _ _ _) hN (va_recv hK hP (ci := 0) (q0 := 0) rfl rfl)) rfl rfl hl.1 rfl (lv_room (Nat.le_of_ble_eq_true rfl)) dX0_barOfMonths_13 ⟨Nat.le_refl _, Nat.le_refl _⟩) hS (fun q _ h => x_free (hD _ _ _ _ _ _) hS hA q h) (x_free (hD _ _ _ _ _ _) hS hA) (fun r2 u t H locs ht hvm w hB hz hk hS => ?_)
    obtain ⟨x_2, y_2, v0_2, v1_2, v2_2, v3_2⟩ := u
    dsimp only at w
    have hP : va_P (dC, dI) vwCl (XW aX a0 a1 a2 a3 ct x_2 y_2 v0_2 v1_2 v2_2 v3_2) H := post_P hB ht
    refine lv_if_lt (tgt := 24) hx hb dX0_barOfMonths_16 (by decide) (fun c => ?_) (fun c => ?_)
    · have w := And.left w c
      refine lv_iconst (v := 0) hx hb dX0_barOfMonths_24 (by decide) ?_
      exact wk_X0_barOfMonths_L25 X hD  _ _ _ _ _ _ _ w _ _ _ hP hS (lv_sub hl [] rfl)
    · have w := And.right w c
      refine lv_bipush (v := -3) hx hb dX0_barOfMonths_19 (by decide) ?_
      refine lv_goto (tgt := 25) hx hb dX0_barOfMonths_21 (by decide) ?_
      exact wk_X0_barOfMonths_L25 X hD  _ _ _ _ _ _ _ w _ _ _ hP hS (lv_sub hl [] rfl)
  · have w := And.right w c
    refine lv_bipush (v := -5) hx hb dX0_barOfMonths_7 (by decide) ?_
    refine lv_goto (tgt := 25) hx hb dX0_barOfMonths_9 (by decide) ?_
    exact wk_X0_barOfMonths_L25 X hD  _ _ _ _ _ _ _ w _ _ _ hP hS (lv_sub hl [] rfl)
abbrev rm_X0_behind : Room := { frames := 8, cells := 0, slots := 0, locals := 183 }
theorem hd_X0_behind : yX0_behind.cls = RX0 ∧ yX0_behind.cls ≠ "java/lang/invoke/MethodHandle" ∧ yX0_behind.cls ≠ "java/lang/invoke/VarHandle" ∧ (parseMethodDescriptor yX0_behind.desc).map (fun d => d.parameters.length) = some 2 := by decide +kernel
set_option maxHeartbeats 4000000 in
set_option maxRecDepth 100000 in
theorem wk_X0_behind_L89 {p : Program} {l : Launch} {e : Env} {s : State} {m : MethodId} {args : Array Value} {below : List Frame} {meth : Method} {c : Code} {dC : Nat → ClassId} {dI : Nat → Nat → Nat} {ct : Nat → ClassId} {A : Nat → Prop} {aX : Nat → Nat} {a0 : Nat → Nat} {a1 : Nat → Nat} {a2 : Nat → Nat} {a3 : Nat → Nat} {Post : Int32 → V → VL → V → V → V → V → Prop}   (X : CxW p s m args meth c cX0_behind 4 (some .int) RX0 dC dI ct A) (hD : ∀ (x : V) (y : VL) (v0 : V) (v1 : V) (v2 : V) (v3 : V), va_D A (XW aX a0 a1 a2 a3 ct x y v0 v1 v2 v3))  (is0 : Int32) (x : V) (y : VL) (v0 : V) (v1 : V) (v2 : V) (v3 : V) (w : wp_X0_behind_L89  Post  is0 x y v0 v1 v2 v3) : ∀ (H : Heap) (locs : List Loc) (ls : Array Slot), va_P (dC, dI) vwCl (XW aX a0 a1 a2 a3 ct x y v0 v1 v2 v3) H → va_S A s.heap H locs → lv_has ls 4 [] → W p l e rm_X0_behind s m args below meth c H locs 0 0 (MQ below (va_Qi (fun (r : Int32) (u : V × VL × V × V × V × V) => Post r u.1 u.2.1 u.2.2.1 u.2.2.2.1 u.2.2.2.2.1 u.2.2.2.2.2) (fun (u : V × VL × V × V × V × V) t => WPos dC dI ct (XW aX a0 a1 a2 a3 ct u.1 u.2.1 u.2.2.1 u.2.2.2.1 u.2.2.2.2.1 u.2.2.2.2.2) A t) A) args s 0 0 A) (F0 m 89 ls [.int is0]) := by
  intro H locs ls hP hS hl
  have X0 := X
  obtain ⟨⟨hx, hb, hml, hr, hlk, hown, hts⟩, hA, hK, hN⟩ := X0
  unfold wp_X0_behind_L89 at w
  exact W.iret (v := is0) hx hb hr (fun t ht hW => ⟨⟨is0, (x, y, v0, v1, v2, v3), rfl, w, by rw [ht]; exact hP, va_K.moved hW.alike hK, (hD _ _ _ _ _ _)⟩, hS.F ht⟩) hS.2.2 dX0_behind_89 hlk
set_option maxHeartbeats 4000000 in
set_option maxRecDepth 100000 in
theorem met_X0_behind (l : Launch) (dC : Nat → ClassId) (dI : Nat → Nat → Nat) (ct : Nat → ClassId) (aX : Nat → Nat) (a0 : Nat → Nat) (a1 : Nat → Nat) (a2 : Nat → Nat) (a3 : Nat → Nat) (sz : Nat) {i1 : Int32} {i2 : Int32} {x : V} {y : VL} {v0 : V} {v1 : V} {v2 : V} {v3 : V} {Post : Int32 → V → VL → V → V → V → V → Prop} (w : wp_X0_behind i1 i2 x y v0 v1 v2 v3 Post) : Met l yX0_behind (ws_ yX0_behind cX0_behind 4 (some .int)) rm_X0_behind (va_Pc [.ref (aX 0), .int i1, .int i2] (fun U => WPre dC dI ct (XW aX a0 a1 a2 a3 ct x y v0 v1 v2 v3) sz U)) ((fun A => (va_Qi (fun (r : Int32) (u : V × VL × V × V × V × V) => Post r u.1 u.2.1 u.2.2.1 u.2.2.2.1 u.2.2.2.2.1 u.2.2.2.2.2) (fun (u : V × VL × V × V × V × V) t => WPos dC dI ct (XW aX a0 a1 a2 a3 ct u.1 u.2.1 u.2.2.1 u.2.2.2.1 u.2.2.2.2.1 u.2.2.2.2.2) A t) A)) (va_A (XW aX a0 a1 a2 a3 ct x y v0 v1 v2 v3) sz)) 0 0 (va_A (XW aX a0 a1 a2 a3 ct x y v0 v1 v2 v3) sz) := by
  refine open_W (fun A => (va_Qi (fun (r : Int32) (u : V × VL × V × V × V × V) => Post r u.1 u.2.1 u.2.2.1 u.2.2.2.1 u.2.2.2.2.1 u.2.2.2.2.2) (fun (u : V × VL × V × V × V × V) t => WPos dC dI ct (XW aX a0 a1 a2 a3 ct u.1 u.2.1 u.2.2.1 u.2.2.2.1 u.2.2.2.2.1 u.2.2.2.2.2) A t) A)) (by decide) (Nat.le_of_ble_eq_true rfl) ?_
  intro p e s m args below meth c ls A X hD0 hP hS hl
  have X0 := X
  obtain ⟨⟨hx, hb, hml, hr, hlk, hown, hts⟩, hA, hK, hN⟩ := X0
  have hD : ∀ (x' : V) (y' : VL) (v0' : V) (v1' : V) (v2' : V) (v3' : V), va_D A (XW aX a0 a1 a2 a3 ct x' y' v0' v1' v2' v3') := fun x' y' v0' v1' v2' v3' => va_D_addr hD0 rfl
  have hl : lv_has ls 4 [(0, .ref (aX 0)), (1, .int i1), (2, .int i2)] := hl
  unfold wp_X0_behind at w
  have hS0 := hS
  refine lv_iload_n hx hb dX0_behind_0 rfl (lv_at hl 1 rfl) ?_
  refine vp_callSi (W.runS (As := [.int i1]) (rest := []) ⟨hx, hb, hml, hown, hts⟩ (met_X0_isOne l w) (va_cwS 1 hts (lw_S q177 q178 q48 q179) rfl rfl rfl hd_X0_isOne ⟨Nat.le_of_ble_eq_true rfl, Nat.le_of_ble_eq_true rfl⟩) pre_S rfl rfl hl.1 rfl (lv_room (Nat.le_of_ble_eq_true rfl)) dX0_behind_1 ⟨Nat.le_refl _, Nat.le_refl _⟩) (fun r1 w => ?_)
  refine lv_if_ne (tgt := 9) hx hb dX0_behind_4 (by decide) (fun c => ?_) (fun c => ?_)
  · have w := And.right w c
    refine lv_iload_n hx hb dX0_behind_9 rfl (lv_at hl 2 rfl) ?_
    refine lv_iconst (v := 0) hx hb dX0_behind_10 (by decide) ?_
    refine lv_iconst (v := 3) hx hb dX0_behind_11 (by decide) ?_
    refine vp_callSi (W.runS (As := [.int i2, .int (0 : Int32), .int (3 : Int32)]) (rest := []) ⟨hx, hb, hml, hown, hts⟩ (met_X0_isIn l w) (va_cwS 3 hts (lw_S q180 q181 q48 q182) rfl rfl rfl hd_X0_isIn ⟨Nat.le_of_ble_eq_true rfl, Nat.le_of_ble_eq_true rfl⟩) pre_S rfl rfl hl.1 rfl (lv_room (Nat.le_of_ble_eq_true rfl)) dX0_behind_12 ⟨Nat.le_refl _, Nat.le_refl _⟩) (fun r2 w => ?_)
    refine lv_if_ne (tgt := 21) hx hb dX0_behind_15 (by decide) (fun c => ?_) (fun c => ?_)
    · have w := And.right w c
      refine lv_aload_n hx hb dX0_behind_21 rfl (lv_at hl 0 rfl) ?_
      refine va_calli (va_runV (As := []) (rest := []) ⟨hx, hb, hml, hown, hts⟩ (met_X0_barOfMonths l dC dI ct aX a0 a1 a2 a3 _ w) (cwV 0 hts (lw_V q300 q302 qs4 q48 q303) rfl rfl rfl hd_X0_barOfMonths ⟨Nat.le_of_ble_eq_true rfl, Nat.le_of_ble_eq_true rfl⟩) (pre_V hK hP (hD _ _ _ _ _ _) hN (va_recv hK hP (ci := 0) (q0 := 0) rfl rfl)) rfl rfl hl.1 rfl (lv_room (Nat.le_of_ble_eq_true rfl)) dX0_behind_22 ⟨Nat.le_refl _, Nat.le_refl _⟩) hS (fun q _ h => x_free (hD _ _ _ _ _ _) hS hA q h) (x_free (hD _ _ _ _ _ _) hS hA) (fun r3 u t H locs ht hvm w hB hz hk hS => ?_)
      obtain ⟨x_3, y_3, v0_3, v1_3, v2_3, v3_3⟩ := u
      dsimp only at w
      have hP : va_P (dC, dI) vwCl (XW aX a0 a1 a2 a3 ct x_3 y_3 v0_3 v1_3 v2_3 v3_3) H := post_P hB ht
      refine lv_istore_n (lv' := [(3, .int r3), (0, .ref (aX 0)), (1, .int i1), (2, .int i2)]) hx hb dX0_behind_25 rfl hl (by decide) rfl (fun ls hl => ?_)
      refine lv_iload_n hx hb dX0_behind_26 rfl (lv_at hl 0 rfl) ?_
      refine lv_if_ge (tgt := 32) hx hb dX0_behind_27 (by decide) (fun c => ?_) (fun c => ?_)
      · have w := And.left w c
        refine lv_iload_n hx hb dX0_behind_32 rfl (lv_at hl 3 rfl) ?_
        refine lv_if_ne (tgt := 48) hx hb dX0_behind_33 (by decide) (fun c => ?_) (fun c => ?_)
        · have w := And.right w c
          refine lv_iload_n hx hb dX0_behind_48 rfl (lv_at hl 3 rfl) ?_
          refine lv_iconst (v := 1) hx hb dX0_behind_49 (by decide) ?_
          refine lv_icmp_ne (tgt := 65) hx hb dX0_behind_50 (by decide) (fun c => ?_) (fun c => ?_)
          · have w := And.right w c
            refine lv_iload_n hx hb dX0_behind_65 rfl (lv_at hl 3 rfl) ?_
            refine lv_iconst (v := 2) hx hb dX0_behind_66 (by decide) ?_
            refine lv_icmp_ne (tgt := 81) hx hb dX0_behind_67 (by decide) (fun c => ?_) (fun c => ?_)
            · have w := And.right w c
              refine lv_aload_n hx hb dX0_behind_81 rfl (lv_at hl 1 rfl) ?_
              refine va_get (D := (dC, dI)) (ci := 0) (v := .ref (a1 0)) (C := RX0) (T := TX0) (N := 14) hx hb hts in_X0 hown hK hP 0 rfl rfl 1 (by decide) (hts _ q129) (fun _ h9 => h9) rfl dX0_behind_82 ?_
              refine lv_iload_n hx hb dX0_behind_85 rfl (lv_at hl 2 rfl) ?_
              have hPc := XW_g1 hP
              have hDc := XW_d1 (hD x_3 y_3 v0_3 v1_3 v2_3 v3_3)
              refine va_calli (va_runV (As := [.int i1]) (rest := []) ⟨hx, hb, hml, hown, hts⟩ (met_X1_owesInAll l dC dI ct a1 _ w) (cwV 1 hts (lw_V q311 q312 q313 q49 q314) rfl rfl rfl hd_X1_owesInAll ⟨Nat.le_of_ble_eq_true rfl, Nat.le_of_ble_eq_true rfl⟩) (pre_V hK hPc hDc hN (va_recv hK hPc (ci := 1) (q0 := 0) rfl rfl)) rfl rfl hl.1 rfl (lv_room (Nat.le_of_ble_eq_true rfl)) dX0_behind_86 ⟨Nat.le_refl _, Nat.le_refl _⟩) hS (fun q _ h => x_free hDc hS hA q h) (x_free hDc hS hA) (fun r4 v1_4 t H locs ht hvm w hB hz hk hS => ?_)
              have hP := XW_j1 hP (hD _ _ _ _ _ _) hk (post_P hB ht)
              have hP : va_P (dC, dI) vwCl (XW aX a0 a1 a2 a3 ct x_3 y_3 v0_3 v1_4 v2_3 v3_3) H := hP
              exact wk_X0_behind_L89 X hD  _ _ _ _ _ _ _ w _ _ _ hP hS (lv_sub hl [] rfl)
            · have w := And.left w c
              refine lv_aload_n hx hb dX0_behind_70 rfl (lv_at hl 1 rfl) ?_
              refine va_get (D := (dC, dI)) (ci := 0) (v := .ref (a1 0)) (C := RX0) (T := TX0) (N := 14) hx hb hts in_X0 hown hK hP 0 rfl rfl 1 (by decide) (hts _ q129) (fun _ h9 => h9) rfl dX0_behind_71 ?_
              refine lv_iload_n hx hb dX0_behind_74 rfl (lv_at hl 2 rfl) ?_
              have hPc := XW_g1 hP
              have hDc := XW_d1 (hD x_3 y_3 v0_3 v1_3 v2_3 v3_3)
              refine va_calli (va_runV (As := [.int i1]) (rest := []) ⟨hx, hb, hml, hown, hts⟩ (met_X1_lotsOf l dC dI ct a1 _ w) (cwV 1 hts (lw_V q304 q305 q306 q49 q307) rfl rfl rfl hd_X1_lotsOf ⟨Nat.le_of_ble_eq_true rfl, Nat.le_of_ble_eq_true rfl⟩) (pre_V hK hPc hDc hN (va_recv hK hPc (ci := 1) (q0 := 0) rfl rfl)) rfl rfl hl.1 rfl (lv_room (Nat.le_of_ble_eq_true rfl)) dX0_behind_75 ⟨Nat.le_refl _, Nat.le_refl _⟩) hS (fun q _ h => x_free hDc hS hA q h) (x_free hDc hS hA) (fun r5 v1_5 t H locs ht hvm w hB hz hk hS => ?_)
              have hP := XW_j1 hP (hD _ _ _ _ _ _) hk (post_P hB ht)
              have hP : va_P (dC, dI) vwCl (XW aX a0 a1 a2 a3 ct x_3 y_3 v0_3 v1_5 v2_3 v3_3) H := hP
              refine lv_goto (tgt := 89) hx hb dX0_behind_78 (by decide) ?_
              exact wk_X0_behind_L89 X hD  _ _ _ _ _ _ _ w _ _ _ hP hS (lv_sub hl [] rfl)
          · have w := And.left w c
            refine lv_aload_n hx hb dX0_behind_53 rfl (lv_at hl 1 rfl) ?_
            refine va_get (D := (dC, dI)) (ci := 0) (v := .ref (a1 0)) (C := RX0) (T := TX0) (N := 14) hx hb hts in_X0 hown hK hP 0 rfl rfl 1 (by decide) (hts _ q129) (fun _ h9 => h9) rfl dX0_behind_54 ?_
            refine va_getN (D := (dC, dI)) (ci := 1) (v := .ref (a1 2)) (C := RX1) (T := TX1) (N := 13) hx hb hts in_X1 hown hK hP 25 rfl rfl 1 (by decide) (va_Nw.use rfl hN.2.1) (fun _ h9 => h9) rfl dX0_behind_57 ?_
            refine lv_iload_n hx hb dX0_behind_60 rfl (lv_at hl 2 rfl) ?_
            obtain ⟨gi, w⟩ := w
            refine va_iald hx hb hK hP 27 0 rfl rfl gi dX0_behind_61 ?_
            refine lv_goto (tgt := 89) hx hb dX0_behind_62 (by decide) ?_
            exact wk_X0_behind_L89 X hD  _ _ _ _ _ _ _ w _ _ _ hP hS (lv_sub hl [] rfl)
        · have w := And.left w c
          refine lv_aload_n hx hb dX0_behind_36 rfl (lv_at hl 1 rfl) ?_
          refine va_get (D := (dC, dI)) (ci := 0) (v := .ref (a1 0)) (C := RX0) (T := TX0) (N := 14) hx hb hts in_X0 hown hK hP 0 rfl rfl 1 (by decide) (hts _ q129) (fun _ h9 => h9) rfl dX0_behind_37 ?_
          refine va_getN (D := (dC, dI)) (ci := 1) (v := .ref (a1 1)) (C := RX1) (T := TX1) (N := 13) hx hb hts in_X1 hown hK hP 25 rfl rfl 0 (by decide) (va_Nw.use rfl hN.1) (fun _ h9 => h9) rfl dX0_behind_40 ?_
          refine lv_iload_n hx hb dX0_behind_43 rfl (lv_at hl 2 rfl) ?_
          obtain ⟨gi, w⟩ := w
          refine va_iald hx hb hK hP 26 0 rfl rfl gi dX0_behind_44 ?_
          refine lv_goto (tgt := 89) hx hb dX0_behind_45 (by decide) ?_
          exact wk_X0_behind_L89 X hD  _ _ _ _ _ _ _ w _ _ _ hP hS (lv_sub hl [] rfl)
      · have w := And.right w c
        refine lv_iload_n hx hb dX0_behind_30 rfl (lv_at hl 0 rfl) ?_
        exact W.iret (v := r3) hx hb hr (fun t ht hW => ⟨⟨r3, (x_3, y_3, v0_3, v1_3, v2_3, v3_3), rfl, w, by rw [ht]; exact hP, va_K.moved hW.alike hK, (hD _ _ _ _ _ _)⟩, hS.F ht⟩) hS.2.2 dX0_behind_31 hlk
    · have w := And.left w c
      refine lv_bipush (v := -2) hx hb dX0_behind_18 (by decide) ?_
      exact W.iret (v := (-2 : Int32)) hx hb hr (fun t ht hW => ⟨⟨(-2 : Int32), (x, y, v0, v1, v2, v3), rfl, w, by rw [ht]; exact hP, va_K.moved hW.alike hK, (hD _ _ _ _ _ _)⟩, hS.F ht⟩) hS.2.2 dX0_behind_20 hlk
  · have w := And.left w c
    refine lv_iconst (v := -1) hx hb dX0_behind_7 (by decide) ?_
    exact W.iret (v := (-1 : Int32)) hx hb hr (fun t ht hW => ⟨⟨(-1 : Int32), (x, y, v0, v1, v2, v3), rfl, w, by rw [ht]; exact hP, va_K.moved hW.alike hK, (hD _ _ _ _ _ _)⟩, hS.F ht⟩) hS.2.2 dX0_behind_8 hlk
abbrev rm_X0_total : Room := { frames := 8, cells := 0, slots := 0, locals := 183 }
theorem hd_X0_total : yX0_total.cls = RX0 ∧ yX0_total.cls ≠ "java/lang/invoke/MethodHandle" ∧ yX0_total.cls ≠ "java/lang/invoke/VarHandle" ∧ (parseMethodDescriptor yX0_total.desc).map (fun d => d.parameters.length) = some 1 := by decide +kernel
set_option maxHeartbeats 4000000 in
set_option maxRecDepth 100000 in
theorem met_X0_total (l : Launch) (dC : Nat → ClassId) (dI : Nat → Nat → Nat) (ct : Nat → ClassId) (aX : Nat → Nat) (a0 : Nat → Nat) (a1 : Nat → Nat) (a2 : Nat → Nat) (a3 : Nat → Nat) (sz : Nat) {i1 : Int32} {x : V} {y : VL} {v0 : V} {v1 : V} {v2 : V} {v3 : V} {Post : Int32 → V → VL → V → V → V → V → Prop} (w : wp_X0_total i1 x y v0 v1 v2 v3 Post) : Met l yX0_total (ws_ yX0_total cX0_total 3 (some .int)) rm_X0_total (va_Pc [.ref (aX 0), .int i1] (fun U => WPre dC dI ct (XW aX a0 a1 a2 a3 ct x y v0 v1 v2 v3) sz U)) ((fun A => (va_Qi (fun (r : Int32) (u : V × VL × V × V × V × V) => Post r u.1 u.2.1 u.2.2.1 u.2.2.2.1 u.2.2.2.2.1 u.2.2.2.2.2) (fun (u : V × VL × V × V × V × V) t => WPos dC dI ct (XW aX a0 a1 a2 a3 ct u.1 u.2.1 u.2.2.1 u.2.2.2.1 u.2.2.2.2.1 u.2.2.2.2.2) A t) A)) (va_A (XW aX a0 a1 a2 a3 ct x y v0 v1 v2 v3) sz)) 0 0 (va_A (XW aX a0 a1 a2 a3 ct x y v0 v1 v2 v3) sz) := by
  refine open_W (fun A => (va_Qi (fun (r : Int32) (u : V × VL × V × V × V × V) => Post r u.1 u.2.1 u.2.2.1 u.2.2.2.1 u.2.2.2.2.1 u.2.2.2.2.2) (fun (u : V × VL × V × V × V × V) t => WPos dC dI ct (XW aX a0 a1 a2 a3 ct u.1 u.2.1 u.2.2.1 u.2.2.2.1 u.2.2.2.2.1 u.2.2.2.2.2) A t) A)) (by decide) (Nat.le_of_ble_eq_true rfl) ?_
  intro p e s m args below meth c ls A X hD0 hP hS hl
  have X0 := X
  obtain ⟨⟨hx, hb, hml, hr, hlk, hown, hts⟩, hA, hK, hN⟩ := X0
  have hD : ∀ (x' : V) (y' : VL) (v0' : V) (v1' : V) (v2' : V) (v3' : V), va_D A (XW aX a0 a1 a2 a3 ct x' y' v0' v1' v2' v3') := fun x' y' v0' v1' v2' v3' => va_D_addr hD0 rfl
  have hl : lv_has ls 3 [(0, .ref (aX 0)), (1, .int i1)] := hl
  unfold wp_X0_total at w
  have hS0 := hS
  refine lv_iload_n hx hb dX0_total_0 rfl (lv_at hl 1 rfl) ?_
  refine lv_iconst (v := 0) hx hb dX0_total_1 (by decide) ?_
  refine lv_iconst (v := 5) hx hb dX0_total_2 (by decide) ?_
  refine vp_callSi (W.runS (As := [.int i1, .int (0 : Int32), .int (5 : Int32)]) (rest := []) ⟨hx, hb, hml, hown, hts⟩ (met_X0_isIn l w) (va_cwS 3 hts (lw_S q180 q181 q48 q182) rfl rfl rfl hd_X0_isIn ⟨Nat.le_of_ble_eq_true rfl, Nat.le_of_ble_eq_true rfl⟩) pre_S rfl rfl hl.1 rfl (lv_room (Nat.le_of_ble_eq_true rfl)) dX0_total_3 ⟨Nat.le_refl _, Nat.le_refl _⟩) (fun r1 w => ?_)
  refine lv_if_ne (tgt := 12) hx hb dX0_total_6 (by decide) (fun c => ?_) (fun c => ?_)
  · have w := And.right w c
    refine lv_aload_n hx hb dX0_total_12 rfl (lv_at hl 0 rfl) ?_
    refine va_calli (va_runV (As := []) (rest := []) ⟨hx, hb, hml, hown, hts⟩ (met_X0_barOfMonths l dC dI ct aX a0 a1 a2 a3 _ w) (cwV 0 hts (lw_V q300 q302 qs4 q48 q303) rfl rfl rfl hd_X0_barOfMonths ⟨Nat.le_of_ble_eq_true rfl, Nat.le_of_ble_eq_true rfl⟩) (pre_V hK hP (hD _ _ _ _ _ _) hN (va_recv hK hP (ci := 0) (q0 := 0) rfl rfl)) rfl rfl hl.1 rfl (lv_room (Nat.le_of_ble_eq_true rfl)) dX0_total_13 ⟨Nat.le_refl _, Nat.le_refl _⟩) hS (fun q _ h => x_free (hD _ _ _ _ _ _) hS hA q h) (x_free (hD _ _ _ _ _ _) hS hA) (fun r2 u t H locs ht hvm w hB hz hk hS => ?_)
    obtain ⟨x_2, y_2, v0_2, v1_2, v2_2, v3_2⟩ := u
    dsimp only at w
    have hP : va_P (dC, dI) vwCl (XW aX a0 a1 a2 a3 ct x_2 y_2 v0_2 v1_2 v2_2 v3_2) H := post_P hB ht
    refine lv_istore_n (lv' := [(2, .int r2), (0, .ref (aX 0)), (1, .int i1)]) hx hb dX0_total_16 rfl hl (by decide) rfl (fun ls hl => ?_)
    refine lv_iload_n hx hb dX0_total_17 rfl (lv_at hl 0 rfl) ?_
    refine lv_if_ge (tgt := 23) hx hb dX0_total_18 (by decide) (fun c => ?_) (fun c => ?_)
    · have w := And.left w c
      refine lv_iload_n hx hb dX0_total_23 rfl (lv_at hl 2 rfl) ?_
      by_cases c3_0 : i1 = 0
      · have w := And.left w c3_0
        refine lv_tableIn (tgt := 60) hx hb dX0_total_24 (by rw [c3_0]; decide) (by rw [c3_0]; decide) (by rw [c3_0]; rfl) (by decide) ?_
        refine lv_aload_n hx hb dX0_total_60 rfl (lv_at hl 1 rfl) ?_
        refine va_get (D := (dC, dI)) (ci := 0) (v := .ref (a1 0)) (C := RX0) (T := TX0) (N := 14) hx hb hts in_X0 hown hK hP 0 rfl rfl 1 (by decide) (hts _ q129) (fun _ h9 => h9) rfl dX0_total_61 ?_
        have hPc := XW_g1 hP
        have hDc := XW_d1 (hD x_2 y_2 v0_2 v1_2 v2_2 v3_2)
        refine va_calli (va_runV (As := []) (rest := []) ⟨hx, hb, hml, hown, hts⟩ (met_X1_notes l dC dI ct a1 _ w) (cwV 0 hts (lw_V q319 q262 q263 q49 q264) rfl rfl rfl hd_X1_notes ⟨Nat.le_of_ble_eq_true rfl, Nat.le_of_ble_eq_true rfl⟩) (pre_V hK hPc hDc hN (va_recv hK hPc (ci := 1) (q0 := 0) rfl rfl)) rfl rfl hl.1 rfl (lv_room (Nat.le_of_ble_eq_true rfl)) dX0_total_64 ⟨Nat.le_refl _, Nat.le_refl _⟩) hS (fun q _ h => x_free hDc hS hA q h) (x_free hDc hS hA) (fun r4 v1_4 t H locs ht hvm w hB hz hk hS => ?_)
        have hP := XW_j1 hP (hD _ _ _ _ _ _) hk (post_P hB ht)
        have hP : va_P (dC, dI) vwCl (XW aX a0 a1 a2 a3 ct x_2 y_2 v0_2 v1_4 v2_2 v3_2) H := hP
        exact W.iret (v := r4) hx hb hr (fun t ht hW => ⟨⟨r4, (x_2, y_2, v0_2, v1_4, v2_2, v3_2), rfl, w, by rw [ht]; exact hP, va_K.moved hW.alike hK, (hD _ _ _ _ _ _)⟩, hS.F ht⟩) hS.2.2 dX0_total_67 hlk
      have w := And.right w c3_0
      by_cases c3_1 : i1 = 1
      · have w := And.left w c3_1
        refine lv_tableIn (tgt := 68) hx hb dX0_total_24 (by rw [c3_1]; decide) (by rw [c3_1]; decide) (by rw [c3_1]; rfl) (by decide) ?_
        refine lv_aload_n hx hb dX0_total_68 rfl (lv_at hl 1 rfl) ?_
        refine va_get (D := (dC, dI)) (ci := 0) (v := .ref (a1 0)) (C := RX0) (T := TX0) (N := 14) hx hb hts in_X0 hown hK hP 0 rfl rfl 1 (by decide) (hts _ q129) (fun _ h9 => h9) rfl dX0_total_69 ?_
        have hPc := XW_g1 hP
        have hDc := XW_d1 (hD x_2 y_2 v0_2 v1_2 v2_2 v3_2)
        refine va_calli (va_runV (As := []) (rest := []) ⟨hx, hb, hml, hown, hts⟩ (met_X1_land l dC dI ct a1 _ w) (cwV 0 hts (lw_V q320 q258 q259 q49 q260) rfl rfl rfl hd_X1_land ⟨Nat.le_of_ble_eq_true rfl, Nat.le_of_ble_eq_true rfl⟩) (pre_V hK hPc hDc hN (va_recv hK hPc (ci := 1) (q0 := 0) rfl rfl)) rfl rfl hl.1 rfl (lv_room (Nat.le_of_ble_eq_true rfl)) dX0_total_72 ⟨Nat.le_refl _, Nat.le_refl _⟩) hS (fun q _ h => x_free hDc hS hA q h) (x_free hDc hS hA) (fun r5 v1_5 t H locs ht hvm w hB hz hk hS => ?_)
        have hP := XW_j1 hP (hD _ _ _ _ _ _) hk (post_P hB ht)
        have hP : va_P (dC, dI) vwCl (XW aX a0 a1 a2 a3 ct x_2 y_2 v0_2 v1_5 v2_2 v3_2) H := hP
        exact W.iret (v := r5) hx hb hr (fun t ht hW => ⟨⟨r5, (x_2, y_2, v0_2, v1_5, v2_2, v3_2), rfl, w, by rw [ht]; exact hP, va_K.moved hW.alike hK, (hD _ _ _ _ _ _)⟩, hS.F ht⟩) hS.2.2 dX0_total_75 hlk
      have w := And.right w c3_1
      by_cases c3_2 : i1 = 2
      · have w := And.left w c3_2
        refine lv_tableIn (tgt := 76) hx hb dX0_total_24 (by rw [c3_2]; decide) (by rw [c3_2]; decide) (by rw [c3_2]; rfl) (by decide) ?_
        refine lv_aload_n hx hb dX0_total_76 rfl (lv_at hl 1 rfl) ?_
        refine va_get (D := (dC, dI)) (ci := 0) (v := .ref (a1 0)) (C := RX0) (T := TX0) (N := 14) hx hb hts in_X0 hown hK hP 0 rfl rfl 1 (by decide) (hts _ q129) (fun _ h9 => h9) rfl dX0_total_77 ?_
        have hPc := XW_g1 hP
        have hDc := XW_d1 (hD x_2 y_2 v0_2 v1_2 v2_2 v3_2)
        refine va_calli (va_runV (As := []) (rest := []) ⟨hx, hb, hml, hown, hts⟩ (met_X1_rate l dC dI ct a1 _ w) (cwV 0 hts (lw_V q253 q254 q255 q49 q256) rfl rfl rfl hd_X1_rate ⟨Nat.le_of_ble_eq_true rfl, Nat.le_of_ble_eq_true rfl⟩) (pre_V hK hPc hDc hN (va_recv hK hPc (ci := 1) (q0 := 0) rfl rfl)) rfl rfl hl.1 rfl (lv_room (Nat.le_of_ble_eq_true rfl)) dX0_total_80 ⟨Nat.le_refl _, Nat.le_refl _⟩) hS (fun q _ h => x_free hDc hS hA q h) (x_free hDc hS hA) (fun r6 v1_6 t H locs ht hvm w hB hz hk hS => ?_)
        have hP := XW_j1 hP (hD _ _ _ _ _ _) hk (post_P hB ht)
        have hP : va_P (dC, dI) vwCl (XW aX a0 a1 a2 a3 ct x_2 y_2 v0_2 v1_6 v2_2 v3_2) H := hP
        exact W.iret (v := r6) hx hb hr (fun t ht hW => ⟨⟨r6, (x_2, y_2, v0_2, v1_6, v2_2, v3_2), rfl, w, by rw [ht]; exact hP, va_K.moved hW.alike hK, (hD _ _ _ _ _ _)⟩, hS.F ht⟩) hS.2.2 dX0_total_83 hlk
      have w := And.right w c3_2
      by_cases c3_3 : i1 = 3
      · have w := And.left w c3_3
        refine lv_tableIn (tgt := 84) hx hb dX0_total_24 (by rw [c3_3]; decide) (by rw [c3_3]; decide) (by rw [c3_3]; rfl) (by decide) ?_
        refine lv_aload_n hx hb dX0_total_84 rfl (lv_at hl 1 rfl) ?_
        refine va_get (D := (dC, dI)) (ci := 0) (v := .ref (a1 0)) (C := RX0) (T := TX0) (N := 14) hx hb hts in_X0 hown hK hP 0 rfl rfl 1 (by decide) (hts _ q129) (fun _ h9 => h9) rfl dX0_total_85 ?_
        refine va_getN (D := (dC, dI)) (ci := 1) (v := .int (v1_2 14 0)) (C := RX1) (T := TX1) (N := 13) hx hb hts in_X1 hown hK hP 25 rfl rfl 6 (by decide) (va_Nw.use rfl hN.2.2.2.2.2.2.1) (fun _ h9 => h9) rfl dX0_total_88 ?_
        exact W.iret (v := (v1_2 14 0)) hx hb hr (fun t ht hW => ⟨⟨(v1_2 14 0), (x_2, y_2, v0_2, v1_2, v2_2, v3_2), rfl, w, by rw [ht]; exact hP, va_K.moved hW.alike hK, (hD _ _ _ _ _ _)⟩, hS.F ht⟩) hS.2.2 dX0_total_91 hlk
      have w := And.right w c3_3
      by_cases c3_4 : i1 = 4
      · have w := And.left w c3_4
        refine lv_tableIn (tgt := 92) hx hb dX0_total_24 (by rw [c3_4]; decide) (by rw [c3_4]; decide) (by rw [c3_4]; rfl) (by decide) ?_
        refine lv_aload_n hx hb dX0_total_92 rfl (lv_at hl 1 rfl) ?_
        refine va_get (D := (dC, dI)) (ci := 0) (v := .ref (a1 0)) (C := RX0) (T := TX0) (N := 14) hx hb hts in_X0 hown hK hP 0 rfl rfl 1 (by decide) (hts _ q129) (fun _ h9 => h9) rfl dX0_total_93 ?_
        refine va_getN (D := (dC, dI)) (ci := 1) (v := .ref (a1 12)) (C := RX1) (T := TX1) (N := 13) hx hb hts in_X1 hown hK hP 25 rfl rfl 5 (by decide) (va_Nw.use rfl hN.2.2.2.2.2.1) (fun _ h9 => h9) rfl dX0_total_96 ?_
        refine lv_iconst (v := 1) hx hb dX0_total_99 (by decide) ?_
        refine va_iald hx hb hK hP 37 0 rfl rfl (x_vin (by decide)) dX0_total_100 ?_
        exact W.iret (v := (v1_2 10 (1 : Int32).toNatClampNeg)) hx hb hr (fun t ht hW => ⟨⟨(v1_2 10 (1 : Int32).toNatClampNeg), (x_2, y_2, v0_2, v1_2, v2_2, v3_2), rfl, w, by rw [ht]; exact hP, va_K.moved hW.alike hK, (hD _ _ _ _ _ _)⟩, hS.F ht⟩) hS.2.2 dX0_total_101 hlk
      have w := And.right w c3_4
      refine lv_tableOut (tgt := 102) hx hb dX0_total_24 (by have h0 := lv_neT c3_0 (a := 0) (by decide); have h1 := lv_neT c3_1 (a := 1) (by decide); have h2 := lv_neT c3_2 (a := 2) (by decide); have h3 := lv_neT c3_3 (a := 3) (by decide); have h4 := lv_neT c3_4 (a := 4) (by decide); omega) (by decide) ?_
      refine lv_aload_n hx hb dX0_total_102 rfl (lv_at hl 1 rfl) ?_
      refine va_get (D := (dC, dI)) (ci := 0) (v := .ref (a1 0)) (C := RX0) (T := TX0) (N := 14) hx hb hts in_X0 hown hK hP 0 rfl rfl 1 (by decide) (hts _ q129) (fun _ h9 => h9) rfl dX0_total_103 ?_
      refine va_getN (D := (dC, dI)) (ci := 1) (v := .int (v1_2 14 1)) (C := RX1) (T := TX1) (N := 13) hx hb hts in_X1 hown hK hP 25 rfl rfl 7 (by decide) (va_Nw.use rfl hN.2.2.2.2.2.2.2.1) (fun _ h9 => h9) rfl dX0_total_106 ?_
      exact W.iret (v := (v1_2 14 1)) hx hb hr (fun t ht hW => ⟨⟨(v1_2 14 1), (x_2, y_2, v0_2, v1_2, v2_2, v3_2), rfl, w, by rw [ht]; exact hP, va_K.moved hW.alike hK, (hD _ _ _ _ _ _)⟩, hS.F ht⟩) hS.2.2 dX0_total_109 hlk
    · have w := And.right w c
      refine lv_iload_n hx hb dX0_total_21 rfl (lv_at hl 0 rfl) ?_
      exact W.iret (v := r2) hx hb hr (fun t ht hW => ⟨⟨r2, (x_2, y_2, v0_2, v1_2, v2_2, v3_2), rfl, w, by rw [ht]; exact hP, va_K.moved hW.alike hK, (hD _ _ _ _ _ _)⟩, hS.F ht⟩) hS.2.2 dX0_total_22 hlk
  · have w := And.left w c
    refine lv_bipush (v := -2) hx hb dX0_total_9 (by decide) ?_
    exact W.iret (v := (-2 : Int32)) hx hb hr (fun t ht hW => ⟨⟨(-2 : Int32), (x, y, v0, v1, v2, v3), rfl, w, by rw [ht]; exact hP, va_K.moved hW.alike hK, (hD _ _ _ _ _ _)⟩, hS.F ht⟩) hS.2.2 dX0_total_11 hlk
abbrev rm_X0_fell : Room := { frames := 8, cells := 0, slots := 0, locals := 183 }
theorem hd_X0_fell : yX0_fell.cls = RX0 ∧ yX0_fell.cls ≠ "java/lang/invoke/MethodHandle" ∧ yX0_fell.cls ≠ "java/lang/invoke/VarHandle" ∧ (parseMethodDescriptor yX0_fell.desc).map (fun d => d.parameters.length) = some 1 := by decide +kernel
set_option maxHeartbeats 4000000 in
set_option maxRecDepth 100000 in
theorem wk_X0_fell_S26 {p : Program} {l : Launch} {e : Env} {s : State} {m : MethodId} {args : Array Value} {below : List Frame} {meth : Method} {c : Code} {dC : Nat → ClassId} {dI : Nat → Nat → Nat} {ct : Nat → ClassId} {A : Nat → Prop} {aX : Nat → Nat} {a0 : Nat → Nat} {a1 : Nat → Nat} {a2 : Nat → Nat} {a3 : Nat → Nat} {Post : Int32 → V → VL → V → V → V → V → Prop} {K26 : Int32 → Int32 → V → VL → V → V → V → V → Prop}  (X : CxW p s m args meth c cX0_fell 4 (some .int) RX0 dC dI ct A) (hD : ∀ (x : V) (y : VL) (v0 : V) (v1 : V) (v2 : V) (v3 : V), va_D A (XW aX a0 a1 a2 a3 ct x y v0 v1 v2 v3)) (hK26 : ∀ (i1 : Int32) (i3 : Int32) (x : V) (y : VL) (v0 : V) (v1 : V) (v2 : V) (v3 : V), K26 i1 i3 x y v0 v1 v2 v3 → ∀ (H : Heap) (locs : List Loc) (ls : Array Slot), va_P (dC, dI) vwCl (XW aX a0 a1 a2 a3 ct x y v0 v1 v2 v3) H → va_S A s.heap H locs → lv_has ls 4 [(0, .ref (aX 0)), (1, .int i1), (3, .int i3)] → W p l e rm_X0_fell s m args below meth c H locs 0 0 (MQ below (va_Qi (fun (r : Int32) (u : V × VL × V × V × V × V) => Post r u.1 u.2.1 u.2.2.1 u.2.2.2.1 u.2.2.2.2.1 u.2.2.2.2.2) (fun (u : V × VL × V × V × V × V) t => WPos dC dI ct (XW aX a0 a1 a2 a3 ct u.1 u.2.1 u.2.2.1 u.2.2.2.1 u.2.2.2.2.1 u.2.2.2.2.2) A t) A) args s 0 0 A) (F0 m 26 ls [])) (i1 : Int32) (i3 : Int32) (x : V) (y : VL) (v0 : V) (v1 : V) (v2 : V) (v3 : V) (w : wp_X0_fell_S26  Post K26 i1 i3 x y v0 v1 v2 v3) : ∀ (H : Heap) (locs : List Loc) (ls : Array Slot), va_P (dC, dI) vwCl (XW aX a0 a1 a2 a3 ct x y v0 v1 v2 v3) H → va_S A s.heap H locs → lv_has ls 4 [(0, .ref (aX 0)), (1, .int i1), (3, .int i3)] → W p l e rm_X0_fell s m args below meth c H locs 0 0 (MQ below (va_Qi (fun (r : Int32) (u : V × VL × V × V × V × V) => Post r u.1 u.2.1 u.2.2.1 u.2.2.2.1 u.2.2.2.2.1 u.2.2.2.2.2) (fun (u : V × VL × V × V × V × V) t => WPos dC dI ct (XW aX a0 a1 a2 a3 ct u.1 u.2.1 u.2.2.1 u.2.2.2.1 u.2.2.2.2.1 u.2.2.2.2.2) A t) A) args s 0 0 A) (F0 m 26 ls []) := by
  intro H locs ls hP hS hl
  have X0 := X
  obtain ⟨⟨hx, hb, hml, hr, hlk, hown, hts⟩, hA, hK, hN⟩ := X0
  unfold wp_X0_fell_S26 at w
  refine lv_iload_n hx hb dX0_fell_26 rfl (lv_at hl 2 rfl) ?_
  refine lv_aload_n hx hb dX0_fell_27 rfl (lv_at hl 0 rfl) ?_
  refine va_get (D := (dC, dI)) (ci := 0) (v := .int (x 5 3)) (C := RX0) (T := TX0) (N := 14) hx hb hts in_X0 hown hK hP 0 rfl rfl 7 (by decide) (hts _ q135) (fun _ h9 => h9) rfl dX0_fell_28 ?_
  refine lv_icmp_ge (tgt := 52) hx hb dX0_fell_31 (by decide) (fun c => ?_) (fun c => ?_)
  · have w := And.left w c
    refine lv_bipush (v := -6) hx hb dX0_fell_52 (by decide) ?_
    exact W.iret (v := (-6 : Int32)) hx hb hr (fun t ht hW => ⟨⟨(-6 : Int32), (x, y, v0, v1, v2, v3), rfl, w, by rw [ht]; exact hP, va_K.moved hW.alike hK, (hD _ _ _ _ _ _)⟩, hS.F ht⟩) hS.2.2 dX0_fell_54 hlk
  · have w := And.right w c
    refine lv_aload_n hx hb dX0_fell_34 rfl (lv_at hl 0 rfl) ?_
    refine va_get (D := (dC, dI)) (ci := 0) (v := .ref (aX 3)) (C := RX0) (T := TX0) (N := 14) hx hb hts in_X0 hown hK hP 0 rfl rfl 8 (by decide) (hts _ q136) (fun _ h9 => h9) rfl dX0_fell_35 ?_
    refine lv_iload_n hx hb dX0_fell_38 rfl (lv_at hl 2 rfl) ?_
    obtain ⟨gi, w⟩ := w
    refine va_iald hx hb hK hP 3 0 rfl rfl gi dX0_fell_39 ?_
    refine lv_iload_n hx hb dX0_fell_40 rfl (lv_at hl 1 rfl) ?_
    refine lv_icmp_ge (tgt := 46) hx hb dX0_fell_41 (by decide) (fun c => ?_) (fun c => ?_)
    · have w := And.left w c
      refine lv_iinc (v := (i3 + 1)) (lv' := [(3, .int (i3 + 1)), (0, .ref (aX 0)), (1, .int i1)]) hx hb dX0_fell_46 hl (k := 2) rfl rfl (by decide) rfl (fun ls hl => ?_)
      refine lv_goto (tgt := 26) hx hb dX0_fell_49 (by decide) ?_
      exact hK26 _ _ _ _ _ _ _ _ w _ _ _ hP hS (lv_sub hl [1, 2, 0] rfl)
    · have w := And.right w c
      refine lv_iload_n hx hb dX0_fell_44 rfl (lv_at hl 2 rfl) ?_
      exact W.iret (v := i3) hx hb hr (fun t ht hW => ⟨⟨i3, (x, y, v0, v1, v2, v3), rfl, w, by rw [ht]; exact hP, va_K.moved hW.alike hK, (hD _ _ _ _ _ _)⟩, hS.F ht⟩) hS.2.2 dX0_fell_45 hlk
set_option maxHeartbeats 4000000 in
set_option maxRecDepth 100000 in
theorem wk_X0_fell_L26 {p : Program} {l : Launch} {e : Env} {s : State} {m : MethodId} {args : Array Value} {below : List Frame} {meth : Method} {c : Code} {dC : Nat → ClassId} {dI : Nat → Nat → Nat} {ct : Nat → ClassId} {A : Nat → Prop} {aX : Nat → Nat} {a0 : Nat → Nat} {a1 : Nat → Nat} {a2 : Nat → Nat} {a3 : Nat → Nat} {Post : Int32 → V → VL → V → V → V → V → Prop}   (X : CxW p s m args meth c cX0_fell 4 (some .int) RX0 dC dI ct A) (hD : ∀ (x : V) (y : VL) (v0 : V) (v1 : V) (v2 : V) (v3 : V), va_D A (XW aX a0 a1 a2 a3 ct x y v0 v1 v2 v3))  : ∀ (n : Nat) (i1 : Int32) (i3 : Int32) (x : V) (y : VL) (v0 : V) (v1 : V) (v2 : V) (v3 : V), wp_X0_fell_L26  Post  n i1 i3 x y v0 v1 v2 v3 → ∀ (H : Heap) (locs : List Loc) (ls : Array Slot), va_P (dC, dI) vwCl (XW aX a0 a1 a2 a3 ct x y v0 v1 v2 v3) H → va_S A s.heap H locs → lv_has ls 4 [(0, .ref (aX 0)), (1, .int i1), (3, .int i3)] → W p l e rm_X0_fell s m args below meth c H locs 0 0 (MQ below (va_Qi (fun (r : Int32) (u : V × VL × V × V × V × V) => Post r u.1 u.2.1 u.2.2.1 u.2.2.2.1 u.2.2.2.2.1 u.2.2.2.2.2) (fun (u : V × VL × V × V × V × V) t => WPos dC dI ct (XW aX a0 a1 a2 a3 ct u.1 u.2.1 u.2.2.1 u.2.2.2.1 u.2.2.2.2.1 u.2.2.2.2.2) A t) A) args s 0 0 A) (F0 m 26 ls []) := by
  intro n
  induction n with
  | zero => intro i1 i3 x y v0 v1 v2 v3 w; exact False.elim w
  | succ n ih => intro i1 i3 x y v0 v1 v2 v3 w H locs ls hP hS hl; exact wk_X0_fell_S26 X hD  ih i1 i3 x y v0 v1 v2 v3 w H locs ls hP hS hl
set_option maxHeartbeats 4000000 in
set_option maxRecDepth 100000 in
theorem met_X0_fell (l : Launch) (dC : Nat → ClassId) (dI : Nat → Nat → Nat) (ct : Nat → ClassId) (aX : Nat → Nat) (a0 : Nat → Nat) (a1 : Nat → Nat) (a2 : Nat → Nat) (a3 : Nat → Nat) (sz : Nat) {i1 : Int32} {x : V} {y : VL} {v0 : V} {v1 : V} {v2 : V} {v3 : V} {Post : Int32 → V → VL → V → V → V → V → Prop} (w : wp_X0_fell i1 x y v0 v1 v2 v3 Post) : Met l yX0_fell (ws_ yX0_fell cX0_fell 4 (some .int)) rm_X0_fell (va_Pc [.ref (aX 0), .int i1] (fun U => WPre dC dI ct (XW aX a0 a1 a2 a3 ct x y v0 v1 v2 v3) sz U)) ((fun A => (va_Qi (fun (r : Int32) (u : V × VL × V × V × V × V) => Post r u.1 u.2.1 u.2.2.1 u.2.2.2.1 u.2.2.2.2.1 u.2.2.2.2.2) (fun (u : V × VL × V × V × V × V) t => WPos dC dI ct (XW aX a0 a1 a2 a3 ct u.1 u.2.1 u.2.2.1 u.2.2.2.1 u.2.2.2.2.1 u.2.2.2.2.2) A t) A)) (va_A (XW aX a0 a1 a2 a3 ct x y v0 v1 v2 v3) sz)) 0 0 (va_A (XW aX a0 a1 a2 a3 ct x y v0 v1 v2 v3) sz) := by
  refine open_W (fun A => (va_Qi (fun (r : Int32) (u : V × VL × V × V × V × V) => Post r u.1 u.2.1 u.2.2.1 u.2.2.2.1 u.2.2.2.2.1 u.2.2.2.2.2) (fun (u : V × VL × V × V × V × V) t => WPos dC dI ct (XW aX a0 a1 a2 a3 ct u.1 u.2.1 u.2.2.1 u.2.2.2.1 u.2.2.2.2.1 u.2.2.2.2.2) A t) A)) (by decide) (Nat.le_of_ble_eq_true rfl) ?_
  intro p e s m args below meth c ls A X hD0 hP hS hl
  have X0 := X
  obtain ⟨⟨hx, hb, hml, hr, hlk, hown, hts⟩, hA, hK, hN⟩ := X0
  have hD : ∀ (x' : V) (y' : VL) (v0' : V) (v1' : V) (v2' : V) (v3' : V), va_D A (XW aX a0 a1 a2 a3 ct x' y' v0' v1' v2' v3') := fun x' y' v0' v1' v2' v3' => va_D_addr hD0 rfl
  have hl : lv_has ls 4 [(0, .ref (aX 0)), (1, .int i1)] := hl
  unfold wp_X0_fell at w
  have hS0 := hS
  refine lv_iload_n hx hb dX0_fell_0 rfl (lv_at hl 1 rfl) ?_
  refine lv_iconst (v := 0) hx hb dX0_fell_1 (by decide) ?_
  refine lv_bipush (v := 100) hx hb dX0_fell_2 (by decide) ?_
  refine vp_callSi (W.runS (As := [.int i1, .int (0 : Int32), .int (100 : Int32)]) (rest := []) ⟨hx, hb, hml, hown, hts⟩ (met_X0_isIn l w) (va_cwS 3 hts (lw_S q180 q181 q48 q182) rfl rfl rfl hd_X0_isIn ⟨Nat.le_of_ble_eq_true rfl, Nat.le_of_ble_eq_true rfl⟩) pre_S rfl rfl hl.1 rfl (lv_room (Nat.le_of_ble_eq_true rfl)) dX0_fell_4 ⟨Nat.le_refl _, Nat.le_refl _⟩) (fun r1 w => ?_)
  refine lv_if_ne (tgt := 13) hx hb dX0_fell_7 (by decide) (fun c => ?_) (fun c => ?_)
  · have w := And.right w c
    refine lv_aload_n hx hb dX0_fell_13 rfl (lv_at hl 0 rfl) ?_
    refine va_calli (va_runV (As := []) (rest := []) ⟨hx, hb, hml, hown, hts⟩ (met_X0_barOfMonths l dC dI ct aX a0 a1 a2 a3 _ w) (cwV 0 hts (lw_V q300 q302 qs4 q48 q303) rfl rfl rfl hd_X0_barOfMonths ⟨Nat.le_of_ble_eq_true rfl, Nat.le_of_ble_eq_true rfl⟩) (pre_V hK hP (hD _ _ _ _ _ _) hN (va_recv hK hP (ci := 0) (q0 := 0) rfl rfl)) rfl rfl hl.1 rfl (lv_room (Nat.le_of_ble_eq_true rfl)) dX0_fell_14 ⟨Nat.le_refl _, Nat.le_refl _⟩) hS (fun q _ h => x_free (hD _ _ _ _ _ _) hS hA q h) (x_free (hD _ _ _ _ _ _) hS hA) (fun r2 u t H locs ht hvm w hB hz hk hS => ?_)
    obtain ⟨x_2, y_2, v0_2, v1_2, v2_2, v3_2⟩ := u
    dsimp only at w
    have hP : va_P (dC, dI) vwCl (XW aX a0 a1 a2 a3 ct x_2 y_2 v0_2 v1_2 v2_2 v3_2) H := post_P hB ht
    refine lv_istore_n (lv' := [(2, .int r2), (0, .ref (aX 0)), (1, .int i1)]) hx hb dX0_fell_17 rfl hl (by decide) rfl (fun ls hl => ?_)
    refine lv_iload_n hx hb dX0_fell_18 rfl (lv_at hl 0 rfl) ?_
    refine lv_if_ge (tgt := 24) hx hb dX0_fell_19 (by decide) (fun c => ?_) (fun c => ?_)
    · have w := And.left w c
      refine lv_iconst (v := 0) hx hb dX0_fell_24 (by decide) ?_
      refine lv_istore_n (lv' := [(3, .int (0 : Int32)), (2, .int r2), (0, .ref (aX 0)), (1, .int i1)]) hx hb dX0_fell_25 rfl hl (by decide) rfl (fun ls hl => ?_)
      obtain ⟨n, w⟩ := w
      exact wk_X0_fell_L26 X hD  n _ _ _ _ _ _ _ _ w _ _ _ hP hS (lv_sub hl [2, 3, 0] rfl)
    · have w := And.right w c
      refine lv_iload_n hx hb dX0_fell_22 rfl (lv_at hl 0 rfl) ?_
      exact W.iret (v := r2) hx hb hr (fun t ht hW => ⟨⟨r2, (x_2, y_2, v0_2, v1_2, v2_2, v3_2), rfl, w, by rw [ht]; exact hP, va_K.moved hW.alike hK, (hD _ _ _ _ _ _)⟩, hS.F ht⟩) hS.2.2 dX0_fell_23 hlk
  · have w := And.left w c
    refine lv_bipush (v := -2) hx hb dX0_fell_10 (by decide) ?_
    exact W.iret (v := (-2 : Int32)) hx hb hr (fun t ht hW => ⟨⟨(-2 : Int32), (x, y, v0, v1, v2, v3), rfl, w, by rw [ht]; exact hP, va_K.moved hW.alike hK, (hD _ _ _ _ _ _)⟩, hS.F ht⟩) hS.2.2 dX0_fell_12 hlk
abbrev rm_X0_done : Room := { frames := 8, cells := 0, slots := 0, locals := 183 }
theorem hd_X0_done : yX0_done.cls = RX0 ∧ yX0_done.cls ≠ "java/lang/invoke/MethodHandle" ∧ yX0_done.cls ≠ "java/lang/invoke/VarHandle" ∧ (parseMethodDescriptor yX0_done.desc).map (fun d => d.parameters.length) = some 0 := by decide +kernel
set_option maxHeartbeats 4000000 in
set_option maxRecDepth 100000 in
theorem met_X0_done (l : Launch) (dC : Nat → ClassId) (dI : Nat → Nat → Nat) (ct : Nat → ClassId) (aX : Nat → Nat) (a0 : Nat → Nat) (a1 : Nat → Nat) (a2 : Nat → Nat) (a3 : Nat → Nat) (sz : Nat)  {x : V} {y : VL} {v0 : V} {v1 : V} {v2 : V} {v3 : V} {Post : Int32 → V → VL → V → V → V → V → Prop} (w : wp_X0_done x y v0 v1 v2 v3 Post) : Met l yX0_done (ws_ yX0_done cX0_done 2 (some .int)) rm_X0_done (va_Pc [.ref (aX 0)] (fun U => WPre dC dI ct (XW aX a0 a1 a2 a3 ct x y v0 v1 v2 v3) sz U)) ((fun A => (va_Qi (fun (r : Int32) (u : V × VL × V × V × V × V) => Post r u.1 u.2.1 u.2.2.1 u.2.2.2.1 u.2.2.2.2.1 u.2.2.2.2.2) (fun (u : V × VL × V × V × V × V) t => WPos dC dI ct (XW aX a0 a1 a2 a3 ct u.1 u.2.1 u.2.2.1 u.2.2.2.1 u.2.2.2.2.1 u.2.2.2.2.2) A t) A)) (va_A (XW aX a0 a1 a2 a3 ct x y v0 v1 v2 v3) sz)) 0 0 (va_A (XW aX a0 a1 a2 a3 ct x y v0 v1 v2 v3) sz) := by
  refine open_W (fun A => (va_Qi (fun (r : Int32) (u : V × VL × V × V × V × V) => Post r u.1 u.2.1 u.2.2.1 u.2.2.2.1 u.2.2.2.2.1 u.2.2.2.2.2) (fun (u : V × VL × V × V × V × V) t => WPos dC dI ct (XW aX a0 a1 a2 a3 ct u.1 u.2.1 u.2.2.1 u.2.2.2.1 u.2.2.2.2.1 u.2.2.2.2.2) A t) A)) (by decide) (Nat.le_of_ble_eq_true rfl) ?_
  intro p e s m args below meth c ls A X hD0 hP hS hl
  have X0 := X
  obtain ⟨⟨hx, hb, hml, hr, hlk, hown, hts⟩, hA, hK, hN⟩ := X0
  have hD : ∀ (x' : V) (y' : VL) (v0' : V) (v1' : V) (v2' : V) (v3' : V), va_D A (XW aX a0 a1 a2 a3 ct x' y' v0' v1' v2' v3') := fun x' y' v0' v1' v2' v3' => va_D_addr hD0 rfl
  have hl : lv_has ls 2 [(0, .ref (aX 0))] := hl
  unfold wp_X0_done at w
  have hS0 := hS
  refine lv_aload_n hx hb dX0_done_0 rfl (lv_at hl 0 rfl) ?_
  refine va_calli (va_runV (As := []) (rest := []) ⟨hx, hb, hml, hown, hts⟩ (met_X0_barOfMonths l dC dI ct aX a0 a1 a2 a3 _ w) (cwV 0 hts (lw_V q300 q302 qs4 q48 q303) rfl rfl rfl hd_X0_barOfMonths ⟨Nat.le_of_ble_eq_true rfl, Nat.le_of_ble_eq_true rfl⟩) (pre_V hK hP (hD _ _ _ _ _ _) hN (va_recv hK hP (ci := 0) (q0 := 0) rfl rfl)) rfl rfl hl.1 rfl (lv_room (Nat.le_of_ble_eq_true rfl)) dX0_done_1 ⟨Nat.le_refl _, Nat.le_refl _⟩) hS (fun q _ h => x_free (hD _ _ _ _ _ _) hS hA q h) (x_free (hD _ _ _ _ _ _) hS hA) (fun r1 u t H locs ht hvm w hB hz hk hS => ?_)
  obtain ⟨x_1, y_1, v0_1, v1_1, v2_1, v3_1⟩ := u
  dsimp only at w
  have hP : va_P (dC, dI) vwCl (XW aX a0 a1 a2 a3 ct x_1 y_1 v0_1 v1_1 v2_1 v3_1) H := post_P hB ht
  refine lv_istore_n (lv' := [(1, .int r1), (0, .ref (aX 0))]) hx hb dX0_done_4 rfl hl (by decide) rfl (fun ls hl => ?_)
  refine lv_iload_n hx hb dX0_done_5 rfl (lv_at hl 0 rfl) ?_
  refine lv_if_ge (tgt := 11) hx hb dX0_done_6 (by decide) (fun c => ?_) (fun c => ?_)
  · have w := And.left w c
    refine lv_aload_n hx hb dX0_done_11 rfl (lv_at hl 1 rfl) ?_
    refine va_get (D := (dC, dI)) (ci := 0) (v := .ref (a0 0)) (C := RX0) (T := TX0) (N := 14) hx hb hts in_X0 hown hK hP 0 rfl rfl 0 (by decide) (hts _ q128) (fun _ h9 => h9) rfl dX0_done_12 ?_
    refine lv_aload_n hx hb dX0_done_15 rfl (lv_at hl 1 rfl) ?_
    refine va_get (D := (dC, dI)) (ci := 0) (v := .ref (a1 0)) (C := RX0) (T := TX0) (N := 14) hx hb hts in_X0 hown hK hP 0 rfl rfl 1 (by decide) (hts _ q129) (fun _ h9 => h9) rfl dX0_done_16 ?_
    have hPc := XW_gc01 hP
    have hDc := XW_dc01 (hD x_1 y_1 v0_1 v1_1 v2_1 v3_1)
    refine va_callv (va_runV (As := [.ref (a1 0)]) (rest := []) ⟨hx, hb, hml, hown, hts⟩ (met_X1_copy l dC dI ct a0 a1 _ w) (cwV 1 hts (lw_V q229 q230 q231 q49 q232) rfl rfl rfl hd_X1_copy ⟨Nat.le_of_ble_eq_true rfl, Nat.le_of_ble_eq_true rfl⟩) (pre_V hK hPc hDc hN (va_recv hK hPc (ci := 1) (q0 := 0) rfl rfl)) rfl rfl hl.1 rfl (lv_room (Nat.le_of_ble_eq_true rfl)) dX0_done_19 ⟨Nat.le_refl _, Nat.le_refl _⟩) hS (fun q _ h => x_free hDc hS hA q h) (x_free hDc hS hA) (fun v0_2 t H locs ht hvm w hB hz hk hS => ?_)
    have hP := XW_jc01 hP (hD _ _ _ _ _ _) hk (post_P hB ht)
    have hP : va_P (dC, dI) vwCl (XW aX a0 a1 a2 a3 ct x_1 y_1 v0_2 v1_1 v2_1 v3_1) H := hP
    refine lv_aload_n hx hb dX0_done_22 rfl (lv_at hl 1 rfl) ?_
    refine lv_iconst (v := 0) hx hb dX0_done_23 (by decide) ?_
    refine va_put (D := (dC, dI)) (ci := 0) (v := .int (0 : Int32)) (ty := .int) (C := RX0) (T := TX0) (N := 14) hx hb hts in_X0 tyX0 tyX0_ok nmX0 hown hK hP (hD _ _ _ _ _ _) hS 0 rfl rfl 3 (by decide) (hts _ q131) (fun _ h9 => h9) rfl (by decide +kernel) rfl rfl (Nat.le_of_ble_eq_true rfl) dX0_done_24 (fun H locs hP _ hS => ?_)
    have hP : va_P (dC, dI) vwCl (XW aX a0 a1 a2 a3 ct (up2 x_1 5 0 (0 : Int32)) y_1 v0_2 v1_1 v2_1 v3_1) H := XW_s_x_0 hP
    refine lv_aload_n hx hb dX0_done_27 rfl (lv_at hl 1 rfl) ?_
    refine va_get (D := (dC, dI)) (ci := 0) (v := .int (x_1 5 2)) (C := RX0) (T := TX0) (N := 14) hx hb hts in_X0 hown hK hP 0 rfl rfl 6 (by decide) (hts _ q134) (fun _ h9 => h9) rfl dX0_done_28 ?_
    exact W.iret (v := (x_1 5 2)) hx hb hr (fun t ht hW => ⟨⟨(x_1 5 2), ((up2 x_1 5 0 (0 : Int32)), y_1, v0_2, v1_1, v2_1, v3_1), rfl, w, by rw [ht]; exact hP, va_K.moved hW.alike hK, (hD _ _ _ _ _ _)⟩, hS.F ht⟩) hS.2.2 dX0_done_31 hlk
  · have w := And.right w c
    refine lv_iload_n hx hb dX0_done_9 rfl (lv_at hl 0 rfl) ?_
    exact W.iret (v := r1) hx hb hr (fun t ht hW => ⟨⟨r1, (x_1, y_1, v0_1, v1_1, v2_1, v3_1), rfl, w, by rw [ht]; exact hP, va_K.moved hW.alike hK, (hD _ _ _ _ _ _)⟩, hS.F ht⟩) hS.2.2 dX0_done_10 hlk
abbrev rm_X0_layNet : Room := { frames := 1, cells := 0, slots := 0, locals := 23 }
theorem hd_X0_layNet : yX0_layNet.cls = RX0 ∧ yX0_layNet.cls ≠ "java/lang/invoke/MethodHandle" ∧ yX0_layNet.cls ≠ "java/lang/invoke/VarHandle" ∧ (parseMethodDescriptor yX0_layNet.desc).map (fun d => d.parameters.length) = some 0 := by decide +kernel
set_option maxHeartbeats 4000000 in
set_option maxRecDepth 100000 in
theorem wk_X0_layNet_S18 {p : Program} {l : Launch} {e : Env} {s : State} {m : MethodId} {args : Array Value} {below : List Frame} {meth : Method} {c : Code} {dC : Nat → ClassId} {dI : Nat → Nat → Nat} {ct : Nat → ClassId} {A : Nat → Prop} {aX : Nat → Nat} {a0 : Nat → Nat} {a1 : Nat → Nat} {a2 : Nat → Nat} {a3 : Nat → Nat} {Post : V → VL → V → V → V → V → Prop} {K10 : Int32 → V → VL → V → V → V → V → Prop} {K18 : Int32 → Int32 → V → VL → V → V → V → V → Prop}  (X : CxW p s m args meth c cX0_layNet 3 none RX0 dC dI ct A) (hD : ∀ (x : V) (y : VL) (v0 : V) (v1 : V) (v2 : V) (v3 : V), va_D A (XW aX a0 a1 a2 a3 ct x y v0 v1 v2 v3)) (hK10 : ∀ (i1 : Int32) (x : V) (y : VL) (v0 : V) (v1 : V) (v2 : V) (v3 : V), K10 i1 x y v0 v1 v2 v3 → ∀ (H : Heap) (locs : List Loc) (ls : Array Slot), va_P (dC, dI) vwCl (XW aX a0 a1 a2 a3 ct x y v0 v1 v2 v3) H → va_S A s.heap H locs → lv_has ls 3 [(0, .ref (aX 0)), (1, .int i1)] → W p l e rm_X0_layNet s m args below meth c H locs 0 0 (MQ below (va_Qv (fun (u : V × VL × V × V × V × V) => Post u.1 u.2.1 u.2.2.1 u.2.2.2.1 u.2.2.2.2.1 u.2.2.2.2.2) (fun (u : V × VL × V × V × V × V) t => WPos dC dI ct (XW aX a0 a1 a2 a3 ct u.1 u.2.1 u.2.2.1 u.2.2.2.1 u.2.2.2.2.1 u.2.2.2.2.2) A t) A) args s 0 0 A) (F0 m 10 ls [])) (hK18 : ∀ (i1 : Int32) (i2 : Int32) (x : V) (y : VL) (v0 : V) (v1 : V) (v2 : V) (v3 : V), K18 i1 i2 x y v0 v1 v2 v3 → ∀ (H : Heap) (locs : List Loc) (ls : Array Slot), va_P (dC, dI) vwCl (XW aX a0 a1 a2 a3 ct x y v0 v1 v2 v3) H → va_S A s.heap H locs → lv_has ls 3 [(0, .ref (aX 0)), (1, .int i1), (2, .int i2)] → W p l e rm_X0_layNet s m args below meth c H locs 0 0 (MQ below (va_Qv (fun (u : V × VL × V × V × V × V) => Post u.1 u.2.1 u.2.2.1 u.2.2.2.1 u.2.2.2.2.1 u.2.2.2.2.2) (fun (u : V × VL × V × V × V × V) t => WPos dC dI ct (XW aX a0 a1 a2 a3 ct u.1 u.2.1 u.2.2.1 u.2.2.2.1 u.2.2.2.2.1 u.2.2.2.2.2) A t) A) args s 0 0 A) (F0 m 18 ls [])) (i1 : Int32) (i2 : Int32) (x : V) (y : VL) (v0 : V) (v1 : V) (v2 : V) (v3 : V) (w : wp_X0_layNet_S18  Post K10 K18 i1 i2 x y v0 v1 v2 v3) : ∀ (H : Heap) (locs : List Loc) (ls : Array Slot), va_P (dC, dI) vwCl (XW aX a0 a1 a2 a3 ct x y v0 v1 v2 v3) H → va_S A s.heap H locs → lv_has ls 3 [(0, .ref (aX 0)), (1, .int i1), (2, .int i2)] → W p l e rm_X0_layNet s m args below meth c H locs 0 0 (MQ below (va_Qv (fun (u : V × VL × V × V × V × V) => Post u.1 u.2.1 u.2.2.1 u.2.2.2.1 u.2.2.2.2.1 u.2.2.2.2.2) (fun (u : V × VL × V × V × V × V) t => WPos dC dI ct (XW aX a0 a1 a2 a3 ct u.1 u.2.1 u.2.2.1 u.2.2.2.1 u.2.2.2.2.1 u.2.2.2.2.2) A t) A) args s 0 0 A) (F0 m 18 ls []) := by
  intro H locs ls hP hS hl
  have X0 := X
  obtain ⟨⟨hx, hb, hml, hr, hlk, hown, hts⟩, hA, hK, hN⟩ := X0
  unfold wp_X0_layNet_S18 at w
  refine lv_iload_n hx hb dX0_layNet_18 rfl (lv_at hl 2 rfl) ?_
  refine lv_bipush (v := 6) hx hb dX0_layNet_19 (by decide) ?_
  refine lv_icmp_ge (tgt := 70) hx hb dX0_layNet_21 (by decide) (fun c => ?_) (fun c => ?_)
  · have w := And.left w c
    refine lv_iinc (v := (i1 + 1)) (lv' := [(1, .int (i1 + 1)), (0, .ref (aX 0)), (2, .int i2)]) hx hb dX0_layNet_70 hl (k := 1) rfl rfl (by decide) rfl (fun ls hl => ?_)
    refine lv_goto (tgt := 10) hx hb dX0_layNet_73 (by decide) ?_
    exact hK10 _ _ _ _ _ _ _ w _ _ _ hP hS (lv_sub hl [1, 0] rfl)
  · have w := And.right w c
    refine lv_aload_n hx hb dX0_layNet_24 rfl (lv_at hl 0 rfl) ?_
    refine va_get (D := (dC, dI)) (ci := 0) (v := .ref (aX 4)) (C := RX0) (T := TX0) (N := 14) hx hb hts in_X0 hown hK hP 0 rfl rfl 9 (by decide) (hts _ q137) (fun _ h9 => h9) rfl dX0_layNet_25 ?_
    refine lv_iload_n hx hb dX0_layNet_28 rfl (lv_at hl 1 rfl) ?_
    refine lv_dup2_11 hx hb dX0_layNet_29 rfl rfl ?_
    obtain ⟨gi, w⟩ := w
    refine va_iald hx hb hK hP 4 0 rfl rfl gi dX0_layNet_30 ?_
    refine lv_aload_n hx hb dX0_layNet_31 rfl (lv_at hl 0 rfl) ?_
    refine va_get (D := (dC, dI)) (ci := 0) (v := .ref (a0 0)) (C := RX0) (T := TX0) (N := 14) hx hb hts in_X0 hown hK hP 0 rfl rfl 0 (by decide) (hts _ q128) (fun _ h9 => h9) rfl dX0_layNet_32 ?_
    refine va_getN (D := (dC, dI)) (ci := 1) (v := .ref (a0 3)) (C := RX1) (T := TX1) (N := 13) hx hb hts in_X1 hown hK hP 9 rfl rfl 2 (by decide) (va_Nw.use rfl hN.2.2.1) (fun _ h9 => h9) rfl dX0_layNet_35 ?_
    refine lv_iload_n hx hb dX0_layNet_38 rfl (lv_at hl 1 rfl) ?_
    obtain ⟨gi, w⟩ := w
    refine x_aald hx hb hK hP 12 5 rfl rfl rfl gi rfl dX0_layNet_39 ?_
    have gk1 := x_vlt gi
    refine lv_iload_n hx hb dX0_layNet_40 rfl (lv_at hl 2 rfl) ?_
    have gr := gk1
    obtain ⟨gi, w⟩ := w
    refine va_iald hx hb hK hP (13 + i1.toNatClampNeg) 0 (XW_row0 gr) rfl gi dX0_layNet_41 ?_
    refine lv_isub hx hb dX0_layNet_42 ?_
    obtain ⟨gi, w⟩ := w
    refine va_iast hx hb hK hP (hD _ _ _ _ _ _) hS 4 0 rfl rfl gi dX0_layNet_43 (fun H locs hP _ hS => ?_)
    have hP : va_P (dC, dI) vwCl (XW aX a0 a1 a2 a3 ct (up2 x 2 i1.toNatClampNeg ((x 2 i1.toNatClampNeg) - (v0 (2 + i1.toNatClampNeg) i2.toNatClampNeg))) y v0 v1 v2 v3) H := XW_u_x_2 hP
    refine lv_aload_n hx hb dX0_layNet_44 rfl (lv_at hl 0 rfl) ?_
    refine va_get (D := (dC, dI)) (ci := 0) (v := .ref (aX 4)) (C := RX0) (T := TX0) (N := 14) hx hb hts in_X0 hown hK hP 0 rfl rfl 9 (by decide) (hts _ q137) (fun _ h9 => h9) rfl dX0_layNet_45 ?_
    refine lv_iload_n hx hb dX0_layNet_48 rfl (lv_at hl 2 rfl) ?_
    refine lv_dup2_11 hx hb dX0_layNet_49 rfl rfl ?_
    obtain ⟨gi, w⟩ := w
    refine va_iald hx hb hK hP 4 0 rfl rfl gi dX0_layNet_50 ?_
    refine lv_aload_n hx hb dX0_layNet_51 rfl (lv_at hl 0 rfl) ?_
    refine va_get (D := (dC, dI)) (ci := 0) (v := .ref (a0 0)) (C := RX0) (T := TX0) (N := 14) hx hb hts in_X0 hown hK hP 0 rfl rfl 0 (by decide) (hts _ q128) (fun _ h9 => h9) rfl dX0_layNet_52 ?_
    refine va_getN (D := (dC, dI)) (ci := 1) (v := .ref (a0 3)) (C := RX1) (T := TX1) (N := 13) hx hb hts in_X1 hown hK hP 9 rfl rfl 2 (by decide) (va_Nw.use rfl hN.2.2.1) (fun _ h9 => h9) rfl dX0_layNet_55 ?_
    refine lv_iload_n hx hb dX0_layNet_58 rfl (lv_at hl 1 rfl) ?_
    obtain ⟨gi, w⟩ := w
    refine x_aald hx hb hK hP 12 5 rfl rfl rfl gi rfl dX0_layNet_59 ?_
    have gk2 := x_vlt gi
    refine lv_iload_n hx hb dX0_layNet_60 rfl (lv_at hl 2 rfl) ?_
    have gr := gk2
    obtain ⟨gi, w⟩ := w
    refine va_iald hx hb hK hP (13 + i1.toNatClampNeg) 0 (XW_row0 gr) rfl gi dX0_layNet_61 ?_
    refine lv_iadd hx hb dX0_layNet_62 ?_
    obtain ⟨gi, w⟩ := w
    refine va_iast hx hb hK hP (hD _ _ _ _ _ _) hS 4 0 rfl rfl gi dX0_layNet_63 (fun H locs hP _ hS => ?_)
    have hP : va_P (dC, dI) vwCl (XW aX a0 a1 a2 a3 ct (up2 (up2 x 2 i1.toNatClampNeg ((x 2 i1.toNatClampNeg) - (v0 (2 + i1.toNatClampNeg) i2.toNatClampNeg))) 2 i2.toNatClampNeg (((up2 x 2 i1.toNatClampNeg ((x 2 i1.toNatClampNeg) - (v0 (2 + i1.toNatClampNeg) i2.toNatClampNeg))) 2 i2.toNatClampNeg) + (v0 (2 + i1.toNatClampNeg) i2.toNatClampNeg))) y v0 v1 v2 v3) H := XW_u_x_2 hP
    refine lv_iinc (v := (i2 + 1)) (lv' := [(2, .int (i2 + 1)), (0, .ref (aX 0)), (1, .int i1)]) hx hb dX0_layNet_64 hl (k := 2) rfl rfl (by decide) rfl (fun ls hl => ?_)
    refine lv_goto (tgt := 18) hx hb dX0_layNet_67 (by decide) ?_
    exact hK18 _ _ _ _ _ _ _ _ w _ _ _ hP hS (lv_sub hl [1, 2, 0] rfl)
set_option maxHeartbeats 4000000 in
set_option maxRecDepth 100000 in
theorem wk_X0_layNet_L18 {p : Program} {l : Launch} {e : Env} {s : State} {m : MethodId} {args : Array Value} {below : List Frame} {meth : Method} {c : Code} {dC : Nat → ClassId} {dI : Nat → Nat → Nat} {ct : Nat → ClassId} {A : Nat → Prop} {aX : Nat → Nat} {a0 : Nat → Nat} {a1 : Nat → Nat} {a2 : Nat → Nat} {a3 : Nat → Nat} {Post : V → VL → V → V → V → V → Prop} {K10 : Int32 → V → VL → V → V → V → V → Prop}  (X : CxW p s m args meth c cX0_layNet 3 none RX0 dC dI ct A) (hD : ∀ (x : V) (y : VL) (v0 : V) (v1 : V) (v2 : V) (v3 : V), va_D A (XW aX a0 a1 a2 a3 ct x y v0 v1 v2 v3)) (hK10 : ∀ (i1 : Int32) (x : V) (y : VL) (v0 : V) (v1 : V) (v2 : V) (v3 : V), K10 i1 x y v0 v1 v2 v3 → ∀ (H : Heap) (locs : List Loc) (ls : Array Slot), va_P (dC, dI) vwCl (XW aX a0 a1 a2 a3 ct x y v0 v1 v2 v3) H → va_S A s.heap H locs → lv_has ls 3 [(0, .ref (aX 0)), (1, .int i1)] → W p l e rm_X0_layNet s m args below meth c H locs 0 0 (MQ below (va_Qv (fun (u : V × VL × V × V × V × V) => Post u.1 u.2.1 u.2.2.1 u.2.2.2.1 u.2.2.2.2.1 u.2.2.2.2.2) (fun (u : V × VL × V × V × V × V) t => WPos dC dI ct (XW aX a0 a1 a2 a3 ct u.1 u.2.1 u.2.2.1 u.2.2.2.1 u.2.2.2.2.1 u.2.2.2.2.2) A t) A) args s 0 0 A) (F0 m 10 ls [])) : ∀ (n : Nat) (i1 : Int32) (i2 : Int32) (x : V) (y : VL) (v0 : V) (v1 : V) (v2 : V) (v3 : V), wp_X0_layNet_L18  Post K10 n i1 i2 x y v0 v1 v2 v3 → ∀ (H : Heap) (locs : List Loc) (ls : Array Slot), va_P (dC, dI) vwCl (XW aX a0 a1 a2 a3 ct x y v0 v1 v2 v3) H → va_S A s.heap H locs → lv_has ls 3 [(0, .ref (aX 0)), (1, .int i1), (2, .int i2)] → W p l e rm_X0_layNet s m args below meth c H locs 0 0 (MQ below (va_Qv (fun (u : V × VL × V × V × V × V) => Post u.1 u.2.1 u.2.2.1 u.2.2.2.1 u.2.2.2.2.1 u.2.2.2.2.2) (fun (u : V × VL × V × V × V × V) t => WPos dC dI ct (XW aX a0 a1 a2 a3 ct u.1 u.2.1 u.2.2.1 u.2.2.2.1 u.2.2.2.2.1 u.2.2.2.2.2) A t) A) args s 0 0 A) (F0 m 18 ls []) := by
  intro n
  induction n with
  | zero => intro i1 i2 x y v0 v1 v2 v3 w; exact False.elim w
  | succ n ih => intro i1 i2 x y v0 v1 v2 v3 w H locs ls hP hS hl; exact wk_X0_layNet_S18 X hD hK10 ih i1 i2 x y v0 v1 v2 v3 w H locs ls hP hS hl
set_option maxHeartbeats 4000000 in
set_option maxRecDepth 100000 in
theorem wk_X0_layNet_S10 {p : Program} {l : Launch} {e : Env} {s : State} {m : MethodId} {args : Array Value} {below : List Frame} {meth : Method} {c : Code} {dC : Nat → ClassId} {dI : Nat → Nat → Nat} {ct : Nat → ClassId} {A : Nat → Prop} {aX : Nat → Nat} {a0 : Nat → Nat} {a1 : Nat → Nat} {a2 : Nat → Nat} {a3 : Nat → Nat} {Post : V → VL → V → V → V → V → Prop} {K10 : Int32 → V → VL → V → V → V → V → Prop}  (X : CxW p s m args meth c cX0_layNet 3 none RX0 dC dI ct A) (hD : ∀ (x : V) (y : VL) (v0 : V) (v1 : V) (v2 : V) (v3 : V), va_D A (XW aX a0 a1 a2 a3 ct x y v0 v1 v2 v3)) (hK10 : ∀ (i1 : Int32) (x : V) (y : VL) (v0 : V) (v1 : V) (v2 : V) (v3 : V), K10 i1 x y v0 v1 v2 v3 → ∀ (H : Heap) (locs : List Loc) (ls : Array Slot), va_P (dC, dI) vwCl (XW aX a0 a1 a2 a3 ct x y v0 v1 v2 v3) H → va_S A s.heap H locs → lv_has ls 3 [(0, .ref (aX 0)), (1, .int i1)] → W p l e rm_X0_layNet s m args below meth c H locs 0 0 (MQ below (va_Qv (fun (u : V × VL × V × V × V × V) => Post u.1 u.2.1 u.2.2.1 u.2.2.2.1 u.2.2.2.2.1 u.2.2.2.2.2) (fun (u : V × VL × V × V × V × V) t => WPos dC dI ct (XW aX a0 a1 a2 a3 ct u.1 u.2.1 u.2.2.1 u.2.2.2.1 u.2.2.2.2.1 u.2.2.2.2.2) A t) A) args s 0 0 A) (F0 m 10 ls [])) (i1 : Int32) (x : V) (y : VL) (v0 : V) (v1 : V) (v2 : V) (v3 : V) (w : wp_X0_layNet_S10  Post K10 i1 x y v0 v1 v2 v3) : ∀ (H : Heap) (locs : List Loc) (ls : Array Slot), va_P (dC, dI) vwCl (XW aX a0 a1 a2 a3 ct x y v0 v1 v2 v3) H → va_S A s.heap H locs → lv_has ls 3 [(0, .ref (aX 0)), (1, .int i1)] → W p l e rm_X0_layNet s m args below meth c H locs 0 0 (MQ below (va_Qv (fun (u : V × VL × V × V × V × V) => Post u.1 u.2.1 u.2.2.1 u.2.2.2.1 u.2.2.2.2.1 u.2.2.2.2.2) (fun (u : V × VL × V × V × V × V) t => WPos dC dI ct (XW aX a0 a1 a2 a3 ct u.1 u.2.1 u.2.2.1 u.2.2.2.1 u.2.2.2.2.1 u.2.2.2.2.2) A t) A) args s 0 0 A) (F0 m 10 ls []) := by
  intro H locs ls hP hS hl
  have X0 := X
  obtain ⟨⟨hx, hb, hml, hr, hlk, hown, hts⟩, hA, hK, hN⟩ := X0
  unfold wp_X0_layNet_S10 at w
  refine lv_iload_n hx hb dX0_layNet_10 rfl (lv_at hl 1 rfl) ?_
  refine lv_bipush (v := 6) hx hb dX0_layNet_11 (by decide) ?_
  refine lv_icmp_ge (tgt := 76) hx hb dX0_layNet_13 (by decide) (fun c => ?_) (fun c => ?_)
  · have w := And.left w c
    exact W.vret hx hb hr (fun t ht hW => ⟨⟨(x, y, v0, v1, v2, v3), rfl, w, by rw [ht]; exact hP, va_K.moved hW.alike hK, (hD _ _ _ _ _ _)⟩, hS.F ht⟩) hS.2.2 dX0_layNet_76 hlk
  · have w := And.right w c
    refine lv_iconst (v := 0) hx hb dX0_layNet_16 (by decide) ?_
    refine lv_istore_n (lv' := [(2, .int (0 : Int32)), (0, .ref (aX 0)), (1, .int i1)]) hx hb dX0_layNet_17 rfl hl (by decide) rfl (fun ls hl => ?_)
    obtain ⟨n, w⟩ := w
    exact wk_X0_layNet_L18 X hD hK10 n _ _ _ _ _ _ _ _ w _ _ _ hP hS (lv_sub hl [1, 2, 0] rfl)
set_option maxHeartbeats 4000000 in
set_option maxRecDepth 100000 in
theorem wk_X0_layNet_L10 {p : Program} {l : Launch} {e : Env} {s : State} {m : MethodId} {args : Array Value} {below : List Frame} {meth : Method} {c : Code} {dC : Nat → ClassId} {dI : Nat → Nat → Nat} {ct : Nat → ClassId} {A : Nat → Prop} {aX : Nat → Nat} {a0 : Nat → Nat} {a1 : Nat → Nat} {a2 : Nat → Nat} {a3 : Nat → Nat} {Post : V → VL → V → V → V → V → Prop}   (X : CxW p s m args meth c cX0_layNet 3 none RX0 dC dI ct A) (hD : ∀ (x : V) (y : VL) (v0 : V) (v1 : V) (v2 : V) (v3 : V), va_D A (XW aX a0 a1 a2 a3 ct x y v0 v1 v2 v3))  : ∀ (n : Nat) (i1 : Int32) (x : V) (y : VL) (v0 : V) (v1 : V) (v2 : V) (v3 : V), wp_X0_layNet_L10  Post  n i1 x y v0 v1 v2 v3 → ∀ (H : Heap) (locs : List Loc) (ls : Array Slot), va_P (dC, dI) vwCl (XW aX a0 a1 a2 a3 ct x y v0 v1 v2 v3) H → va_S A s.heap H locs → lv_has ls 3 [(0, .ref (aX 0)), (1, .int i1)] → W p l e rm_X0_layNet s m args below meth c H locs 0 0 (MQ below (va_Qv (fun (u : V × VL × V × V × V × V) => Post u.1 u.2.1 u.2.2.1 u.2.2.2.1 u.2.2.2.2.1 u.2.2.2.2.2) (fun (u : V × VL × V × V × V × V) t => WPos dC dI ct (XW aX a0 a1 a2 a3 ct u.1 u.2.1 u.2.2.1 u.2.2.2.1 u.2.2.2.2.1 u.2.2.2.2.2) A t) A) args s 0 0 A) (F0 m 10 ls []) := by
  intro n
  induction n with
  | zero => intro i1 x y v0 v1 v2 v3 w; exact False.elim w
  | succ n ih => intro i1 x y v0 v1 v2 v3 w H locs ls hP hS hl; exact wk_X0_layNet_S10 X hD  ih i1 x y v0 v1 v2 v3 w H locs ls hP hS hl
set_option maxHeartbeats 4000000 in
set_option maxRecDepth 100000 in
theorem met_X0_layNet (l : Launch) (dC : Nat → ClassId) (dI : Nat → Nat → Nat) (ct : Nat → ClassId) (aX : Nat → Nat) (a0 : Nat → Nat) (a1 : Nat → Nat) (a2 : Nat → Nat) (a3 : Nat → Nat) (sz : Nat)  {x : V} {y : VL} {v0 : V} {v1 : V} {v2 : V} {v3 : V} {Post : V → VL → V → V → V → V → Prop} (w : wp_X0_layNet x y v0 v1 v2 v3 Post) : Met l yX0_layNet (ws_ yX0_layNet cX0_layNet 3 none) rm_X0_layNet (va_Pc [.ref (aX 0)] (fun U => WPre dC dI ct (XW aX a0 a1 a2 a3 ct x y v0 v1 v2 v3) sz U)) ((fun A => (va_Qv (fun (u : V × VL × V × V × V × V) => Post u.1 u.2.1 u.2.2.1 u.2.2.2.1 u.2.2.2.2.1 u.2.2.2.2.2) (fun (u : V × VL × V × V × V × V) t => WPos dC dI ct (XW aX a0 a1 a2 a3 ct u.1 u.2.1 u.2.2.1 u.2.2.2.1 u.2.2.2.2.1 u.2.2.2.2.2) A t) A)) (va_A (XW aX a0 a1 a2 a3 ct x y v0 v1 v2 v3) sz)) 0 0 (va_A (XW aX a0 a1 a2 a3 ct x y v0 v1 v2 v3) sz) := by
  refine open_W (fun A => (va_Qv (fun (u : V × VL × V × V × V × V) => Post u.1 u.2.1 u.2.2.1 u.2.2.2.1 u.2.2.2.2.1 u.2.2.2.2.2) (fun (u : V × VL × V × V × V × V) t => WPos dC dI ct (XW aX a0 a1 a2 a3 ct u.1 u.2.1 u.2.2.1 u.2.2.2.1 u.2.2.2.2.1 u.2.2.2.2.2) A t) A)) (by decide) (Nat.le_of_ble_eq_true rfl) ?_
  intro p e s m args below meth c ls A X hD0 hP hS hl
  have X0 := X
  obtain ⟨⟨hx, hb, hml, hr, hlk, hown, hts⟩, hA, hK, hN⟩ := X0
  have hD : ∀ (x' : V) (y' : VL) (v0' : V) (v1' : V) (v2' : V) (v3' : V), va_D A (XW aX a0 a1 a2 a3 ct x' y' v0' v1' v2' v3') := fun x' y' v0' v1' v2' v3' => va_D_addr hD0 rfl
  have hl : lv_has ls 3 [(0, .ref (aX 0))] := hl
  unfold wp_X0_layNet at w
  have hS0 := hS
  refine lv_aload_n hx hb dX0_layNet_0 rfl (lv_at hl 0 rfl) ?_
  refine va_get (D := (dC, dI)) (ci := 0) (v := .ref (aX 4)) (C := RX0) (T := TX0) (N := 14) hx hb hts in_X0 hown hK hP 0 rfl rfl 9 (by decide) (hts _ q137) (fun _ h9 => h9) rfl dX0_layNet_1 ?_
  refine lv_iconst (v := 0) hx hb dX0_layNet_4 (by decide) ?_
  have hPc : va_P (dC, dI) vwCl [(aX 4, .inl (ct 0, 6, .inl (x 2)))] _ := x_one hP 4 rfl
  have hDc : va_D A [(aX 4, .inl (ct 0, 6, .inl (x 2)))] := x_oneD (hD x y v0 v1 v2 v3) 4 rfl
  refine va_callv (va_runS (As := [.ref (aX 4), .int (0 : Int32)]) (rest := []) ⟨hx, hb, hml, hown, hts⟩ (met_J0_fill l dC dI ct (aX 4) 6 _ w) (va_cwS 2 hts (lw_S q337 q72 q50 q73) rfl rfl rfl hd_J0_fill ⟨Nat.le_of_ble_eq_true rfl, Nat.le_of_ble_eq_true rfl⟩) (pre_WS hK hPc hDc hN) rfl rfl hl.1 rfl (lv_room (Nat.le_of_ble_eq_true rfl)) dX0_layNet_5 ⟨Nat.le_refl _, Nat.le_refl _⟩) hS (fun q _ h => x_free hDc hS hA q h) (x_free hDc hS hA) (fun f1 t H locs ht hvm w hB hz hk hS => ?_)
  have hP := x_oneJ (p := 4) hP (hD _ _ _ _ _ _) rfl hk (post_P hB ht)
  have hP : va_P (dC, dI) vwCl (XW aX a0 a1 a2 a3 ct (upRg x 2 f1) y v0 v1 v2 v3) H := XW_r_x_2 hP
  refine lv_iconst (v := 0) hx hb dX0_layNet_8 (by decide) ?_
  refine lv_istore_n (lv' := [(1, .int (0 : Int32)), (0, .ref (aX 0))]) hx hb dX0_layNet_9 rfl hl (by decide) rfl (fun ls hl => ?_)
  obtain ⟨n, w⟩ := w
  exact wk_X0_layNet_L10 X hD  n _ _ _ _ _ _ _ w _ _ _ hP hS (lv_sub hl [1, 0] rfl)
abbrev rm_X0_netOf : Room := { frames := 1, cells := 0, slots := 0, locals := 21 }
theorem hd_X0_netOf : yX0_netOf.cls = RX0 ∧ yX0_netOf.cls ≠ "java/lang/invoke/MethodHandle" ∧ yX0_netOf.cls ≠ "java/lang/invoke/VarHandle" ∧ (parseMethodDescriptor yX0_netOf.desc).map (fun d => d.parameters.length) = some 1 := by decide +kernel
set_option maxHeartbeats 4000000 in
set_option maxRecDepth 100000 in
theorem wk_X0_netOf_L29 {p : Program} {l : Launch} {e : Env} {s : State} {m : MethodId} {args : Array Value} {below : List Frame} {meth : Method} {c : Code} {dC : Nat → ClassId} {dI : Nat → Nat → Nat} {ct : Nat → ClassId} {A : Nat → Prop} {aX : Nat → Nat} {a0 : Nat → Nat} {a1 : Nat → Nat} {a2 : Nat → Nat} {a3 : Nat → Nat} {Post : Int32 → V → VL → V → V → V → V → Prop} {K4 : Int32 → Int32 → Int32 → V → VL → V → V → V → V → Prop}  (X : CxW p s m args meth c cX0_netOf 4 (some .int) RX0 dC dI ct A) (hD : ∀ (x : V) (y : VL) (v0 : V) (v1 : V) (v2 : V) (v3 : V), va_D A (XW aX a0 a1 a2 a3 ct x y v0 v1 v2 v3)) (hK4 : ∀ (i1 : Int32) (i2 : Int32) (i3 : Int32) (x : V) (y : VL) (v0 : V) (v1 : V) (v2 : V) (v3 : V), K4 i1 i2 i3 x y v0 v1 v2 v3 → ∀ (H : Heap) (locs : List Loc) (ls : Array Slot), va_P (dC, dI) vwCl (XW aX a0 a1 a2 a3 ct x y v0 v1 v2 v3) H → va_S A s.heap H locs → lv_has ls 4 [(0, .ref (aX 0)), (1, .int i1), (2, .int i2), (3, .int i3)] → W p l e rm_X0_netOf s m args below meth c H locs 0 0 (MQ below (va_Qi (fun (r : Int32) (u : V × VL × V × V × V × V) => Post r u.1 u.2.1 u.2.2.1 u.2.2.2.1 u.2.2.2.2.1 u.2.2.2.2.2) (fun (u : V × VL × V × V × V × V) t => WPos dC dI ct (XW aX a0 a1 a2 a3 ct u.1 u.2.1 u.2.2.1 u.2.2.2.1 u.2.2.2.2.1 u.2.2.2.2.2) A t) A) args s 0 0 A) (F0 m 4 ls [])) (i1 : Int32) (i3 : Int32) (is0 : Int32) (is1 : Int32) (x : V) (y : VL) (v0 : V) (v1 : V) (v2 : V) (v3 : V) (w : wp_X0_netOf_L29  Post K4 i1 i3 is0 is1 x y v0 v1 v2 v3) : ∀ (H : Heap) (locs : List Loc) (ls : Array Slot), va_P (dC, dI) vwCl (XW aX a0 a1 a2 a3 ct x y v0 v1 v2 v3) H → va_S A s.heap H locs → lv_has ls 4 [(0, .ref (aX 0)), (1, .int i1), (3, .int i3)] → W p l e rm_X0_netOf s m args below meth c H locs 0 0 (MQ below (va_Qi (fun (r : Int32) (u : V × VL × V × V × V × V) => Post r u.1 u.2.1 u.2.2.1 u.2.2.2.1 u.2.2.2.2.1 u.2.2.2.2.2) (fun (u : V × VL × V × V × V × V) t => WPos dC dI ct (XW aX a0 a1 a2 a3 ct u.1 u.2.1 u.2.2.1 u.2.2.2.1 u.2.2.2.2.1 u.2.2.2.2.2) A t) A) args s 0 0 A) (F0 m 29 ls [.int is0, .int is1]) := by
  intro H locs ls hP hS hl
  have X0 := X
  obtain ⟨⟨hx, hb, hml, hr, hlk, hown, hts⟩, hA, hK, hN⟩ := X0
  unfold wp_X0_netOf_L29 at w
  refine lv_iadd hx hb dX0_netOf_29 ?_
  refine lv_istore_n (lv' := [(2, .int (is1 + is0)), (0, .ref (aX 0)), (1, .int i1), (3, .int i3)]) hx hb dX0_netOf_30 rfl hl (by decide) rfl (fun ls hl => ?_)
  refine lv_iinc (v := (i3 + 1)) (lv' := [(3, .int (i3 + 1)), (2, .int (is1 + is0)), (0, .ref (aX 0)), (1, .int i1)]) hx hb dX0_netOf_31 hl (k := 3) rfl rfl (by decide) rfl (fun ls hl => ?_)
  refine lv_goto (tgt := 4) hx hb dX0_netOf_34 (by decide) ?_
  exact hK4 _ _ _ _ _ _ _ _ _ w _ _ _ hP hS (lv_sub hl [2, 3, 1, 0] rfl)
set_option maxHeartbeats 4000000 in
set_option maxRecDepth 100000 in
theorem wk_X0_netOf_S4 {p : Program} {l : Launch} {e : Env} {s : State} {m : MethodId} {args : Array Value} {below : List Frame} {meth : Method} {c : Code} {dC : Nat → ClassId} {dI : Nat → Nat → Nat} {ct : Nat → ClassId} {A : Nat → Prop} {aX : Nat → Nat} {a0 : Nat → Nat} {a1 : Nat → Nat} {a2 : Nat → Nat} {a3 : Nat → Nat} {Post : Int32 → V → VL → V → V → V → V → Prop} {K4 : Int32 → Int32 → Int32 → V → VL → V → V → V → V → Prop}  (X : CxW p s m args meth c cX0_netOf 4 (some .int) RX0 dC dI ct A) (hD : ∀ (x : V) (y : VL) (v0 : V) (v1 : V) (v2 : V) (v3 : V), va_D A (XW aX a0 a1 a2 a3 ct x y v0 v1 v2 v3)) (hK4 : ∀ (i1 : Int32) (i2 : Int32) (i3 : Int32) (x : V) (y : VL) (v0 : V) (v1 : V) (v2 : V) (v3 : V), K4 i1 i2 i3 x y v0 v1 v2 v3 → ∀ (H : Heap) (locs : List Loc) (ls : Array Slot), va_P (dC, dI) vwCl (XW aX a0 a1 a2 a3 ct x y v0 v1 v2 v3) H → va_S A s.heap H locs → lv_has ls 4 [(0, .ref (aX 0)), (1, .int i1), (2, .int i2), (3, .int i3)] → W p l e rm_X0_netOf s m args below meth c H locs 0 0 (MQ below (va_Qi (fun (r : Int32) (u : V × VL × V × V × V × V) => Post r u.1 u.2.1 u.2.2.1 u.2.2.2.1 u.2.2.2.2.1 u.2.2.2.2.2) (fun (u : V × VL × V × V × V × V) t => WPos dC dI ct (XW aX a0 a1 a2 a3 ct u.1 u.2.1 u.2.2.1 u.2.2.2.1 u.2.2.2.2.1 u.2.2.2.2.2) A t) A) args s 0 0 A) (F0 m 4 ls [])) (i1 : Int32) (i2 : Int32) (i3 : Int32) (x : V) (y : VL) (v0 : V) (v1 : V) (v2 : V) (v3 : V) (w : wp_X0_netOf_S4  Post K4 i1 i2 i3 x y v0 v1 v2 v3) : ∀ (H : Heap) (locs : List Loc) (ls : Array Slot), va_P (dC, dI) vwCl (XW aX a0 a1 a2 a3 ct x y v0 v1 v2 v3) H → va_S A s.heap H locs → lv_has ls 4 [(0, .ref (aX 0)), (1, .int i1), (2, .int i2), (3, .int i3)] → W p l e rm_X0_netOf s m args below meth c H locs 0 0 (MQ below (va_Qi (fun (r : Int32) (u : V × VL × V × V × V × V) => Post r u.1 u.2.1 u.2.2.1 u.2.2.2.1 u.2.2.2.2.1 u.2.2.2.2.2) (fun (u : V × VL × V × V × V × V) t => WPos dC dI ct (XW aX a0 a1 a2 a3 ct u.1 u.2.1 u.2.2.1 u.2.2.2.1 u.2.2.2.2.1 u.2.2.2.2.2) A t) A) args s 0 0 A) (F0 m 4 ls []) := by
  intro H locs ls hP hS hl
  have X0 := X
  obtain ⟨⟨hx, hb, hml, hr, hlk, hown, hts⟩, hA, hK, hN⟩ := X0
  unfold wp_X0_netOf_S4 at w
  refine lv_iload_n hx hb dX0_netOf_4 rfl (lv_at hl 3 rfl) ?_
  refine lv_bipush (v := 6) hx hb dX0_netOf_5 (by decide) ?_
  refine lv_icmp_ge (tgt := 37) hx hb dX0_netOf_7 (by decide) (fun c => ?_) (fun c => ?_)
  · have w := And.left w c
    refine lv_iload_n hx hb dX0_netOf_37 rfl (lv_at hl 2 rfl) ?_
    exact W.iret (v := i2) hx hb hr (fun t ht hW => ⟨⟨i2, (x, y, v0, v1, v2, v3), rfl, w, by rw [ht]; exact hP, va_K.moved hW.alike hK, (hD _ _ _ _ _ _)⟩, hS.F ht⟩) hS.2.2 dX0_netOf_38 hlk
  · have w := And.right w c
    refine lv_iload_n hx hb dX0_netOf_10 rfl (lv_at hl 2 rfl) ?_
    refine lv_iload_n hx hb dX0_netOf_11 rfl (lv_at hl 1 rfl) ?_
    refine lv_iload_n hx hb dX0_netOf_12 rfl (lv_at hl 3 rfl) ?_
    refine vp_callSi (W.runS (As := [.int i1, .int i3]) (rest := [.int i2]) ⟨hx, hb, hml, hown, hts⟩ (met_X0_has l w) (va_cwS 2 hts (lw_S q342 q343 q48 q344) rfl rfl rfl hd_X0_has ⟨Nat.le_of_ble_eq_true rfl, Nat.le_of_ble_eq_true rfl⟩) pre_S rfl rfl hl.1 rfl (lv_room (Nat.le_of_ble_eq_true rfl)) dX0_netOf_13 ⟨Nat.le_refl _, Nat.le_refl _⟩) (fun r1 w => ?_)
    refine lv_if_eq (tgt := 28) hx hb dX0_netOf_16 (by decide) (fun c => ?_) (fun c => ?_)
    · have w := And.left w c
      refine lv_iconst (v := 0) hx hb dX0_netOf_28 (by decide) ?_
      exact wk_X0_netOf_L29 X hD hK4 _ _ _ _ _ _ _ _ _ _ w _ _ _ hP hS (lv_sub hl [0, 1, 3] rfl)
    · have w := And.right w c
      refine lv_aload_n hx hb dX0_netOf_19 rfl (lv_at hl 0 rfl) ?_
      refine va_get (D := (dC, dI)) (ci := 0) (v := .ref (aX 4)) (C := RX0) (T := TX0) (N := 14) hx hb hts in_X0 hown hK hP 0 rfl rfl 9 (by decide) (hts _ q137) (fun _ h9 => h9) rfl dX0_netOf_20 ?_
      refine lv_iload_n hx hb dX0_netOf_23 rfl (lv_at hl 3 rfl) ?_
      obtain ⟨gi, w⟩ := w
      refine va_iald hx hb hK hP 4 0 rfl rfl gi dX0_netOf_24 ?_
      refine lv_goto (tgt := 29) hx hb dX0_netOf_25 (by decide) ?_
      exact wk_X0_netOf_L29 X hD hK4 _ _ _ _ _ _ _ _ _ _ w _ _ _ hP hS (lv_sub hl [0, 1, 3] rfl)
set_option maxHeartbeats 4000000 in
set_option maxRecDepth 100000 in
theorem wk_X0_netOf_L4 {p : Program} {l : Launch} {e : Env} {s : State} {m : MethodId} {args : Array Value} {below : List Frame} {meth : Method} {c : Code} {dC : Nat → ClassId} {dI : Nat → Nat → Nat} {ct : Nat → ClassId} {A : Nat → Prop} {aX : Nat → Nat} {a0 : Nat → Nat} {a1 : Nat → Nat} {a2 : Nat → Nat} {a3 : Nat → Nat} {Post : Int32 → V → VL → V → V → V → V → Prop}   (X : CxW p s m args meth c cX0_netOf 4 (some .int) RX0 dC dI ct A) (hD : ∀ (x : V) (y : VL) (v0 : V) (v1 : V) (v2 : V) (v3 : V), va_D A (XW aX a0 a1 a2 a3 ct x y v0 v1 v2 v3))  : ∀ (n : Nat) (i1 : Int32) (i2 : Int32) (i3 : Int32) (x : V) (y : VL) (v0 : V) (v1 : V) (v2 : V) (v3 : V), wp_X0_netOf_L4  Post  n i1 i2 i3 x y v0 v1 v2 v3 → ∀ (H : Heap) (locs : List Loc) (ls : Array Slot), va_P (dC, dI) vwCl (XW aX a0 a1 a2 a3 ct x y v0 v1 v2 v3) H → va_S A s.heap H locs → lv_has ls 4 [(0, .ref (aX 0)), (1, .int i1), (2, .int i2), (3, .int i3)] → W p l e rm_X0_netOf s m args below meth c H locs 0 0 (MQ below (va_Qi (fun (r : Int32) (u : V × VL × V × V × V × V) => Post r u.1 u.2.1 u.2.2.1 u.2.2.2.1 u.2.2.2.2.1 u.2.2.2.2.2) (fun (u : V × VL × V × V × V × V) t => WPos dC dI ct (XW aX a0 a1 a2 a3 ct u.1 u.2.1 u.2.2.1 u.2.2.2.1 u.2.2.2.2.1 u.2.2.2.2.2) A t) A) args s 0 0 A) (F0 m 4 ls []) := by
  intro n
  induction n with
  | zero => intro i1 i2 i3 x y v0 v1 v2 v3 w; exact False.elim w
  | succ n ih => intro i1 i2 i3 x y v0 v1 v2 v3 w H locs ls hP hS hl; exact wk_X0_netOf_S4 X hD  ih i1 i2 i3 x y v0 v1 v2 v3 w H locs ls hP hS hl
set_option maxHeartbeats 4000000 in
set_option maxRecDepth 100000 in
theorem met_X0_netOf (l : Launch) (dC : Nat → ClassId) (dI : Nat → Nat → Nat) (ct : Nat → ClassId) (aX : Nat → Nat) (a0 : Nat → Nat) (a1 : Nat → Nat) (a2 : Nat → Nat) (a3 : Nat → Nat) (sz : Nat) {i1 : Int32} {x : V} {y : VL} {v0 : V} {v1 : V} {v2 : V} {v3 : V} {Post : Int32 → V → VL → V → V → V → V → Prop} (w : wp_X0_netOf i1 x y v0 v1 v2 v3 Post) : Met l yX0_netOf (ws_ yX0_netOf cX0_netOf 4 (some .int)) rm_X0_netOf (va_Pc [.ref (aX 0), .int i1] (fun U => WPre dC dI ct (XW aX a0 a1 a2 a3 ct x y v0 v1 v2 v3) sz U)) ((fun A => (va_Qi (fun (r : Int32) (u : V × VL × V × V × V × V) => Post r u.1 u.2.1 u.2.2.1 u.2.2.2.1 u.2.2.2.2.1 u.2.2.2.2.2) (fun (u : V × VL × V × V × V × V) t => WPos dC dI ct (XW aX a0 a1 a2 a3 ct u.1 u.2.1 u.2.2.1 u.2.2.2.1 u.2.2.2.2.1 u.2.2.2.2.2) A t) A)) (va_A (XW aX a0 a1 a2 a3 ct x y v0 v1 v2 v3) sz)) 0 0 (va_A (XW aX a0 a1 a2 a3 ct x y v0 v1 v2 v3) sz) := by
  refine open_W (fun A => (va_Qi (fun (r : Int32) (u : V × VL × V × V × V × V) => Post r u.1 u.2.1 u.2.2.1 u.2.2.2.1 u.2.2.2.2.1 u.2.2.2.2.2) (fun (u : V × VL × V × V × V × V) t => WPos dC dI ct (XW aX a0 a1 a2 a3 ct u.1 u.2.1 u.2.2.1 u.2.2.2.1 u.2.2.2.2.1 u.2.2.2.2.2) A t) A)) (by decide) (Nat.le_of_ble_eq_true rfl) ?_
  intro p e s m args below meth c ls A X hD0 hP hS hl
  have X0 := X
  obtain ⟨⟨hx, hb, hml, hr, hlk, hown, hts⟩, hA, hK, hN⟩ := X0
  have hD : ∀ (x' : V) (y' : VL) (v0' : V) (v1' : V) (v2' : V) (v3' : V), va_D A (XW aX a0 a1 a2 a3 ct x' y' v0' v1' v2' v3') := fun x' y' v0' v1' v2' v3' => va_D_addr hD0 rfl
  have hl : lv_has ls 4 [(0, .ref (aX 0)), (1, .int i1)] := hl
  unfold wp_X0_netOf at w
  have hS0 := hS
  refine lv_iconst (v := 0) hx hb dX0_netOf_0 (by decide) ?_
  refine lv_istore_n (lv' := [(2, .int (0 : Int32)), (0, .ref (aX 0)), (1, .int i1)]) hx hb dX0_netOf_1 rfl hl (by decide) rfl (fun ls hl => ?_)
  refine lv_iconst (v := 0) hx hb dX0_netOf_2 (by decide) ?_
  refine lv_istore_n (lv' := [(3, .int (0 : Int32)), (2, .int (0 : Int32)), (0, .ref (aX 0)), (1, .int i1)]) hx hb dX0_netOf_3 rfl hl (by decide) rfl (fun ls hl => ?_)
  obtain ⟨n, w⟩ := w
  exact wk_X0_netOf_L4 X hD  n _ _ _ _ _ _ _ _ _ w _ _ _ hP hS (lv_sub hl [2, 3, 1, 0] rfl)
abbrev rm_X0_struck : Room := { frames := 2, cells := 0, slots := 0, locals := 45 }
theorem hd_X0_struck : yX0_struck.cls = RX0 ∧ yX0_struck.cls ≠ "java/lang/invoke/MethodHandle" ∧ yX0_struck.cls ≠ "java/lang/invoke/VarHandle" ∧ (parseMethodDescriptor yX0_struck.desc).map (fun d => d.parameters.length) = some 1 := by decide +kernel
set_option maxHeartbeats 4000000 in
set_option maxRecDepth 100000 in
theorem wk_X0_struck_L60 {p : Program} {l : Launch} {e : Env} {s : State} {m : MethodId} {args : Array Value} {below : List Frame} {meth : Method} {c : Code} {dC : Nat → ClassId} {dI : Nat → Nat → Nat} {ct : Nat → ClassId} {A : Nat → Prop} {aX : Nat → Nat} {a0 : Nat → Nat} {a1 : Nat → Nat} {a2 : Nat → Nat} {a3 : Nat → Nat} {Post : Int32 → V → VL → V → V → V → V → Prop} {K23 : Int32 → Int32 → Int32 → Int32 → V → VL → V → V → V → V → Prop}  (X : CxW p s m args meth c cX0_struck 6 (some .int) RX0 dC dI ct A) (hD : ∀ (x : V) (y : VL) (v0 : V) (v1 : V) (v2 : V) (v3 : V), va_D A (XW aX a0 a1 a2 a3 ct x y v0 v1 v2 v3)) (hK23 : ∀ (i1 : Int32) (i2 : Int32) (i3 : Int32) (i4 : Int32) (x : V) (y : VL) (v0 : V) (v1 : V) (v2 : V) (v3 : V), K23 i1 i2 i3 i4 x y v0 v1 v2 v3 → ∀ (H : Heap) (locs : List Loc) (ls : Array Slot), va_P (dC, dI) vwCl (XW aX a0 a1 a2 a3 ct x y v0 v1 v2 v3) H → va_S A s.heap H locs → lv_has ls 6 [(0, .ref (aX 0)), (1, .int i1), (2, .int i2), (3, .int i3), (4, .int i4)] → W p l e rm_X0_struck s m args below meth c H locs 0 0 (MQ below (va_Qi (fun (r : Int32) (u : V × VL × V × V × V × V) => Post r u.1 u.2.1 u.2.2.1 u.2.2.2.1 u.2.2.2.2.1 u.2.2.2.2.2) (fun (u : V × VL × V × V × V × V) t => WPos dC dI ct (XW aX a0 a1 a2 a3 ct u.1 u.2.1 u.2.2.1 u.2.2.2.1 u.2.2.2.2.1 u.2.2.2.2.2) A t) A) args s 0 0 A) (F0 m 23 ls [])) (i1 : Int32) (i2 : Int32) (i4 : Int32) (is0 : Int32) (is1 : Int32) (x : V) (y : VL) (v0 : V) (v1 : V) (v2 : V) (v3 : V) (w : wp_X0_struck_L60  Post K23 i1 i2 i4 is0 is1 x y v0 v1 v2 v3) : ∀ (H : Heap) (locs : List Loc) (ls : Array Slot), va_P (dC, dI) vwCl (XW aX a0 a1 a2 a3 ct x y v0 v1 v2 v3) H → va_S A s.heap H locs → lv_has ls 6 [(0, .ref (aX 0)), (1, .int i1), (2, .int i2), (4, .int i4)] → W p l e rm_X0_struck s m args below meth c H locs 0 0 (MQ below (va_Qi (fun (r : Int32) (u : V × VL × V × V × V × V) => Post r u.1 u.2.1 u.2.2.1 u.2.2.2.1 u.2.2.2.2.1 u.2.2.2.2.2) (fun (u : V × VL × V × V × V × V) t => WPos dC dI ct (XW aX a0 a1 a2 a3 ct u.1 u.2.1 u.2.2.1 u.2.2.2.1 u.2.2.2.2.1 u.2.2.2.2.2) A t) A) args s 0 0 A) (F0 m 60 ls [.int is0, .int is1]) := by
  intro H locs ls hP hS hl
  have X0 := X
  obtain ⟨⟨hx, hb, hml, hr, hlk, hown, hts⟩, hA, hK, hN⟩ := X0
  unfold wp_X0_struck_L60 at w
  refine vp_callSi (W.runS (As := [.int is0]) (rest := [.int is1]) ⟨hx, hb, hml, hown, hts⟩ (met_X0_asNumber l w) (va_cwS 1 hts (lw_S q341 q309 q48 q310) rfl rfl rfl hd_X0_asNumber ⟨Nat.le_of_ble_eq_true rfl, Nat.le_of_ble_eq_true rfl⟩) pre_S rfl rfl hl.1 rfl (lv_room (Nat.le_of_ble_eq_true rfl)) dX0_struck_60 ⟨Nat.le_refl _, Nat.le_refl _⟩) (fun r1 w => ?_)
  refine lv_iload hx hb dX0_struck_63 (lv_at hl 3 rfl) ?_
  refine lv_ishl hx hb dX0_struck_65 ?_
  refine lv_ior hx hb dX0_struck_66 ?_
  refine lv_istore_n (lv' := [(3, .int (is1 ||| (r1 <<< (i4 &&& 31)))), (0, .ref (aX 0)), (1, .int i1), (2, .int i2), (4, .int i4)]) hx hb dX0_struck_67 rfl hl (by decide) rfl (fun ls hl => ?_)
  refine lv_iinc (v := (i4 + 1)) (lv' := [(4, .int (i4 + 1)), (3, .int (is1 ||| (r1 <<< (i4 &&& 31)))), (0, .ref (aX 0)), (1, .int i1), (2, .int i2)]) hx hb dX0_struck_68 hl (k := 4) rfl rfl (by decide) rfl (fun ls hl => ?_)
  refine lv_goto (tgt := 23) hx hb dX0_struck_71 (by decide) ?_
  exact hK23 _ _ _ _ _ _ _ _ _ _ w _ _ _ hP hS (lv_sub hl [2, 3, 4, 1, 0] rfl)
set_option maxHeartbeats 4000000 in
set_option maxRecDepth 100000 in
theorem wk_X0_struck_L159 {p : Program} {l : Launch} {e : Env} {s : State} {m : MethodId} {args : Array Value} {below : List Frame} {meth : Method} {c : Code} {dC : Nat → ClassId} {dI : Nat → Nat → Nat} {ct : Nat → ClassId} {A : Nat → Prop} {aX : Nat → Nat} {a0 : Nat → Nat} {a1 : Nat → Nat} {a2 : Nat → Nat} {a3 : Nat → Nat} {Post : Int32 → V → VL → V → V → V → V → Prop} {K84 : Int32 → Int32 → V → VL → V → V → V → V → Prop} {K102 : Int32 → Int32 → Int32 → V → VL → V → V → V → V → Prop}  (X : CxW p s m args meth c cX0_struck 6 (some .int) RX0 dC dI ct A) (hD : ∀ (x : V) (y : VL) (v0 : V) (v1 : V) (v2 : V) (v3 : V), va_D A (XW aX a0 a1 a2 a3 ct x y v0 v1 v2 v3)) (hK84 : ∀ (i3 : Int32) (i4 : Int32) (x : V) (y : VL) (v0 : V) (v1 : V) (v2 : V) (v3 : V), K84 i3 i4 x y v0 v1 v2 v3 → ∀ (H : Heap) (locs : List Loc) (ls : Array Slot), va_P (dC, dI) vwCl (XW aX a0 a1 a2 a3 ct x y v0 v1 v2 v3) H → va_S A s.heap H locs → lv_has ls 6 [(0, .ref (aX 0)), (3, .int i3), (4, .int i4)] → W p l e rm_X0_struck s m args below meth c H locs 0 0 (MQ below (va_Qi (fun (r : Int32) (u : V × VL × V × V × V × V) => Post r u.1 u.2.1 u.2.2.1 u.2.2.2.1 u.2.2.2.2.1 u.2.2.2.2.2) (fun (u : V × VL × V × V × V × V) t => WPos dC dI ct (XW aX a0 a1 a2 a3 ct u.1 u.2.1 u.2.2.1 u.2.2.2.1 u.2.2.2.2.1 u.2.2.2.2.2) A t) A) args s 0 0 A) (F0 m 84 ls [])) (hK102 : ∀ (i3 : Int32) (i4 : Int32) (i5 : Int32) (x : V) (y : VL) (v0 : V) (v1 : V) (v2 : V) (v3 : V), K102 i3 i4 i5 x y v0 v1 v2 v3 → ∀ (H : Heap) (locs : List Loc) (ls : Array Slot), va_P (dC, dI) vwCl (XW aX a0 a1 a2 a3 ct x y v0 v1 v2 v3) H → va_S A s.heap H locs → lv_has ls 6 [(0, .ref (aX 0)), (3, .int i3), (4, .int i4), (5, .int i5)] → W p l e rm_X0_struck s m args below meth c H locs 0 0 (MQ below (va_Qi (fun (r : Int32) (u : V × VL × V × V × V × V) => Post r u.1 u.2.1 u.2.2.1 u.2.2.2.1 u.2.2.2.2.1 u.2.2.2.2.2) (fun (u : V × VL × V × V × V × V) t => WPos dC dI ct (XW aX a0 a1 a2 a3 ct u.1 u.2.1 u.2.2.1 u.2.2.2.1 u.2.2.2.2.1 u.2.2.2.2.2) A t) A) args s 0 0 A) (F0 m 102 ls [])) (i3 : Int32) (i4 : Int32) (i5 : Int32) (is0 : Int32) (is1 : Int32) (x : V) (y : VL) (v0 : V) (v1 : V) (v2 : V) (v3 : V) (w : wp_X0_struck_L159  Post K84 K102 i3 i4 i5 is0 is1 x y v0 v1 v2 v3) : ∀ (H : Heap) (locs : List Loc) (ls : Array Slot), va_P (dC, dI) vwCl (XW aX a0 a1 a2 a3 ct x y v0 v1 v2 v3) H → va_S A s.heap H locs → lv_has ls 6 [(0, .ref (aX 0)), (3, .int i3), (4, .int i4), (5, .int i5)] → W p l e rm_X0_struck s m args below meth c H locs 0 0 (MQ below (va_Qi (fun (r : Int32) (u : V × VL × V × V × V × V) => Post r u.1 u.2.1 u.2.2.1 u.2.2.2.1 u.2.2.2.2.1 u.2.2.2.2.2) (fun (u : V × VL × V × V × V × V) t => WPos dC dI ct (XW aX a0 a1 a2 a3 ct u.1 u.2.1 u.2.2.1 u.2.2.2.1 u.2.2.2.2.1 u.2.2.2.2.2) A t) A) args s 0 0 A) (F0 m 159 ls [.int is0, .int is1, .ref (aX 5)]) := by
  intro H locs ls hP hS hl
  have X0 := X
  obtain ⟨⟨hx, hb, hml, hr, hlk, hown, hts⟩, hA, hK, hN⟩ := X0
  unfold wp_X0_struck_L159 at w
  obtain ⟨gi, w⟩ := w
  refine va_iast hx hb hK hP (hD _ _ _ _ _ _) hS 5 0 rfl rfl gi dX0_struck_159 (fun H locs hP _ hS => ?_)
  have hP : va_P (dC, dI) vwCl (XW aX a0 a1 a2 a3 ct (up2 x 3 is1.toNatClampNeg is0) y v0 v1 v2 v3) H := XW_u_x_3 hP
  refine lv_iinc (v := (i5 + 1)) (lv' := [(5, .int (i5 + 1)), (0, .ref (aX 0)), (3, .int i3), (4, .int i4)]) hx hb dX0_struck_160 hl (k := 3) rfl rfl (by decide) rfl (fun ls hl => ?_)
  refine lv_goto (tgt := 102) hx hb dX0_struck_163 (by decide) ?_
  exact hK102 _ _ _ _ _ _ _ _ _ w _ _ _ hP hS (lv_sub hl [1, 2, 3, 0] rfl)
set_option maxHeartbeats 4000000 in
set_option maxRecDepth 100000 in
theorem wk_X0_struck_L188 {p : Program} {l : Launch} {e : Env} {s : State} {m : MethodId} {args : Array Value} {below : List Frame} {meth : Method} {c : Code} {dC : Nat → ClassId} {dI : Nat → Nat → Nat} {ct : Nat → ClassId} {A : Nat → Prop} {aX : Nat → Nat} {a0 : Nat → Nat} {a1 : Nat → Nat} {a2 : Nat → Nat} {a3 : Nat → Nat} {Post : Int32 → V → VL → V → V → V → V → Prop} {K84 : Int32 → Int32 → V → VL → V → V → V → V → Prop}  (X : CxW p s m args meth c cX0_struck 6 (some .int) RX0 dC dI ct A) (hD : ∀ (x : V) (y : VL) (v0 : V) (v1 : V) (v2 : V) (v3 : V), va_D A (XW aX a0 a1 a2 a3 ct x y v0 v1 v2 v3)) (hK84 : ∀ (i3 : Int32) (i4 : Int32) (x : V) (y : VL) (v0 : V) (v1 : V) (v2 : V) (v3 : V), K84 i3 i4 x y v0 v1 v2 v3 → ∀ (H : Heap) (locs : List Loc) (ls : Array Slot), va_P (dC, dI) vwCl (XW aX a0 a1 a2 a3 ct x y v0 v1 v2 v3) H → va_S A s.heap H locs → lv_has ls 6 [(0, .ref (aX 0)), (3, .int i3), (4, .int i4)] → W p l e rm_X0_struck s m args below meth c H locs 0 0 (MQ below (va_Qi (fun (r : Int32) (u : V × VL × V × V × V × V) => Post r u.1 u.2.1 u.2.2.1 u.2.2.2.1 u.2.2.2.2.1 u.2.2.2.2.2) (fun (u : V × VL × V × V × V × V) t => WPos dC dI ct (XW aX a0 a1 a2 a3 ct u.1 u.2.1 u.2.2.1 u.2.2.2.1 u.2.2.2.2.1 u.2.2.2.2.2) A t) A) args s 0 0 A) (F0 m 84 ls [])) (i3 : Int32) (i4 : Int32) (is0 : Int32) (is1 : Int32) (is2 : Int32) (x : V) (y : VL) (v0 : V) (v1 : V) (v2 : V) (v3 : V) (w : wp_X0_struck_L188  Post K84 i3 i4 is0 is1 is2 x y v0 v1 v2 v3) : ∀ (H : Heap) (locs : List Loc) (ls : Array Slot), va_P (dC, dI) vwCl (XW aX a0 a1 a2 a3 ct x y v0 v1 v2 v3) H → va_S A s.heap H locs → lv_has ls 6 [(0, .ref (aX 0)), (3, .int i3), (4, .int i4)] → W p l e rm_X0_struck s m args below meth c H locs 0 0 (MQ below (va_Qi (fun (r : Int32) (u : V × VL × V × V × V × V) => Post r u.1 u.2.1 u.2.2.1 u.2.2.2.1 u.2.2.2.2.1 u.2.2.2.2.2) (fun (u : V × VL × V × V × V × V) t => WPos dC dI ct (XW aX a0 a1 a2 a3 ct u.1 u.2.1 u.2.2.1 u.2.2.2.1 u.2.2.2.2.1 u.2.2.2.2.2) A t) A) args s 0 0 A) (F0 m 188 ls [.int is0, .int is1, .int is2, .ref (aX 5)]) := by
  intro H locs ls hP hS hl
  have X0 := X
  obtain ⟨⟨hx, hb, hml, hr, hlk, hown, hts⟩, hA, hK, hN⟩ := X0
  unfold wp_X0_struck_L188 at w
  refine vp_callSi (W.runS (As := [.int is0]) (rest := [.int is1, .int is2, .ref (aX 5)]) ⟨hx, hb, hml, hown, hts⟩ (met_X0_asNumber l w) (va_cwS 1 hts (lw_S q341 q309 q48 q310) rfl rfl rfl hd_X0_asNumber ⟨Nat.le_of_ble_eq_true rfl, Nat.le_of_ble_eq_true rfl⟩) pre_S rfl rfl hl.1 rfl (lv_room (Nat.le_of_ble_eq_true rfl)) dX0_struck_188 ⟨Nat.le_refl _, Nat.le_refl _⟩) (fun r1 w => ?_)
  refine lv_iadd hx hb dX0_struck_191 ?_
  obtain ⟨gi, w⟩ := w
  refine va_iast hx hb hK hP (hD _ _ _ _ _ _) hS 5 0 rfl rfl gi dX0_struck_192 (fun H locs hP _ hS => ?_)
  have hP : va_P (dC, dI) vwCl (XW aX a0 a1 a2 a3 ct (up2 x 3 is2.toNatClampNeg (is1 + r1)) y v0 v1 v2 v3) H := XW_u_x_3 hP
  refine lv_iinc (v := (i4 + 1)) (lv' := [(4, .int (i4 + 1)), (0, .ref (aX 0)), (3, .int i3)]) hx hb dX0_struck_193 hl (k := 2) rfl rfl (by decide) rfl (fun ls hl => ?_)
  refine lv_goto (tgt := 84) hx hb dX0_struck_196 (by decide) ?_
  exact hK84 _ _ _ _ _ _ _ _ w _ _ _ hP hS (lv_sub hl [1, 2, 0] rfl)
set_option maxHeartbeats 4000000 in
set_option maxRecDepth 100000 in
theorem wk_X0_struck_S102 {p : Program} {l : Launch} {e : Env} {s : State} {m : MethodId} {args : Array Value} {below : List Frame} {meth : Method} {c : Code} {dC : Nat → ClassId} {dI : Nat → Nat → Nat} {ct : Nat → ClassId} {A : Nat → Prop} {aX : Nat → Nat} {a0 : Nat → Nat} {a1 : Nat → Nat} {a2 : Nat → Nat} {a3 : Nat → Nat} {Post : Int32 → V → VL → V → V → V → V → Prop} {K84 : Int32 → Int32 → V → VL → V → V → V → V → Prop} {K102 : Int32 → Int32 → Int32 → V → VL → V → V → V → V → Prop}  (X : CxW p s m args meth c cX0_struck 6 (some .int) RX0 dC dI ct A) (hD : ∀ (x : V) (y : VL) (v0 : V) (v1 : V) (v2 : V) (v3 : V), va_D A (XW aX a0 a1 a2 a3 ct x y v0 v1 v2 v3)) (hK84 : ∀ (i3 : Int32) (i4 : Int32) (x : V) (y : VL) (v0 : V) (v1 : V) (v2 : V) (v3 : V), K84 i3 i4 x y v0 v1 v2 v3 → ∀ (H : Heap) (locs : List Loc) (ls : Array Slot), va_P (dC, dI) vwCl (XW aX a0 a1 a2 a3 ct x y v0 v1 v2 v3) H → va_S A s.heap H locs → lv_has ls 6 [(0, .ref (aX 0)), (3, .int i3), (4, .int i4)] → W p l e rm_X0_struck s m args below meth c H locs 0 0 (MQ below (va_Qi (fun (r : Int32) (u : V × VL × V × V × V × V) => Post r u.1 u.2.1 u.2.2.1 u.2.2.2.1 u.2.2.2.2.1 u.2.2.2.2.2) (fun (u : V × VL × V × V × V × V) t => WPos dC dI ct (XW aX a0 a1 a2 a3 ct u.1 u.2.1 u.2.2.1 u.2.2.2.1 u.2.2.2.2.1 u.2.2.2.2.2) A t) A) args s 0 0 A) (F0 m 84 ls [])) (hK102 : ∀ (i3 : Int32) (i4 : Int32) (i5 : Int32) (x : V) (y : VL) (v0 : V) (v1 : V) (v2 : V) (v3 : V), K102 i3 i4 i5 x y v0 v1 v2 v3 → ∀ (H : Heap) (locs : List Loc) (ls : Array Slot), va_P (dC, dI) vwCl (XW aX a0 a1 a2 a3 ct x y v0 v1 v2 v3) H → va_S A s.heap H locs → lv_has ls 6 [(0, .ref (aX 0)), (3, .int i3), (4, .int i4), (5, .int i5)] → W p l e rm_X0_struck s m args below meth c H locs 0 0 (MQ below (va_Qi (fun (r : Int32) (u : V × VL × V × V × V × V) => Post r u.1 u.2.1 u.2.2.1 u.2.2.2.1 u.2.2.2.2.1 u.2.2.2.2.2) (fun (u : V × VL × V × V × V × V) t => WPos dC dI ct (XW aX a0 a1 a2 a3 ct u.1 u.2.1 u.2.2.1 u.2.2.2.1 u.2.2.2.2.1 u.2.2.2.2.2) A t) A) args s 0 0 A) (F0 m 102 ls [])) (i3 : Int32) (i4 : Int32) (i5 : Int32) (x : V) (y : VL) (v0 : V) (v1 : V) (v2 : V) (v3 : V) (w : wp_X0_struck_S102  Post K84 K102 i3 i4 i5 x y v0 v1 v2 v3) : ∀ (H : Heap) (locs : List Loc) (ls : Array Slot), va_P (dC, dI) vwCl (XW aX a0 a1 a2 a3 ct x y v0 v1 v2 v3) H → va_S A s.heap H locs → lv_has ls 6 [(0, .ref (aX 0)), (3, .int i3), (4, .int i4), (5, .int i5)] → W p l e rm_X0_struck s m args below meth c H locs 0 0 (MQ below (va_Qi (fun (r : Int32) (u : V × VL × V × V × V × V) => Post r u.1 u.2.1 u.2.2.1 u.2.2.2.1 u.2.2.2.2.1 u.2.2.2.2.2) (fun (u : V × VL × V × V × V × V) t => WPos dC dI ct (XW aX a0 a1 a2 a3 ct u.1 u.2.1 u.2.2.1 u.2.2.2.1 u.2.2.2.2.1 u.2.2.2.2.2) A t) A) args s 0 0 A) (F0 m 102 ls []) := by
  intro H locs ls hP hS hl
  have X0 := X
  obtain ⟨⟨hx, hb, hml, hr, hlk, hown, hts⟩, hA, hK, hN⟩ := X0
  unfold wp_X0_struck_S102 at w
  refine lv_iload hx hb dX0_struck_102 (lv_at hl 3 rfl) ?_
  refine lv_bipush (v := 6) hx hb dX0_struck_104 (by decide) ?_
  refine lv_icmp_ge (tgt := 166) hx hb dX0_struck_106 (by decide) (fun c => ?_) (fun c => ?_)
  · have w := And.left w c
    refine lv_aload_n hx hb dX0_struck_166 rfl (lv_at hl 0 rfl) ?_
    refine va_get (D := (dC, dI)) (ci := 0) (v := .ref (aX 5)) (C := RX0) (T := TX0) (N := 14) hx hb hts in_X0 hown hK hP 0 rfl rfl 10 (by decide) (hts _ q138) (fun _ h9 => h9) rfl dX0_struck_167 ?_
    refine lv_iload hx hb dX0_struck_170 (lv_at hl 2 rfl) ?_
    refine lv_dup2_11 hx hb dX0_struck_172 rfl rfl ?_
    obtain ⟨gi, w⟩ := w
    refine va_iald hx hb hK hP 5 0 rfl rfl gi dX0_struck_173 ?_
    refine lv_aload_n hx hb dX0_struck_174 rfl (lv_at hl 0 rfl) ?_
    refine lv_iload hx hb dX0_struck_175 (lv_at hl 2 rfl) ?_
    refine va_calli (va_runV (As := [.int i4]) (rest := [.int (x 3 i4.toNatClampNeg), .int i4, .ref (aX 5)]) ⟨hx, hb, hml, hown, hts⟩ (met_X0_netOf l dC dI ct aX a0 a1 a2 a3 _ w) (cwV 1 hts (lw_V q345 q347 qs6 q48 q348) rfl rfl rfl hd_X0_netOf ⟨Nat.le_of_ble_eq_true rfl, Nat.le_of_ble_eq_true rfl⟩) (pre_V hK hP (hD _ _ _ _ _ _) hN (va_recv hK hP (ci := 0) (q0 := 0) rfl rfl)) rfl rfl hl.1 rfl (lv_room (Nat.le_of_ble_eq_true rfl)) dX0_struck_177 ⟨Nat.le_refl _, Nat.le_refl _⟩) hS (fun q _ h => x_free (hD _ _ _ _ _ _) hS hA q h) (x_free (hD _ _ _ _ _ _) hS hA) (fun r1 u t H locs ht hvm w hB hz hk hS => ?_)
    obtain ⟨x_1, y_1, v0_1, v1_1, v2_1, v3_1⟩ := u
    dsimp only at w
    have hP : va_P (dC, dI) vwCl (XW aX a0 a1 a2 a3 ct x_1 y_1 v0_1 v1_1 v2_1 v3_1) H := post_P hB ht
    refine lv_if_ne (tgt := 187) hx hb dX0_struck_180 (by decide) (fun c => ?_) (fun c => ?_)
    · have w := And.right w c
      refine lv_iconst (v := 0) hx hb dX0_struck_187 (by decide) ?_
      exact wk_X0_struck_L188 X hD hK84 _ _ _ _ _ _ _ _ _ _ _ w _ _ _ hP hS (lv_sub hl [0, 1, 2] rfl)
    · have w := And.left w c
      refine lv_iconst (v := 1) hx hb dX0_struck_183 (by decide) ?_
      refine lv_goto (tgt := 188) hx hb dX0_struck_184 (by decide) ?_
      exact wk_X0_struck_L188 X hD hK84 _ _ _ _ _ _ _ _ _ _ _ w _ _ _ hP hS (lv_sub hl [0, 1, 2] rfl)
  · have w := And.right w c
    refine lv_aload_n hx hb dX0_struck_109 rfl (lv_at hl 0 rfl) ?_
    refine va_get (D := (dC, dI)) (ci := 0) (v := .ref (aX 5)) (C := RX0) (T := TX0) (N := 14) hx hb hts in_X0 hown hK hP 0 rfl rfl 10 (by decide) (hts _ q138) (fun _ h9 => h9) rfl dX0_struck_110 ?_
    refine lv_iload hx hb dX0_struck_113 (lv_at hl 2 rfl) ?_
    refine lv_iload hx hb dX0_struck_115 (lv_at hl 2 rfl) ?_
    refine lv_iload hx hb dX0_struck_117 (lv_at hl 3 rfl) ?_
    refine vp_callSi (W.runS (As := [.int i4, .int i5]) (rest := [.int i4, .ref (aX 5)]) ⟨hx, hb, hml, hown, hts⟩ (met_X0_has l w) (va_cwS 2 hts (lw_S q342 q343 q48 q344) rfl rfl rfl hd_X0_has ⟨Nat.le_of_ble_eq_true rfl, Nat.le_of_ble_eq_true rfl⟩) pre_S rfl rfl hl.1 rfl (lv_room (Nat.le_of_ble_eq_true rfl)) dX0_struck_119 ⟨Nat.le_refl _, Nat.le_refl _⟩) (fun r2 w => ?_)
    refine lv_if_eq (tgt := 152) hx hb dX0_struck_122 (by decide) (fun c => ?_) (fun c => ?_)
    · have w := And.left w c
      refine lv_aload_n hx hb dX0_struck_152 rfl (lv_at hl 0 rfl) ?_
      refine va_get (D := (dC, dI)) (ci := 0) (v := .ref (aX 5)) (C := RX0) (T := TX0) (N := 14) hx hb hts in_X0 hown hK hP 0 rfl rfl 10 (by decide) (hts _ q138) (fun _ h9 => h9) rfl dX0_struck_153 ?_
      refine lv_iload hx hb dX0_struck_156 (lv_at hl 2 rfl) ?_
      obtain ⟨gi, w⟩ := w
      refine va_iald hx hb hK hP 5 0 rfl rfl gi dX0_struck_158 ?_
      exact wk_X0_struck_L159 X hD hK84 hK102 _ _ _ _ _ _ _ _ _ _ _ w _ _ _ hP hS (lv_sub hl [0, 1, 2, 3] rfl)
    · have w := And.right w c
      refine lv_aload_n hx hb dX0_struck_125 rfl (lv_at hl 0 rfl) ?_
      refine va_get (D := (dC, dI)) (ci := 0) (v := .ref (aX 5)) (C := RX0) (T := TX0) (N := 14) hx hb hts in_X0 hown hK hP 0 rfl rfl 10 (by decide) (hts _ q138) (fun _ h9 => h9) rfl dX0_struck_126 ?_
      refine lv_iload hx hb dX0_struck_129 (lv_at hl 2 rfl) ?_
      obtain ⟨gi, w⟩ := w
      refine va_iald hx hb hK hP 5 0 rfl rfl gi dX0_struck_131 ?_
      refine lv_aload_n hx hb dX0_struck_132 rfl (lv_at hl 0 rfl) ?_
      refine va_get (D := (dC, dI)) (ci := 0) (v := .ref (aX 5)) (C := RX0) (T := TX0) (N := 14) hx hb hts in_X0 hown hK hP 0 rfl rfl 10 (by decide) (hts _ q138) (fun _ h9 => h9) rfl dX0_struck_133 ?_
      refine lv_iload hx hb dX0_struck_136 (lv_at hl 2 rfl) ?_
      refine lv_iconst (v := 1) hx hb dX0_struck_138 (by decide) ?_
      refine lv_iload hx hb dX0_struck_139 (lv_at hl 3 rfl) ?_
      refine lv_ishl hx hb dX0_struck_141 ?_
      refine lv_iconst (v := -1) hx hb dX0_struck_142 (by decide) ?_
      refine lv_ixor hx hb dX0_struck_143 ?_
      refine lv_iand hx hb dX0_struck_144 ?_
      obtain ⟨gi, w⟩ := w
      refine va_iald hx hb hK hP 5 0 rfl rfl gi dX0_struck_145 ?_
      refine va_mmax hx hb (hml.trans hl.1.symm) hown (hts _ q338) (hts _ q339) (hts _ q53) (hts _ q340) (Nat.le_of_ble_eq_true rfl) (Nat.le_of_ble_eq_true rfl) (Nat.zero_le _) (Nat.zero_le _) dX0_struck_146 ?_
      refine lv_goto (tgt := 159) hx hb dX0_struck_149 (by decide) ?_
      exact wk_X0_struck_L159 X hD hK84 hK102 _ _ _ _ _ _ _ _ _ _ _ w _ _ _ hP hS (lv_sub hl [0, 1, 2, 3] rfl)
set_option maxHeartbeats 4000000 in
set_option maxRecDepth 100000 in
theorem wk_X0_struck_L102 {p : Program} {l : Launch} {e : Env} {s : State} {m : MethodId} {args : Array Value} {below : List Frame} {meth : Method} {c : Code} {dC : Nat → ClassId} {dI : Nat → Nat → Nat} {ct : Nat → ClassId} {A : Nat → Prop} {aX : Nat → Nat} {a0 : Nat → Nat} {a1 : Nat → Nat} {a2 : Nat → Nat} {a3 : Nat → Nat} {Post : Int32 → V → VL → V → V → V → V → Prop} {K84 : Int32 → Int32 → V → VL → V → V → V → V → Prop}  (X : CxW p s m args meth c cX0_struck 6 (some .int) RX0 dC dI ct A) (hD : ∀ (x : V) (y : VL) (v0 : V) (v1 : V) (v2 : V) (v3 : V), va_D A (XW aX a0 a1 a2 a3 ct x y v0 v1 v2 v3)) (hK84 : ∀ (i3 : Int32) (i4 : Int32) (x : V) (y : VL) (v0 : V) (v1 : V) (v2 : V) (v3 : V), K84 i3 i4 x y v0 v1 v2 v3 → ∀ (H : Heap) (locs : List Loc) (ls : Array Slot), va_P (dC, dI) vwCl (XW aX a0 a1 a2 a3 ct x y v0 v1 v2 v3) H → va_S A s.heap H locs → lv_has ls 6 [(0, .ref (aX 0)), (3, .int i3), (4, .int i4)] → W p l e rm_X0_struck s m args below meth c H locs 0 0 (MQ below (va_Qi (fun (r : Int32) (u : V × VL × V × V × V × V) => Post r u.1 u.2.1 u.2.2.1 u.2.2.2.1 u.2.2.2.2.1 u.2.2.2.2.2) (fun (u : V × VL × V × V × V × V) t => WPos dC dI ct (XW aX a0 a1 a2 a3 ct u.1 u.2.1 u.2.2.1 u.2.2.2.1 u.2.2.2.2.1 u.2.2.2.2.2) A t) A) args s 0 0 A) (F0 m 84 ls [])) : ∀ (n : Nat) (i3 : Int32) (i4 : Int32) (i5 : Int32) (x : V) (y : VL) (v0 : V) (v1 : V) (v2 : V) (v3 : V), wp_X0_struck_L102  Post K84 n i3 i4 i5 x y v0 v1 v2 v3 → ∀ (H : Heap) (locs : List Loc) (ls : Array Slot), va_P (dC, dI) vwCl (XW aX a0 a1 a2 a3 ct x y v0 v1 v2 v3) H → va_S A s.heap H locs → lv_has ls 6 [(0, .ref (aX 0)), (3, .int i3), (4, .int i4), (5, .int i5)] → W p l e rm_X0_struck s m args below meth c H locs 0 0 (MQ below (va_Qi (fun (r : Int32) (u : V × VL × V × V × V × V) => Post r u.1 u.2.1 u.2.2.1 u.2.2.2.1 u.2.2.2.2.1 u.2.2.2.2.2) (fun (u : V × VL × V × V × V × V) t => WPos dC dI ct (XW aX a0 a1 a2 a3 ct u.1 u.2.1 u.2.2.1 u.2.2.2.1 u.2.2.2.2.1 u.2.2.2.2.2) A t) A) args s 0 0 A) (F0 m 102 ls []) := by
  intro n
  induction n with
  | zero => intro i3 i4 i5 x y v0 v1 v2 v3 w; exact False.elim w
  | succ n ih => intro i3 i4 i5 x y v0 v1 v2 v3 w H locs ls hP hS hl; exact wk_X0_struck_S102 X hD hK84 ih i3 i4 i5 x y v0 v1 v2 v3 w H locs ls hP hS hl
set_option maxHeartbeats 4000000 in
set_option maxRecDepth 100000 in
theorem wk_X0_struck_L218 {p : Program} {l : Launch} {e : Env} {s : State} {m : MethodId} {args : Array Value} {below : List Frame} {meth : Method} {c : Code} {dC : Nat → ClassId} {dI : Nat → Nat → Nat} {ct : Nat → ClassId} {A : Nat → Prop} {aX : Nat → Nat} {a0 : Nat → Nat} {a1 : Nat → Nat} {a2 : Nat → Nat} {a3 : Nat → Nat} {Post : Int32 → V → VL → V → V → V → V → Prop}   (X : CxW p s m args meth c cX0_struck 6 (some .int) RX0 dC dI ct A) (hD : ∀ (x : V) (y : VL) (v0 : V) (v1 : V) (v2 : V) (v3 : V), va_D A (XW aX a0 a1 a2 a3 ct x y v0 v1 v2 v3))  (is0 : Int32) (x : V) (y : VL) (v0 : V) (v1 : V) (v2 : V) (v3 : V) (w : wp_X0_struck_L218  Post  is0 x y v0 v1 v2 v3) : ∀ (H : Heap) (locs : List Loc) (ls : Array Slot), va_P (dC, dI) vwCl (XW aX a0 a1 a2 a3 ct x y v0 v1 v2 v3) H → va_S A s.heap H locs → lv_has ls 6 [] → W p l e rm_X0_struck s m args below meth c H locs 0 0 (MQ below (va_Qi (fun (r : Int32) (u : V × VL × V × V × V × V) => Post r u.1 u.2.1 u.2.2.1 u.2.2.2.1 u.2.2.2.2.1 u.2.2.2.2.2) (fun (u : V × VL × V × V × V × V) t => WPos dC dI ct (XW aX a0 a1 a2 a3 ct u.1 u.2.1 u.2.2.1 u.2.2.2.1 u.2.2.2.2.1 u.2.2.2.2.2) A t) A) args s 0 0 A) (F0 m 218 ls [.int is0]) := by
  intro H locs ls hP hS hl
  have X0 := X
  obtain ⟨⟨hx, hb, hml, hr, hlk, hown, hts⟩, hA, hK, hN⟩ := X0
  unfold wp_X0_struck_L218 at w
  exact W.iret (v := is0) hx hb hr (fun t ht hW => ⟨⟨is0, (x, y, v0, v1, v2, v3), rfl, w, by rw [ht]; exact hP, va_K.moved hW.alike hK, (hD _ _ _ _ _ _)⟩, hS.F ht⟩) hS.2.2 dX0_struck_218 hlk
set_option maxHeartbeats 4000000 in
set_option maxRecDepth 100000 in
theorem wk_X0_struck_S84 {p : Program} {l : Launch} {e : Env} {s : State} {m : MethodId} {args : Array Value} {below : List Frame} {meth : Method} {c : Code} {dC : Nat → ClassId} {dI : Nat → Nat → Nat} {ct : Nat → ClassId} {A : Nat → Prop} {aX : Nat → Nat} {a0 : Nat → Nat} {a1 : Nat → Nat} {a2 : Nat → Nat} {a3 : Nat → Nat} {Post : Int32 → V → VL → V → V → V → V → Prop} {K84 : Int32 → Int32 → V → VL → V → V → V → V → Prop}  (X : CxW p s m args meth c cX0_struck 6 (some .int) RX0 dC dI ct A) (hD : ∀ (x : V) (y : VL) (v0 : V) (v1 : V) (v2 : V) (v3 : V), va_D A (XW aX a0 a1 a2 a3 ct x y v0 v1 v2 v3)) (hK84 : ∀ (i3 : Int32) (i4 : Int32) (x : V) (y : VL) (v0 : V) (v1 : V) (v2 : V) (v3 : V), K84 i3 i4 x y v0 v1 v2 v3 → ∀ (H : Heap) (locs : List Loc) (ls : Array Slot), va_P (dC, dI) vwCl (XW aX a0 a1 a2 a3 ct x y v0 v1 v2 v3) H → va_S A s.heap H locs → lv_has ls 6 [(0, .ref (aX 0)), (3, .int i3), (4, .int i4)] → W p l e rm_X0_struck s m args below meth c H locs 0 0 (MQ below (va_Qi (fun (r : Int32) (u : V × VL × V × V × V × V) => Post r u.1 u.2.1 u.2.2.1 u.2.2.2.1 u.2.2.2.2.1 u.2.2.2.2.2) (fun (u : V × VL × V × V × V × V) t => WPos dC dI ct (XW aX a0 a1 a2 a3 ct u.1 u.2.1 u.2.2.1 u.2.2.2.1 u.2.2.2.2.1 u.2.2.2.2.2) A t) A) args s 0 0 A) (F0 m 84 ls [])) (i3 : Int32) (i4 : Int32) (x : V) (y : VL) (v0 : V) (v1 : V) (v2 : V) (v3 : V) (w : wp_X0_struck_S84  Post K84 i3 i4 x y v0 v1 v2 v3) : ∀ (H : Heap) (locs : List Loc) (ls : Array Slot), va_P (dC, dI) vwCl (XW aX a0 a1 a2 a3 ct x y v0 v1 v2 v3) H → va_S A s.heap H locs → lv_has ls 6 [(0, .ref (aX 0)), (3, .int i3), (4, .int i4)] → W p l e rm_X0_struck s m args below meth c H locs 0 0 (MQ below (va_Qi (fun (r : Int32) (u : V × VL × V × V × V × V) => Post r u.1 u.2.1 u.2.2.1 u.2.2.2.1 u.2.2.2.2.1 u.2.2.2.2.2) (fun (u : V × VL × V × V × V × V) t => WPos dC dI ct (XW aX a0 a1 a2 a3 ct u.1 u.2.1 u.2.2.1 u.2.2.2.1 u.2.2.2.2.1 u.2.2.2.2.2) A t) A) args s 0 0 A) (F0 m 84 ls []) := by
  intro H locs ls hP hS hl
  have X0 := X
  obtain ⟨⟨hx, hb, hml, hr, hlk, hown, hts⟩, hA, hK, hN⟩ := X0
  unfold wp_X0_struck_S84 at w
  refine lv_iload hx hb dX0_struck_84 (lv_at hl 2 rfl) ?_
  refine lv_bipush (v := 64) hx hb dX0_struck_86 (by decide) ?_
  refine lv_icmp_ge (tgt := 199) hx hb dX0_struck_88 (by decide) (fun c => ?_) (fun c => ?_)
  · have w := And.left w c
    refine lv_iload_n hx hb dX0_struck_199 rfl (lv_at hl 1 rfl) ?_
    refine lv_if_ne (tgt := 207) hx hb dX0_struck_200 (by decide) (fun c => ?_) (fun c => ?_)
    · have w := And.right w c
      refine lv_iload_n hx hb dX0_struck_207 rfl (lv_at hl 1 rfl) ?_
      refine vp_callSi (W.runS (As := [.int i3]) (rest := []) ⟨hx, hb, hml, hown, hts⟩ (met_J2_bitCount l w) (va_cwS 1 hts (lw_S q349 q350 q54 q351) rfl rfl rfl hd_J2_bitCount ⟨Nat.le_of_ble_eq_true rfl, Nat.le_of_ble_eq_true rfl⟩) pre_S rfl rfl hl.1 rfl (lv_room (Nat.le_of_ble_eq_true rfl)) dX0_struck_208 ⟨Nat.le_refl _, Nat.le_refl _⟩) (fun r1 w => ?_)
      refine lv_aload_n hx hb dX0_struck_211 rfl (lv_at hl 0 rfl) ?_
      refine va_get (D := (dC, dI)) (ci := 0) (v := .ref (aX 5)) (C := RX0) (T := TX0) (N := 14) hx hb hts in_X0 hown hK hP 0 rfl rfl 10 (by decide) (hts _ q138) (fun _ h9 => h9) rfl dX0_struck_212 ?_
      refine lv_iload_n hx hb dX0_struck_215 rfl (lv_at hl 1 rfl) ?_
      obtain ⟨gi, w⟩ := w
      refine va_iald hx hb hK hP 5 0 rfl rfl gi dX0_struck_216 ?_
      refine lv_isub hx hb dX0_struck_217 ?_
      exact wk_X0_struck_L218 X hD  _ _ _ _ _ _ _ w _ _ _ hP hS (lv_sub hl [] rfl)
    · have w := And.left w c
      refine lv_iconst (v := 0) hx hb dX0_struck_203 (by decide) ?_
      refine lv_goto (tgt := 218) hx hb dX0_struck_204 (by decide) ?_
      exact wk_X0_struck_L218 X hD  _ _ _ _ _ _ _ w _ _ _ hP hS (lv_sub hl [] rfl)
  · have w := And.right w c
    refine lv_aload_n hx hb dX0_struck_91 rfl (lv_at hl 0 rfl) ?_
    refine va_get (D := (dC, dI)) (ci := 0) (v := .ref (aX 5)) (C := RX0) (T := TX0) (N := 14) hx hb hts in_X0 hown hK hP 0 rfl rfl 10 (by decide) (hts _ q138) (fun _ h9 => h9) rfl dX0_struck_92 ?_
    refine lv_iload hx hb dX0_struck_95 (lv_at hl 2 rfl) ?_
    refine lv_iconst (v := 0) hx hb dX0_struck_97 (by decide) ?_
    obtain ⟨gi, w⟩ := w
    refine va_iast hx hb hK hP (hD _ _ _ _ _ _) hS 5 0 rfl rfl gi dX0_struck_98 (fun H locs hP _ hS => ?_)
    have hP : va_P (dC, dI) vwCl (XW aX a0 a1 a2 a3 ct (up2 x 3 i4.toNatClampNeg (0 : Int32)) y v0 v1 v2 v3) H := XW_u_x_3 hP
    refine lv_iconst (v := 0) hx hb dX0_struck_99 (by decide) ?_
    refine lv_istore (lv' := [(5, .int (0 : Int32)), (0, .ref (aX 0)), (3, .int i3), (4, .int i4)]) hx hb dX0_struck_100 hl (by decide) rfl (fun ls hl => ?_)
    obtain ⟨n, w⟩ := w
    exact wk_X0_struck_L102 X hD hK84 n _ _ _ _ _ _ _ _ _ w _ _ _ hP hS (lv_sub hl [1, 2, 3, 0] rfl)
set_option maxHeartbeats 4000000 in
set_option maxRecDepth 100000 in
theorem wk_X0_struck_L84 {p : Program} {l : Launch} {e : Env} {s : State} {m : MethodId} {args : Array Value} {below : List Frame} {meth : Method} {c : Code} {dC : Nat → ClassId} {dI : Nat → Nat → Nat} {ct : Nat → ClassId} {A : Nat → Prop} {aX : Nat → Nat} {a0 : Nat → Nat} {a1 : Nat → Nat} {a2 : Nat → Nat} {a3 : Nat → Nat} {Post : Int32 → V → VL → V → V → V → V → Prop}   (X : CxW p s m args meth c cX0_struck 6 (some .int) RX0 dC dI ct A) (hD : ∀ (x : V) (y : VL) (v0 : V) (v1 : V) (v2 : V) (v3 : V), va_D A (XW aX a0 a1 a2 a3 ct x y v0 v1 v2 v3))  : ∀ (n : Nat) (i3 : Int32) (i4 : Int32) (x : V) (y : VL) (v0 : V) (v1 : V) (v2 : V) (v3 : V), wp_X0_struck_L84  Post  n i3 i4 x y v0 v1 v2 v3 → ∀ (H : Heap) (locs : List Loc) (ls : Array Slot), va_P (dC, dI) vwCl (XW aX a0 a1 a2 a3 ct x y v0 v1 v2 v3) H → va_S A s.heap H locs → lv_has ls 6 [(0, .ref (aX 0)), (3, .int i3), (4, .int i4)] → W p l e rm_X0_struck s m args below meth c H locs 0 0 (MQ below (va_Qi (fun (r : Int32) (u : V × VL × V × V × V × V) => Post r u.1 u.2.1 u.2.2.1 u.2.2.2.1 u.2.2.2.2.1 u.2.2.2.2.2) (fun (u : V × VL × V × V × V × V) t => WPos dC dI ct (XW aX a0 a1 a2 a3 ct u.1 u.2.1 u.2.2.1 u.2.2.2.1 u.2.2.2.2.1 u.2.2.2.2.2) A t) A) args s 0 0 A) (F0 m 84 ls []) := by
  intro n
  induction n with
  | zero => intro i3 i4 x y v0 v1 v2 v3 w; exact False.elim w
  | succ n ih => intro i3 i4 x y v0 v1 v2 v3 w H locs ls hP hS hl; exact wk_X0_struck_S84 X hD  ih i3 i4 x y v0 v1 v2 v3 w H locs ls hP hS hl
set_option maxHeartbeats 4000000 in
set_option maxRecDepth 100000 in
theorem wk_X0_struck_S23 {p : Program} {l : Launch} {e : Env} {s : State} {m : MethodId} {args : Array Value} {below : List Frame} {meth : Method} {c : Code} {dC : Nat → ClassId} {dI : Nat → Nat → Nat} {ct : Nat → ClassId} {A : Nat → Prop} {aX : Nat → Nat} {a0 : Nat → Nat} {a1 : Nat → Nat} {a2 : Nat → Nat} {a3 : Nat → Nat} {Post : Int32 → V → VL → V → V → V → V → Prop} {K23 : Int32 → Int32 → Int32 → Int32 → V → VL → V → V → V → V → Prop}  (X : CxW p s m args meth c cX0_struck 6 (some .int) RX0 dC dI ct A) (hD : ∀ (x : V) (y : VL) (v0 : V) (v1 : V) (v2 : V) (v3 : V), va_D A (XW aX a0 a1 a2 a3 ct x y v0 v1 v2 v3)) (hK23 : ∀ (i1 : Int32) (i2 : Int32) (i3 : Int32) (i4 : Int32) (x : V) (y : VL) (v0 : V) (v1 : V) (v2 : V) (v3 : V), K23 i1 i2 i3 i4 x y v0 v1 v2 v3 → ∀ (H : Heap) (locs : List Loc) (ls : Array Slot), va_P (dC, dI) vwCl (XW aX a0 a1 a2 a3 ct x y v0 v1 v2 v3) H → va_S A s.heap H locs → lv_has ls 6 [(0, .ref (aX 0)), (1, .int i1), (2, .int i2), (3, .int i3), (4, .int i4)] → W p l e rm_X0_struck s m args below meth c H locs 0 0 (MQ below (va_Qi (fun (r : Int32) (u : V × VL × V × V × V × V) => Post r u.1 u.2.1 u.2.2.1 u.2.2.2.1 u.2.2.2.2.1 u.2.2.2.2.2) (fun (u : V × VL × V × V × V × V) t => WPos dC dI ct (XW aX a0 a1 a2 a3 ct u.1 u.2.1 u.2.2.1 u.2.2.2.1 u.2.2.2.2.1 u.2.2.2.2.2) A t) A) args s 0 0 A) (F0 m 23 ls [])) (i1 : Int32) (i2 : Int32) (i3 : Int32) (i4 : Int32) (x : V) (y : VL) (v0 : V) (v1 : V) (v2 : V) (v3 : V) (w : wp_X0_struck_S23  Post K23 i1 i2 i3 i4 x y v0 v1 v2 v3) : ∀ (H : Heap) (locs : List Loc) (ls : Array Slot), va_P (dC, dI) vwCl (XW aX a0 a1 a2 a3 ct x y v0 v1 v2 v3) H → va_S A s.heap H locs → lv_has ls 6 [(0, .ref (aX 0)), (1, .int i1), (2, .int i2), (3, .int i3), (4, .int i4)] → W p l e rm_X0_struck s m args below meth c H locs 0 0 (MQ below (va_Qi (fun (r : Int32) (u : V × VL × V × V × V × V) => Post r u.1 u.2.1 u.2.2.1 u.2.2.2.1 u.2.2.2.2.1 u.2.2.2.2.2) (fun (u : V × VL × V × V × V × V) t => WPos dC dI ct (XW aX a0 a1 a2 a3 ct u.1 u.2.1 u.2.2.1 u.2.2.2.1 u.2.2.2.2.1 u.2.2.2.2.2) A t) A) args s 0 0 A) (F0 m 23 ls []) := by
  intro H locs ls hP hS hl
  have X0 := X
  obtain ⟨⟨hx, hb, hml, hr, hlk, hown, hts⟩, hA, hK, hN⟩ := X0
  unfold wp_X0_struck_S23 at w
  refine lv_iload hx hb dX0_struck_23 (lv_at hl 4 rfl) ?_
  refine lv_bipush (v := 6) hx hb dX0_struck_25 (by decide) ?_
  refine lv_icmp_ge (tgt := 74) hx hb dX0_struck_27 (by decide) (fun c => ?_) (fun c => ?_)
  · have w := And.left w c
    refine lv_iload_n hx hb dX0_struck_74 rfl (lv_at hl 1 rfl) ?_
    refine lv_iconst (v := 1) hx hb dX0_struck_75 (by decide) ?_
    refine lv_icmp_ne (tgt := 81) hx hb dX0_struck_76 (by decide) (fun c => ?_) (fun c => ?_)
    · have w := And.right w c
      refine lv_iconst (v := 1) hx hb dX0_struck_81 (by decide) ?_
      refine lv_istore (lv' := [(4, .int (1 : Int32)), (0, .ref (aX 0)), (1, .int i1), (2, .int i2), (3, .int i3)]) hx hb dX0_struck_82 hl (by decide) rfl (fun ls hl => ?_)
      obtain ⟨n, w⟩ := w
      exact wk_X0_struck_L84 X hD  n _ _ _ _ _ _ _ _ w _ _ _ hP hS (lv_sub hl [1, 4, 0] rfl)
    · have w := And.left w c
      refine lv_iload_n hx hb dX0_struck_79 rfl (lv_at hl 2 rfl) ?_
      exact W.iret (v := i2) hx hb hr (fun t ht hW => ⟨⟨i2, (x, y, v0, v1, v2, v3), rfl, w, by rw [ht]; exact hP, va_K.moved hW.alike hK, (hD _ _ _ _ _ _)⟩, hS.F ht⟩) hS.2.2 dX0_struck_80 hlk
  · have w := And.right w c
    refine lv_iload_n hx hb dX0_struck_30 rfl (lv_at hl 2 rfl) ?_
    refine lv_iconst (v := 0) hx hb dX0_struck_31 (by decide) ?_
    refine lv_aload_n hx hb dX0_struck_32 rfl (lv_at hl 0 rfl) ?_
    refine va_get (D := (dC, dI)) (ci := 0) (v := .ref (aX 4)) (C := RX0) (T := TX0) (N := 14) hx hb hts in_X0 hown hK hP 0 rfl rfl 9 (by decide) (hts _ q137) (fun _ h9 => h9) rfl dX0_struck_33 ?_
    refine lv_iload hx hb dX0_struck_36 (lv_at hl 4 rfl) ?_
    obtain ⟨gi, w⟩ := w
    refine va_iald hx hb hK hP 4 0 rfl rfl gi dX0_struck_38 ?_
    refine va_mmax hx hb (hml.trans hl.1.symm) hown (hts _ q338) (hts _ q339) (hts _ q53) (hts _ q340) (Nat.le_of_ble_eq_true rfl) (Nat.le_of_ble_eq_true rfl) (Nat.zero_le _) (Nat.zero_le _) dX0_struck_39 ?_
    refine lv_iadd hx hb dX0_struck_42 ?_
    refine lv_topi (fun n1 en1 => ?_)
    have w := w n1 en1
    refine lv_istore_n (lv' := [(2, .int n1), (0, .ref (aX 0)), (1, .int i1), (3, .int i3), (4, .int i4)]) hx hb dX0_struck_43 rfl hl (by decide) rfl (fun ls hl => ?_)
    refine lv_iload_n hx hb dX0_struck_44 rfl (lv_at hl 3 rfl) ?_
    refine lv_aload_n hx hb dX0_struck_45 rfl (lv_at hl 1 rfl) ?_
    refine va_get (D := (dC, dI)) (ci := 0) (v := .ref (aX 4)) (C := RX0) (T := TX0) (N := 14) hx hb hts in_X0 hown hK hP 0 rfl rfl 9 (by decide) (hts _ q137) (fun _ h9 => h9) rfl dX0_struck_46 ?_
    refine lv_iload hx hb dX0_struck_49 (lv_at hl 4 rfl) ?_
    obtain ⟨gi, w⟩ := w
    refine va_iald hx hb hK hP 4 0 rfl rfl gi dX0_struck_51 ?_
    refine lv_if_eq (tgt := 59) hx hb dX0_struck_52 (by decide) (fun c => ?_) (fun c => ?_)
    · have w := And.left w c
      refine lv_iconst (v := 0) hx hb dX0_struck_59 (by decide) ?_
      exact wk_X0_struck_L60 X hD hK23 _ _ _ _ _ _ _ _ _ _ _ w _ _ _ hP hS (lv_sub hl [1, 2, 0, 4] rfl)
    · have w := And.right w c
      refine lv_iconst (v := 1) hx hb dX0_struck_55 (by decide) ?_
      refine lv_goto (tgt := 60) hx hb dX0_struck_56 (by decide) ?_
      exact wk_X0_struck_L60 X hD hK23 _ _ _ _ _ _ _ _ _ _ _ w _ _ _ hP hS (lv_sub hl [1, 2, 0, 4] rfl)
set_option maxHeartbeats 4000000 in
set_option maxRecDepth 100000 in
theorem wk_X0_struck_L23 {p : Program} {l : Launch} {e : Env} {s : State} {m : MethodId} {args : Array Value} {below : List Frame} {meth : Method} {c : Code} {dC : Nat → ClassId} {dI : Nat → Nat → Nat} {ct : Nat → ClassId} {A : Nat → Prop} {aX : Nat → Nat} {a0 : Nat → Nat} {a1 : Nat → Nat} {a2 : Nat → Nat} {a3 : Nat → Nat} {Post : Int32 → V → VL → V → V → V → V → Prop}   (X : CxW p s m args meth c cX0_struck 6 (some .int) RX0 dC dI ct A) (hD : ∀ (x : V) (y : VL) (v0 : V) (v1 : V) (v2 : V) (v3 : V), va_D A (XW aX a0 a1 a2 a3 ct x y v0 v1 v2 v3))  : ∀ (n : Nat) (i1 : Int32) (i2 : Int32) (i3 : Int32) (i4 : Int32) (x : V) (y : VL) (v0 : V) (v1 : V) (v2 : V) (v3 : V), wp_X0_struck_L23  Post  n i1 i2 i3 i4 x y v0 v1 v2 v3 → ∀ (H : Heap) (locs : List Loc) (ls : Array Slot), va_P (dC, dI) vwCl (XW aX a0 a1 a2 a3 ct x y v0 v1 v2 v3) H → va_S A s.heap H locs → lv_has ls 6 [(0, .ref (aX 0)), (1, .int i1), (2, .int i2), (3, .int i3), (4, .int i4)] → W p l e rm_X0_struck s m args below meth c H locs 0 0 (MQ below (va_Qi (fun (r : Int32) (u : V × VL × V × V × V × V) => Post r u.1 u.2.1 u.2.2.1 u.2.2.2.1 u.2.2.2.2.1 u.2.2.2.2.2) (fun (u : V × VL × V × V × V × V) t => WPos dC dI ct (XW aX a0 a1 a2 a3 ct u.1 u.2.1 u.2.2.1 u.2.2.2.1 u.2.2.2.2.1 u.2.2.2.2.2) A t) A) args s 0 0 A) (F0 m 23 ls []) := by
  intro n
  induction n with
  | zero => intro i1 i2 i3 i4 x y v0 v1 v2 v3 w; exact False.elim w
  | succ n ih => intro i1 i2 i3 i4 x y v0 v1 v2 v3 w H locs ls hP hS hl; exact wk_X0_struck_S23 X hD  ih i1 i2 i3 i4 x y v0 v1 v2 v3 w H locs ls hP hS hl
set_option maxHeartbeats 4000000 in
set_option maxRecDepth 100000 in
theorem met_X0_struck (l : Launch) (dC : Nat → ClassId) (dI : Nat → Nat → Nat) (ct : Nat → ClassId) (aX : Nat → Nat) (a0 : Nat → Nat) (a1 : Nat → Nat) (a2 : Nat → Nat) (a3 : Nat → Nat) (sz : Nat) {i1 : Int32} {x : V} {y : VL} {v0 : V} {v1 : V} {v2 : V} {v3 : V} {Post : Int32 → V → VL → V → V → V → V → Prop} (w : wp_X0_struck i1 x y v0 v1 v2 v3 Post) : Met l yX0_struck (ws_ yX0_struck cX0_struck 6 (some .int)) rm_X0_struck (va_Pc [.ref (aX 0), .int i1] (fun U => WPre dC dI ct (XW aX a0 a1 a2 a3 ct x y v0 v1 v2 v3) sz U)) ((fun A => (va_Qi (fun (r : Int32) (u : V × VL × V × V × V × V) => Post r u.1 u.2.1 u.2.2.1 u.2.2.2.1 u.2.2.2.2.1 u.2.2.2.2.2) (fun (u : V × VL × V × V × V × V) t => WPos dC dI ct (XW aX a0 a1 a2 a3 ct u.1 u.2.1 u.2.2.1 u.2.2.2.1 u.2.2.2.2.1 u.2.2.2.2.2) A t) A)) (va_A (XW aX a0 a1 a2 a3 ct x y v0 v1 v2 v3) sz)) 0 0 (va_A (XW aX a0 a1 a2 a3 ct x y v0 v1 v2 v3) sz) := by
  refine open_W (fun A => (va_Qi (fun (r : Int32) (u : V × VL × V × V × V × V) => Post r u.1 u.2.1 u.2.2.1 u.2.2.2.1 u.2.2.2.2.1 u.2.2.2.2.2) (fun (u : V × VL × V × V × V × V) t => WPos dC dI ct (XW aX a0 a1 a2 a3 ct u.1 u.2.1 u.2.2.1 u.2.2.2.1 u.2.2.2.2.1 u.2.2.2.2.2) A t) A)) (by decide) (Nat.le_of_ble_eq_true rfl) ?_
  intro p e s m args below meth c ls A X hD0 hP hS hl
  have X0 := X
  obtain ⟨⟨hx, hb, hml, hr, hlk, hown, hts⟩, hA, hK, hN⟩ := X0
  have hD : ∀ (x' : V) (y' : VL) (v0' : V) (v1' : V) (v2' : V) (v3' : V), va_D A (XW aX a0 a1 a2 a3 ct x' y' v0' v1' v2' v3') := fun x' y' v0' v1' v2' v3' => va_D_addr hD0 rfl
  have hl : lv_has ls 6 [(0, .ref (aX 0)), (1, .int i1)] := hl
  unfold wp_X0_struck at w
  have hS0 := hS
  refine lv_iload_n hx hb dX0_struck_0 rfl (lv_at hl 1 rfl) ?_
  refine lv_iconst (v := 0) hx hb dX0_struck_1 (by decide) ?_
  refine lv_iconst (v := 1) hx hb dX0_struck_2 (by decide) ?_
  refine vp_callSi (W.runS (As := [.int i1, .int (0 : Int32), .int (1 : Int32)]) (rest := []) ⟨hx, hb, hml, hown, hts⟩ (met_X0_isIn l w) (va_cwS 3 hts (lw_S q180 q181 q48 q182) rfl rfl rfl hd_X0_isIn ⟨Nat.le_of_ble_eq_true rfl, Nat.le_of_ble_eq_true rfl⟩) pre_S rfl rfl hl.1 rfl (lv_room (Nat.le_of_ble_eq_true rfl)) dX0_struck_3 ⟨Nat.le_refl _, Nat.le_refl _⟩) (fun r1 w => ?_)
  refine lv_if_ne (tgt := 12) hx hb dX0_struck_6 (by decide) (fun c => ?_) (fun c => ?_)
  · have w := And.right w c
    refine lv_aload_n hx hb dX0_struck_12 rfl (lv_at hl 0 rfl) ?_
    refine va_callv (va_runV (As := []) (rest := []) ⟨hx, hb, hml, hown, hts⟩ (met_X0_layNet l dC dI ct aX a0 a1 a2 a3 _ w) (cwV 0 hts (lw_V q333 q335 qs5 q48 q336) rfl rfl rfl hd_X0_layNet ⟨Nat.le_of_ble_eq_true rfl, Nat.le_of_ble_eq_true rfl⟩) (pre_V hK hP (hD _ _ _ _ _ _) hN (va_recv hK hP (ci := 0) (q0 := 0) rfl rfl)) rfl rfl hl.1 rfl (lv_room (Nat.le_of_ble_eq_true rfl)) dX0_struck_13 ⟨Nat.le_refl _, Nat.le_refl _⟩) hS (fun q _ h => x_free (hD _ _ _ _ _ _) hS hA q h) (x_free (hD _ _ _ _ _ _) hS hA) (fun  u t H locs ht hvm w hB hz hk hS => ?_)
    obtain ⟨x_2, y_2, v0_2, v1_2, v2_2, v3_2⟩ := u
    dsimp only at w
    have hP : va_P (dC, dI) vwCl (XW aX a0 a1 a2 a3 ct x_2 y_2 v0_2 v1_2 v2_2 v3_2) H := post_P hB ht
    refine lv_iconst (v := 0) hx hb dX0_struck_16 (by decide) ?_
    refine lv_istore_n (lv' := [(2, .int (0 : Int32)), (0, .ref (aX 0)), (1, .int i1)]) hx hb dX0_struck_17 rfl hl (by decide) rfl (fun ls hl => ?_)
    refine lv_iconst (v := 0) hx hb dX0_struck_18 (by decide) ?_
    refine lv_istore_n (lv' := [(3, .int (0 : Int32)), (2, .int (0 : Int32)), (0, .ref (aX 0)), (1, .int i1)]) hx hb dX0_struck_19 rfl hl (by decide) rfl (fun ls hl => ?_)
    refine lv_iconst (v := 0) hx hb dX0_struck_20 (by decide) ?_
    refine lv_istore (lv' := [(4, .int (0 : Int32)), (3, .int (0 : Int32)), (2, .int (0 : Int32)), (0, .ref (aX 0)), (1, .int i1)]) hx hb dX0_struck_21 hl (by decide) rfl (fun ls hl => ?_)
    obtain ⟨n, w⟩ := w
    exact wk_X0_struck_L23 X hD  n _ _ _ _ _ _ _ _ _ _ w _ _ _ hP hS (lv_sub hl [3, 4, 2, 1, 0] rfl)
  · have w := And.left w c
    refine lv_bipush (v := -2) hx hb dX0_struck_9 (by decide) ?_
    exact W.iret (v := (-2 : Int32)) hx hb hr (fun t ht hW => ⟨⟨(-2 : Int32), (x, y, v0, v1, v2, v3), rfl, w, by rw [ht]; exact hP, va_K.moved hW.alike hK, (hD _ _ _ _ _ _)⟩, hS.F ht⟩) hS.2.2 dX0_struck_11 hlk
abbrev rm_X0_prints : Room := { frames := 2, cells := 0, slots := 0, locals := 52 }
theorem hd_X0_prints : yX0_prints.cls = RX0 ∧ yX0_prints.cls ≠ "java/lang/invoke/MethodHandle" ∧ yX0_prints.cls ≠ "java/lang/invoke/VarHandle" ∧ (parseMethodDescriptor yX0_prints.desc).map (fun d => d.parameters.length) = some 1 := by decide +kernel
set_option maxHeartbeats 4000000 in
set_option maxRecDepth 100000 in
theorem wk_X0_prints_L71 {p : Program} {l : Launch} {e : Env} {s : State} {m : MethodId} {args : Array Value} {below : List Frame} {meth : Method} {c : Code} {dC : Nat → ClassId} {dI : Nat → Nat → Nat} {ct : Nat → ClassId} {A : Nat → Prop} {aX : Nat → Nat} {a0 : Nat → Nat} {a1 : Nat → Nat} {a2 : Nat → Nat} {a3 : Nat → Nat} {Post : Int32 → V → VL → V → V → V → V → Prop}   (X : CxW p s m args meth c cX0_prints 7 (some .int) RX0 dC dI ct A) (hD : ∀ (x : V) (y : VL) (v0 : V) (v1 : V) (v2 : V) (v3 : V), va_D A (XW aX a0 a1 a2 a3 ct x y v0 v1 v2 v3))  (i5 : Int32) (x : V) (y : VL) (v0 : V) (v1 : V) (v2 : V) (v3 : V) (w : wp_X0_prints_L71  Post  i5 x y v0 v1 v2 v3) : ∀ (H : Heap) (locs : List Loc) (ls : Array Slot), va_P (dC, dI) vwCl (XW aX a0 a1 a2 a3 ct x y v0 v1 v2 v3) H → va_S A s.heap H locs → lv_has ls 7 [(5, .int i5)] → W p l e rm_X0_prints s m args below meth c H locs 0 0 (MQ below (va_Qi (fun (r : Int32) (u : V × VL × V × V × V × V) => Post r u.1 u.2.1 u.2.2.1 u.2.2.2.1 u.2.2.2.2.1 u.2.2.2.2.2) (fun (u : V × VL × V × V × V × V) t => WPos dC dI ct (XW aX a0 a1 a2 a3 ct u.1 u.2.1 u.2.2.1 u.2.2.2.1 u.2.2.2.2.1 u.2.2.2.2.2) A t) A) args s 0 0 A) (F0 m 71 ls []) := by
  intro H locs ls hP hS hl
  have X0 := X
  obtain ⟨⟨hx, hb, hml, hr, hlk, hown, hts⟩, hA, hK, hN⟩ := X0
  unfold wp_X0_prints_L71 at w
  refine lv_iload hx hb dX0_prints_71 (lv_at hl 0 rfl) ?_
  exact W.iret (v := i5) hx hb hr (fun t ht hW => ⟨⟨i5, (x, y, v0, v1, v2, v3), rfl, w, by rw [ht]; exact hP, va_K.moved hW.alike hK, (hD _ _ _ _ _ _)⟩, hS.F ht⟩) hS.2.2 dX0_prints_73 hlk
set_option maxHeartbeats 4000000 in
set_option maxRecDepth 100000 in
theorem wk_X0_prints_S37 {p : Program} {l : Launch} {e : Env} {s : State} {m : MethodId} {args : Array Value} {below : List Frame} {meth : Method} {c : Code} {dC : Nat → ClassId} {dI : Nat → Nat → Nat} {ct : Nat → ClassId} {A : Nat → Prop} {aX : Nat → Nat} {a0 : Nat → Nat} {a1 : Nat → Nat} {a2 : Nat → Nat} {a3 : Nat → Nat} {Post : Int32 → V → VL → V → V → V → V → Prop} {K37 : Int32 → Int32 → Int64 → Int32 → Int32 → V → VL → V → V → V → V → Prop}  (X : CxW p s m args meth c cX0_prints 7 (some .int) RX0 dC dI ct A) (hD : ∀ (x : V) (y : VL) (v0 : V) (v1 : V) (v2 : V) (v3 : V), va_D A (XW aX a0 a1 a2 a3 ct x y v0 v1 v2 v3)) (hK37 : ∀ (i1 : Int32) (i2 : Int32) (l3 : Int64) (i5 : Int32) (i6 : Int32) (x : V) (y : VL) (v0 : V) (v1 : V) (v2 : V) (v3 : V), K37 i1 i2 l3 i5 i6 x y v0 v1 v2 v3 → ∀ (H : Heap) (locs : List Loc) (ls : Array Slot), va_P (dC, dI) vwCl (XW aX a0 a1 a2 a3 ct x y v0 v1 v2 v3) H → va_S A s.heap H locs → lv_has ls 7 [(1, .int i1), (2, .int i2), (3, .long l3), (5, .int i5), (6, .int i6)] → W p l e rm_X0_prints s m args below meth c H locs 0 0 (MQ below (va_Qi (fun (r : Int32) (u : V × VL × V × V × V × V) => Post r u.1 u.2.1 u.2.2.1 u.2.2.2.1 u.2.2.2.2.1 u.2.2.2.2.2) (fun (u : V × VL × V × V × V × V) t => WPos dC dI ct (XW aX a0 a1 a2 a3 ct u.1 u.2.1 u.2.2.1 u.2.2.2.1 u.2.2.2.2.1 u.2.2.2.2.2) A t) A) args s 0 0 A) (F0 m 37 ls [])) (i1 : Int32) (i2 : Int32) (l3 : Int64) (i5 : Int32) (i6 : Int32) (x : V) (y : VL) (v0 : V) (v1 : V) (v2 : V) (v3 : V) (w : wp_X0_prints_S37  Post K37 i1 i2 l3 i5 i6 x y v0 v1 v2 v3) : ∀ (H : Heap) (locs : List Loc) (ls : Array Slot), va_P (dC, dI) vwCl (XW aX a0 a1 a2 a3 ct x y v0 v1 v2 v3) H → va_S A s.heap H locs → lv_has ls 7 [(1, .int i1), (2, .int i2), (3, .long l3), (5, .int i5), (6, .int i6)] → W p l e rm_X0_prints s m args below meth c H locs 0 0 (MQ below (va_Qi (fun (r : Int32) (u : V × VL × V × V × V × V) => Post r u.1 u.2.1 u.2.2.1 u.2.2.2.1 u.2.2.2.2.1 u.2.2.2.2.2) (fun (u : V × VL × V × V × V × V) t => WPos dC dI ct (XW aX a0 a1 a2 a3 ct u.1 u.2.1 u.2.2.1 u.2.2.2.1 u.2.2.2.2.1 u.2.2.2.2.2) A t) A) args s 0 0 A) (F0 m 37 ls []) := by
  intro H locs ls hP hS hl
  have X0 := X
  obtain ⟨⟨hx, hb, hml, hr, hlk, hown, hts⟩, hA, hK, hN⟩ := X0
  unfold wp_X0_prints_S37 at w
  refine lv_iload hx hb dX0_prints_37 (lv_at hl 4 rfl) ?_
  refine lv_sipush (v := 999) hx hb dX0_prints_39 (by decide) ?_
  refine lv_icmp_gt (tgt := 71) hx hb dX0_prints_42 (by decide) (fun c => ?_) (fun c => ?_)
  · have w := And.left w c
    exact wk_X0_prints_L71 X hD  _ _ _ _ _ _ _ w _ _ _ hP hS (lv_sub hl [3] rfl)
  · have w := And.right w c
    refine lv_iload_n hx hb dX0_prints_45 rfl (lv_at hl 1 rfl) ?_
    refine lv_lload_n hx hb dX0_prints_46 rfl (lv_at hl 2 rfl) ?_
    refine lv_bipush (v := 100) hx hb dX0_prints_47 (by decide) ?_
    refine lv_iload hx hb dX0_prints_49 (lv_at hl 4 rfl) ?_
    refine lv_imul hx hb dX0_prints_51 ?_
    refine lv_i2l hx hb dX0_prints_52 rfl ?_
    refine lv_ladd hx hb dX0_prints_53 ?_
    refine vp_callSi (W.runS (As := [.int i2, .long (l3 + ((100 : Int32) * i6).toInt64)]) (rest := []) ⟨hx, hb, hml, hown, hts⟩ (met_X0_rateOf l w) (va_cwS 2 hts (lw_S q359 q266 q48 q267) rfl rfl rfl hd_X0_rateOf ⟨Nat.le_of_ble_eq_true rfl, Nat.le_of_ble_eq_true rfl⟩) pre_S rfl rfl hl.1 rfl (lv_room (Nat.le_of_ble_eq_true rfl)) dX0_prints_54 ⟨Nat.le_refl _, Nat.le_refl _⟩) (fun r1 w => ?_)
    refine lv_iload_n hx hb dX0_prints_57 rfl (lv_at hl 0 rfl) ?_
    refine lv_icmp_lt (tgt := 71) hx hb dX0_prints_58 (by decide) (fun c => ?_) (fun c => ?_)
    · have w := And.left w c
      exact wk_X0_prints_L71 X hD  _ _ _ _ _ _ _ w _ _ _ hP hS (lv_sub hl [3] rfl)
    · have w := And.right w c
      refine lv_iload hx hb dX0_prints_61 (lv_at hl 4 rfl) ?_
      refine lv_istore (lv' := [(5, .int i6), (1, .int i1), (2, .int i2), (3, .long l3), (6, .int i6)]) hx hb dX0_prints_63 hl (by decide) rfl (fun ls hl => ?_)
      refine lv_iinc (v := (i6 + 1)) (lv' := [(6, .int (i6 + 1)), (5, .int i6), (1, .int i1), (2, .int i2), (3, .long l3)]) hx hb dX0_prints_65 hl (k := 4) rfl rfl (by decide) rfl (fun ls hl => ?_)
      refine lv_goto (tgt := 37) hx hb dX0_prints_68 (by decide) ?_
      exact hK37 _ _ _ _ _ _ _ _ _ _ _ w _ _ _ hP hS (lv_sub hl [2, 3, 4, 1, 0] rfl)
set_option maxHeartbeats 4000000 in
set_option maxRecDepth 100000 in
theorem wk_X0_prints_L37 {p : Program} {l : Launch} {e : Env} {s : State} {m : MethodId} {args : Array Value} {below : List Frame} {meth : Method} {c : Code} {dC : Nat → ClassId} {dI : Nat → Nat → Nat} {ct : Nat → ClassId} {A : Nat → Prop} {aX : Nat → Nat} {a0 : Nat → Nat} {a1 : Nat → Nat} {a2 : Nat → Nat} {a3 : Nat → Nat} {Post : Int32 → V → VL → V → V → V → V → Prop}   (X : CxW p s m args meth c cX0_prints 7 (some .int) RX0 dC dI ct A) (hD : ∀ (x : V) (y : VL) (v0 : V) (v1 : V) (v2 : V) (v3 : V), va_D A (XW aX a0 a1 a2 a3 ct x y v0 v1 v2 v3))  : ∀ (n : Nat) (i1 : Int32) (i2 : Int32) (l3 : Int64) (i5 : Int32) (i6 : Int32) (x : V) (y : VL) (v0 : V) (v1 : V) (v2 : V) (v3 : V), wp_X0_prints_L37  Post  n i1 i2 l3 i5 i6 x y v0 v1 v2 v3 → ∀ (H : Heap) (locs : List Loc) (ls : Array Slot), va_P (dC, dI) vwCl (XW aX a0 a1 a2 a3 ct x y v0 v1 v2 v3) H → va_S A s.heap H locs → lv_has ls 7 [(1, .int i1), (2, .int i2), (3, .long l3), (5, .int i5), (6, .int i6)] → W p l e rm_X0_prints s m args below meth c H locs 0 0 (MQ below (va_Qi (fun (r : Int32) (u : V × VL × V × V × V × V) => Post r u.1 u.2.1 u.2.2.1 u.2.2.2.1 u.2.2.2.2.1 u.2.2.2.2.2) (fun (u : V × VL × V × V × V × V) t => WPos dC dI ct (XW aX a0 a1 a2 a3 ct u.1 u.2.1 u.2.2.1 u.2.2.2.1 u.2.2.2.2.1 u.2.2.2.2.2) A t) A) args s 0 0 A) (F0 m 37 ls []) := by
  intro n
  induction n with
  | zero => intro i1 i2 l3 i5 i6 x y v0 v1 v2 v3 w; exact False.elim w
  | succ n ih => intro i1 i2 l3 i5 i6 x y v0 v1 v2 v3 w H locs ls hP hS hl; exact wk_X0_prints_S37 X hD  ih i1 i2 l3 i5 i6 x y v0 v1 v2 v3 w H locs ls hP hS hl
set_option maxHeartbeats 4000000 in
set_option maxRecDepth 100000 in
theorem met_X0_prints (l : Launch) (dC : Nat → ClassId) (dI : Nat → Nat → Nat) (ct : Nat → ClassId) (aX : Nat → Nat) (a0 : Nat → Nat) (a1 : Nat → Nat) (a2 : Nat → Nat) (a3 : Nat → Nat) (sz : Nat) {i1 : Int32} {x : V} {y : VL} {v0 : V} {v1 : V} {v2 : V} {v3 : V} {Post : Int32 → V → VL → V → V → V → V → Prop} (w : wp_X0_prints i1 x y v0 v1 v2 v3 Post) : Met l yX0_prints (ws_ yX0_prints cX0_prints 7 (some .int)) rm_X0_prints (va_Pc [.ref (aX 0), .int i1] (fun U => WPre dC dI ct (XW aX a0 a1 a2 a3 ct x y v0 v1 v2 v3) sz U)) ((fun A => (va_Qi (fun (r : Int32) (u : V × VL × V × V × V × V) => Post r u.1 u.2.1 u.2.2.1 u.2.2.2.1 u.2.2.2.2.1 u.2.2.2.2.2) (fun (u : V × VL × V × V × V × V) t => WPos dC dI ct (XW aX a0 a1 a2 a3 ct u.1 u.2.1 u.2.2.1 u.2.2.2.1 u.2.2.2.2.1 u.2.2.2.2.2) A t) A)) (va_A (XW aX a0 a1 a2 a3 ct x y v0 v1 v2 v3) sz)) 0 0 (va_A (XW aX a0 a1 a2 a3 ct x y v0 v1 v2 v3) sz) := by
  refine open_W (fun A => (va_Qi (fun (r : Int32) (u : V × VL × V × V × V × V) => Post r u.1 u.2.1 u.2.2.1 u.2.2.2.1 u.2.2.2.2.1 u.2.2.2.2.2) (fun (u : V × VL × V × V × V × V) t => WPos dC dI ct (XW aX a0 a1 a2 a3 ct u.1 u.2.1 u.2.2.1 u.2.2.2.1 u.2.2.2.2.1 u.2.2.2.2.2) A t) A)) (by decide) (Nat.le_of_ble_eq_true rfl) ?_
  intro p e s m args below meth c ls A X hD0 hP hS hl
  have X0 := X
  obtain ⟨⟨hx, hb, hml, hr, hlk, hown, hts⟩, hA, hK, hN⟩ := X0
  have hD : ∀ (x' : V) (y' : VL) (v0' : V) (v1' : V) (v2' : V) (v3' : V), va_D A (XW aX a0 a1 a2 a3 ct x' y' v0' v1' v2' v3') := fun x' y' v0' v1' v2' v3' => va_D_addr hD0 rfl
  have hl : lv_has ls 7 [(0, .ref (aX 0)), (1, .int i1)] := hl
  unfold wp_X0_prints at w
  have hS0 := hS
  refine lv_iload_n hx hb dX0_prints_0 rfl (lv_at hl 1 rfl) ?_
  refine lv_iconst (v := 1) hx hb dX0_prints_1 (by decide) ?_
  refine lv_bipush (v := 100) hx hb dX0_prints_2 (by decide) ?_
  refine vp_callSi (W.runS (As := [.int i1, .int (1 : Int32), .int (100 : Int32)]) (rest := []) ⟨hx, hb, hml, hown, hts⟩ (met_X0_isIn l w) (va_cwS 3 hts (lw_S q180 q181 q48 q182) rfl rfl rfl hd_X0_isIn ⟨Nat.le_of_ble_eq_true rfl, Nat.le_of_ble_eq_true rfl⟩) pre_S rfl rfl hl.1 rfl (lv_room (Nat.le_of_ble_eq_true rfl)) dX0_prints_4 ⟨Nat.le_refl _, Nat.le_refl _⟩) (fun r1 w => ?_)
  refine lv_if_ne (tgt := 13) hx hb dX0_prints_7 (by decide) (fun c => ?_) (fun c => ?_)
  · have w := And.right w c
    refine lv_aload_n hx hb dX0_prints_13 rfl (lv_at hl 0 rfl) ?_
    refine va_get (D := (dC, dI)) (ci := 0) (v := .ref (a0 0)) (C := RX0) (T := TX0) (N := 14) hx hb hts in_X0 hown hK hP 0 rfl rfl 0 (by decide) (hts _ q128) (fun _ h9 => h9) rfl dX0_prints_14 ?_
    have hPc := XW_g0 hP
    have hDc := XW_d0 (hD x y v0 v1 v2 v3)
    refine va_calli (va_runV (As := []) (rest := []) ⟨hx, hb, hml, hown, hts⟩ (met_X1_land l dC dI ct a0 _ w) (cwV 0 hts (lw_V q320 q258 q259 q49 q260) rfl rfl rfl hd_X1_land ⟨Nat.le_of_ble_eq_true rfl, Nat.le_of_ble_eq_true rfl⟩) (pre_V hK hPc hDc hN (va_recv hK hPc (ci := 1) (q0 := 0) rfl rfl)) rfl rfl hl.1 rfl (lv_room (Nat.le_of_ble_eq_true rfl)) dX0_prints_17 ⟨Nat.le_refl _, Nat.le_refl _⟩) hS (fun q _ h => x_free hDc hS hA q h) (x_free hDc hS hA) (fun r2 v0_2 t H locs ht hvm w hB hz hk hS => ?_)
    have hP := XW_j0 hP (hD _ _ _ _ _ _) hk (post_P hB ht)
    have hP : va_P (dC, dI) vwCl (XW aX a0 a1 a2 a3 ct x y v0_2 v1 v2 v3) H := hP
    refine lv_istore_n (lv' := [(2, .int r2), (0, .ref (aX 0)), (1, .int i1)]) hx hb dX0_prints_20 rfl hl (by decide) rfl (fun ls hl => ?_)
    refine lv_aload_n hx hb dX0_prints_21 rfl (lv_at hl 1 rfl) ?_
    refine va_get (D := (dC, dI)) (ci := 0) (v := .ref (a0 0)) (C := RX0) (T := TX0) (N := 14) hx hb hts in_X0 hown hK hP 0 rfl rfl 0 (by decide) (hts _ q128) (fun _ h9 => h9) rfl dX0_prints_22 ?_
    have hPc := XW_g0 hP
    have hDc := XW_d0 (hD x y v0_2 v1 v2 v3)
    refine va_calli (va_runV (As := []) (rest := []) ⟨hx, hb, hml, hown, hts⟩ (met_X1_notes l dC dI ct a0 _ w) (cwV 0 hts (lw_V q319 q262 q263 q49 q264) rfl rfl rfl hd_X1_notes ⟨Nat.le_of_ble_eq_true rfl, Nat.le_of_ble_eq_true rfl⟩) (pre_V hK hPc hDc hN (va_recv hK hPc (ci := 1) (q0 := 0) rfl rfl)) rfl rfl hl.1 rfl (lv_room (Nat.le_of_ble_eq_true rfl)) dX0_prints_25 ⟨Nat.le_refl _, Nat.le_refl _⟩) hS (fun q _ h => x_free hDc hS hA q h) (x_free hDc hS hA) (fun r3 v0_3 t H locs ht hvm w hB hz hk hS => ?_)
    have hP := XW_j0 hP (hD _ _ _ _ _ _) hk (post_P hB ht)
    have hP : va_P (dC, dI) vwCl (XW aX a0 a1 a2 a3 ct x y v0_3 v1 v2 v3) H := hP
    refine lv_i2l hx hb dX0_prints_28 rfl ?_
    refine lv_lstore_n (lv' := [(3, .long r3.toInt64), (2, .int r2), (0, .ref (aX 0)), (1, .int i1)]) hx hb dX0_prints_29 rfl hl (by decide) rfl (fun ls hl => ?_)
    refine lv_bipush (v := -6) hx hb dX0_prints_30 (by decide) ?_
    refine lv_istore (lv' := [(5, .int (-6 : Int32)), (3, .long r3.toInt64), (2, .int r2), (0, .ref (aX 0)), (1, .int i1)]) hx hb dX0_prints_32 hl (by decide) rfl (fun ls hl => ?_)
    refine lv_iconst (v := 0) hx hb dX0_prints_34 (by decide) ?_
    refine lv_istore (lv' := [(6, .int (0 : Int32)), (5, .int (-6 : Int32)), (3, .long r3.toInt64), (2, .int r2), (0, .ref (aX 0)), (1, .int i1)]) hx hb dX0_prints_35 hl (by decide) rfl (fun ls hl => ?_)
    obtain ⟨n, w⟩ := w
    exact wk_X0_prints_L37 X hD  n _ _ _ _ _ _ _ _ _ _ _ w _ _ _ hP hS (lv_sub hl [5, 3, 2, 1, 0] rfl)
  · have w := And.left w c
    refine lv_bipush (v := -2) hx hb dX0_prints_10 (by decide) ?_
    exact W.iret (v := (-2 : Int32)) hx hb hr (fun t ht hW => ⟨⟨(-2 : Int32), (x, y, v0, v1, v2, v3), rfl, w, by rw [ht]; exact hP, va_K.moved hW.alike hK, (hD _ _ _ _ _ _)⟩, hS.F ht⟩) hS.2.2 dX0_prints_12 hlk
abbrev rm_X0_buys : Room := { frames := 1, cells := 0, slots := 0, locals := 22 }
theorem hd_X0_buys : yX0_buys.cls = RX0 ∧ yX0_buys.cls ≠ "java/lang/invoke/MethodHandle" ∧ yX0_buys.cls ≠ "java/lang/invoke/VarHandle" ∧ (parseMethodDescriptor yX0_buys.desc).map (fun d => d.parameters.length) = some 2 := by decide +kernel
set_option maxHeartbeats 4000000 in
set_option maxRecDepth 100000 in
theorem wk_X0_buys_L20 {p : Program} {l : Launch} {e : Env} {s : State} {m : MethodId} {args : Array Value} {below : List Frame} {meth : Method} {c : Code} {dC : Nat → ClassId} {dI : Nat → Nat → Nat} {ct : Nat → ClassId} {A : Nat → Prop} {aX : Nat → Nat} {a0 : Nat → Nat} {a1 : Nat → Nat} {a2 : Nat → Nat} {a3 : Nat → Nat} {Post : Int32 → V → VL → V → V → V → V → Prop}   (X : CxW p s m args meth c cX0_buys 9 (some .int) RX0 dC dI ct A) (hD : ∀ (x : V) (y : VL) (v0 : V) (v1 : V) (v2 : V) (v3 : V), va_D A (XW aX a0 a1 a2 a3 ct x y v0 v1 v2 v3))  (x : V) (y : VL) (v0 : V) (v1 : V) (v2 : V) (v3 : V) (w : wp_X0_buys_L20  Post  x y v0 v1 v2 v3) : ∀ (H : Heap) (locs : List Loc) (ls : Array Slot), va_P (dC, dI) vwCl (XW aX a0 a1 a2 a3 ct x y v0 v1 v2 v3) H → va_S A s.heap H locs → lv_has ls 9 [] → W p l e rm_X0_buys s m args below meth c H locs 0 0 (MQ below (va_Qi (fun (r : Int32) (u : V × VL × V × V × V × V) => Post r u.1 u.2.1 u.2.2.1 u.2.2.2.1 u.2.2.2.2.1 u.2.2.2.2.2) (fun (u : V × VL × V × V × V × V) t => WPos dC dI ct (XW aX a0 a1 a2 a3 ct u.1 u.2.1 u.2.2.1 u.2.2.2.1 u.2.2.2.2.1 u.2.2.2.2.2) A t) A) args s 0 0 A) (F0 m 20 ls []) := by
  intro H locs ls hP hS hl
  have X0 := X
  obtain ⟨⟨hx, hb, hml, hr, hlk, hown, hts⟩, hA, hK, hN⟩ := X0
  unfold wp_X0_buys_L20 at w
  refine lv_bipush (v := -2) hx hb dX0_buys_20 (by decide) ?_
  exact W.iret (v := (-2 : Int32)) hx hb hr (fun t ht hW => ⟨⟨(-2 : Int32), (x, y, v0, v1, v2, v3), rfl, w, by rw [ht]; exact hP, va_K.moved hW.alike hK, (hD _ _ _ _ _ _)⟩, hS.F ht⟩) hS.2.2 dX0_buys_22 hlk
set_option maxHeartbeats 4000000 in
set_option maxRecDepth 100000 in
theorem wk_X0_buys_L114 {p : Program} {l : Launch} {e : Env} {s : State} {m : MethodId} {args : Array Value} {below : List Frame} {meth : Method} {c : Code} {dC : Nat → ClassId} {dI : Nat → Nat → Nat} {ct : Nat → ClassId} {A : Nat → Prop} {aX : Nat → Nat} {a0 : Nat → Nat} {a1 : Nat → Nat} {a2 : Nat → Nat} {a3 : Nat → Nat} {Post : Int32 → V → VL → V → V → V → V → Prop} {K31 : Int32 → Int32 → Int32 → Int32 → Int32 → V → VL → V → V → V → V → Prop} {K48 : Int32 → Int32 → Int32 → Int32 → Int32 → Int32 → Int32 → Int32 → V → VL → V → V → V → V → Prop}  (X : CxW p s m args meth c cX0_buys 9 (some .int) RX0 dC dI ct A) (hD : ∀ (x : V) (y : VL) (v0 : V) (v1 : V) (v2 : V) (v3 : V), va_D A (XW aX a0 a1 a2 a3 ct x y v0 v1 v2 v3)) (hK31 : ∀ (i1 : Int32) (i2 : Int32) (i3 : Int32) (i4 : Int32) (i5 : Int32) (x : V) (y : VL) (v0 : V) (v1 : V) (v2 : V) (v3 : V), K31 i1 i2 i3 i4 i5 x y v0 v1 v2 v3 → ∀ (H : Heap) (locs : List Loc) (ls : Array Slot), va_P (dC, dI) vwCl (XW aX a0 a1 a2 a3 ct x y v0 v1 v2 v3) H → va_S A s.heap H locs → lv_has ls 9 [(0, .ref (aX 0)), (1, .int i1), (2, .int i2), (3, .int i3), (4, .int i4), (5, .int i5)] → W p l e rm_X0_buys s m args below meth c H locs 0 0 (MQ below (va_Qi (fun (r : Int32) (u : V × VL × V × V × V × V) => Post r u.1 u.2.1 u.2.2.1 u.2.2.2.1 u.2.2.2.2.1 u.2.2.2.2.2) (fun (u : V × VL × V × V × V × V) t => WPos dC dI ct (XW aX a0 a1 a2 a3 ct u.1 u.2.1 u.2.2.1 u.2.2.2.1 u.2.2.2.2.1 u.2.2.2.2.2) A t) A) args s 0 0 A) (F0 m 31 ls [])) (hK48 : ∀ (i1 : Int32) (i2 : Int32) (i3 : Int32) (i4 : Int32) (i5 : Int32) (i6 : Int32) (i7 : Int32) (i8 : Int32) (x : V) (y : VL) (v0 : V) (v1 : V) (v2 : V) (v3 : V), K48 i1 i2 i3 i4 i5 i6 i7 i8 x y v0 v1 v2 v3 → ∀ (H : Heap) (locs : List Loc) (ls : Array Slot), va_P (dC, dI) vwCl (XW aX a0 a1 a2 a3 ct x y v0 v1 v2 v3) H → va_S A s.heap H locs → lv_has ls 9 [(0, .ref (aX 0)), (1, .int i1), (2, .int i2), (3, .int i3), (4, .int i4), (5, .int i5), (6, .int i6), (7, .int i7), (8, .int i8)] → W p l e rm_X0_buys s m args below meth c H locs 0 0 (MQ below (va_Qi (fun (r : Int32) (u : V × VL × V × V × V × V) => Post r u.1 u.2.1 u.2.2.1 u.2.2.2.1 u.2.2.2.2.1 u.2.2.2.2.2) (fun (u : V × VL × V × V × V × V) t => WPos dC dI ct (XW aX a0 a1 a2 a3 ct u.1 u.2.1 u.2.2.1 u.2.2.2.1 u.2.2.2.2.1 u.2.2.2.2.2) A t) A) args s 0 0 A) (F0 m 48 ls [])) (i1 : Int32) (i2 : Int32) (i3 : Int32) (i4 : Int32) (i5 : Int32) (i6 : Int32) (i8 : Int32) (is0 : Int32) (is1 : Int32) (x : V) (y : VL) (v0 : V) (v1 : V) (v2 : V) (v3 : V) (w : wp_X0_buys_L114  Post K31 K48 i1 i2 i3 i4 i5 i6 i8 is0 is1 x y v0 v1 v2 v3) : ∀ (H : Heap) (locs : List Loc) (ls : Array Slot), va_P (dC, dI) vwCl (XW aX a0 a1 a2 a3 ct x y v0 v1 v2 v3) H → va_S A s.heap H locs → lv_has ls 9 [(0, .ref (aX 0)), (1, .int i1), (2, .int i2), (3, .int i3), (4, .int i4), (5, .int i5), (6, .int i6), (8, .int i8)] → W p l e rm_X0_buys s m args below meth c H locs 0 0 (MQ below (va_Qi (fun (r : Int32) (u : V × VL × V × V × V × V) => Post r u.1 u.2.1 u.2.2.1 u.2.2.2.1 u.2.2.2.2.1 u.2.2.2.2.2) (fun (u : V × VL × V × V × V × V) t => WPos dC dI ct (XW aX a0 a1 a2 a3 ct u.1 u.2.1 u.2.2.1 u.2.2.2.1 u.2.2.2.2.1 u.2.2.2.2.2) A t) A) args s 0 0 A) (F0 m 114 ls [.int is0, .int is1]) := by
  intro H locs ls hP hS hl
  have X0 := X
  obtain ⟨⟨hx, hb, hml, hr, hlk, hown, hts⟩, hA, hK, hN⟩ := X0
  unfold wp_X0_buys_L114 at w
  refine lv_iand hx hb dX0_buys_114 ?_
  refine lv_istore (lv' := [(7, .int (is1 &&& is0)), (0, .ref (aX 0)), (1, .int i1), (2, .int i2), (3, .int i3), (4, .int i4), (5, .int i5), (6, .int i6), (8, .int i8)]) hx hb dX0_buys_115 hl (by decide) rfl (fun ls hl => ?_)
  refine lv_iinc (v := (i8 + 1)) (lv' := [(8, .int (i8 + 1)), (7, .int (is1 &&& is0)), (0, .ref (aX 0)), (1, .int i1), (2, .int i2), (3, .int i3), (4, .int i4), (5, .int i5), (6, .int i6)]) hx hb dX0_buys_117 hl (k := 8) rfl rfl (by decide) rfl (fun ls hl => ?_)
  refine lv_goto (tgt := 48) hx hb dX0_buys_120 (by decide) ?_
  exact hK48 _ _ _ _ _ _ _ _ _ _ _ _ _ _ w _ _ _ hP hS (lv_sub hl [2, 3, 4, 5, 6, 7, 8, 1, 0] rfl)
set_option maxHeartbeats 4000000 in
set_option maxRecDepth 100000 in
theorem wk_X0_buys_L109 {p : Program} {l : Launch} {e : Env} {s : State} {m : MethodId} {args : Array Value} {below : List Frame} {meth : Method} {c : Code} {dC : Nat → ClassId} {dI : Nat → Nat → Nat} {ct : Nat → ClassId} {A : Nat → Prop} {aX : Nat → Nat} {a0 : Nat → Nat} {a1 : Nat → Nat} {a2 : Nat → Nat} {a3 : Nat → Nat} {Post : Int32 → V → VL → V → V → V → V → Prop} {K31 : Int32 → Int32 → Int32 → Int32 → Int32 → V → VL → V → V → V → V → Prop} {K48 : Int32 → Int32 → Int32 → Int32 → Int32 → Int32 → Int32 → Int32 → V → VL → V → V → V → V → Prop}  (X : CxW p s m args meth c cX0_buys 9 (some .int) RX0 dC dI ct A) (hD : ∀ (x : V) (y : VL) (v0 : V) (v1 : V) (v2 : V) (v3 : V), va_D A (XW aX a0 a1 a2 a3 ct x y v0 v1 v2 v3)) (hK31 : ∀ (i1 : Int32) (i2 : Int32) (i3 : Int32) (i4 : Int32) (i5 : Int32) (x : V) (y : VL) (v0 : V) (v1 : V) (v2 : V) (v3 : V), K31 i1 i2 i3 i4 i5 x y v0 v1 v2 v3 → ∀ (H : Heap) (locs : List Loc) (ls : Array Slot), va_P (dC, dI) vwCl (XW aX a0 a1 a2 a3 ct x y v0 v1 v2 v3) H → va_S A s.heap H locs → lv_has ls 9 [(0, .ref (aX 0)), (1, .int i1), (2, .int i2), (3, .int i3), (4, .int i4), (5, .int i5)] → W p l e rm_X0_buys s m args below meth c H locs 0 0 (MQ below (va_Qi (fun (r : Int32) (u : V × VL × V × V × V × V) => Post r u.1 u.2.1 u.2.2.1 u.2.2.2.1 u.2.2.2.2.1 u.2.2.2.2.2) (fun (u : V × VL × V × V × V × V) t => WPos dC dI ct (XW aX a0 a1 a2 a3 ct u.1 u.2.1 u.2.2.1 u.2.2.2.1 u.2.2.2.2.1 u.2.2.2.2.2) A t) A) args s 0 0 A) (F0 m 31 ls [])) (hK48 : ∀ (i1 : Int32) (i2 : Int32) (i3 : Int32) (i4 : Int32) (i5 : Int32) (i6 : Int32) (i7 : Int32) (i8 : Int32) (x : V) (y : VL) (v0 : V) (v1 : V) (v2 : V) (v3 : V), K48 i1 i2 i3 i4 i5 i6 i7 i8 x y v0 v1 v2 v3 → ∀ (H : Heap) (locs : List Loc) (ls : Array Slot), va_P (dC, dI) vwCl (XW aX a0 a1 a2 a3 ct x y v0 v1 v2 v3) H → va_S A s.heap H locs → lv_has ls 9 [(0, .ref (aX 0)), (1, .int i1), (2, .int i2), (3, .int i3), (4, .int i4), (5, .int i5), (6, .int i6), (7, .int i7), (8, .int i8)] → W p l e rm_X0_buys s m args below meth c H locs 0 0 (MQ below (va_Qi (fun (r : Int32) (u : V × VL × V × V × V × V) => Post r u.1 u.2.1 u.2.2.1 u.2.2.2.1 u.2.2.2.2.1 u.2.2.2.2.2) (fun (u : V × VL × V × V × V × V) t => WPos dC dI ct (XW aX a0 a1 a2 a3 ct u.1 u.2.1 u.2.2.1 u.2.2.2.1 u.2.2.2.2.1 u.2.2.2.2.2) A t) A) args s 0 0 A) (F0 m 48 ls [])) (i1 : Int32) (i2 : Int32) (i3 : Int32) (i4 : Int32) (i5 : Int32) (i6 : Int32) (i8 : Int32) (is0 : Int32) (x : V) (y : VL) (v0 : V) (v1 : V) (v2 : V) (v3 : V) (w : wp_X0_buys_L109  Post K31 K48 i1 i2 i3 i4 i5 i6 i8 is0 x y v0 v1 v2 v3) : ∀ (H : Heap) (locs : List Loc) (ls : Array Slot), va_P (dC, dI) vwCl (XW aX a0 a1 a2 a3 ct x y v0 v1 v2 v3) H → va_S A s.heap H locs → lv_has ls 9 [(0, .ref (aX 0)), (1, .int i1), (2, .int i2), (3, .int i3), (4, .int i4), (5, .int i5), (6, .int i6), (8, .int i8)] → W p l e rm_X0_buys s m args below meth c H locs 0 0 (MQ below (va_Qi (fun (r : Int32) (u : V × VL × V × V × V × V) => Post r u.1 u.2.1 u.2.2.1 u.2.2.2.1 u.2.2.2.2.1 u.2.2.2.2.2) (fun (u : V × VL × V × V × V × V) t => WPos dC dI ct (XW aX a0 a1 a2 a3 ct u.1 u.2.1 u.2.2.1 u.2.2.2.1 u.2.2.2.2.1 u.2.2.2.2.2) A t) A) args s 0 0 A) (F0 m 109 ls [.int is0]) := by
  intro H locs ls hP hS hl
  have X0 := X
  obtain ⟨⟨hx, hb, hml, hr, hlk, hown, hts⟩, hA, hK, hN⟩ := X0
  unfold wp_X0_buys_L109 at w
  refine lv_iconst (v := 1) hx hb dX0_buys_109 (by decide) ?_
  refine lv_goto (tgt := 114) hx hb dX0_buys_110 (by decide) ?_
  exact wk_X0_buys_L114 X hD hK31 hK48 _ _ _ _ _ _ _ _ _ _ _ _ _ _ _ w _ _ _ hP hS (lv_sub hl [0, 1, 2, 3, 4, 5, 6, 7] rfl)
set_option maxHeartbeats 4000000 in
set_option maxRecDepth 100000 in
theorem wk_X0_buys_L81 {p : Program} {l : Launch} {e : Env} {s : State} {m : MethodId} {args : Array Value} {below : List Frame} {meth : Method} {c : Code} {dC : Nat → ClassId} {dI : Nat → Nat → Nat} {ct : Nat → ClassId} {A : Nat → Prop} {aX : Nat → Nat} {a0 : Nat → Nat} {a1 : Nat → Nat} {a2 : Nat → Nat} {a3 : Nat → Nat} {Post : Int32 → V → VL → V → V → V → V → Prop} {K31 : Int32 → Int32 → Int32 → Int32 → Int32 → V → VL → V → V → V → V → Prop} {K48 : Int32 → Int32 → Int32 → Int32 → Int32 → Int32 → Int32 → Int32 → V → VL → V → V → V → V → Prop}  (X : CxW p s m args meth c cX0_buys 9 (some .int) RX0 dC dI ct A) (hD : ∀ (x : V) (y : VL) (v0 : V) (v1 : V) (v2 : V) (v3 : V), va_D A (XW aX a0 a1 a2 a3 ct x y v0 v1 v2 v3)) (hK31 : ∀ (i1 : Int32) (i2 : Int32) (i3 : Int32) (i4 : Int32) (i5 : Int32) (x : V) (y : VL) (v0 : V) (v1 : V) (v2 : V) (v3 : V), K31 i1 i2 i3 i4 i5 x y v0 v1 v2 v3 → ∀ (H : Heap) (locs : List Loc) (ls : Array Slot), va_P (dC, dI) vwCl (XW aX a0 a1 a2 a3 ct x y v0 v1 v2 v3) H → va_S A s.heap H locs → lv_has ls 9 [(0, .ref (aX 0)), (1, .int i1), (2, .int i2), (3, .int i3), (4, .int i4), (5, .int i5)] → W p l e rm_X0_buys s m args below meth c H locs 0 0 (MQ below (va_Qi (fun (r : Int32) (u : V × VL × V × V × V × V) => Post r u.1 u.2.1 u.2.2.1 u.2.2.2.1 u.2.2.2.2.1 u.2.2.2.2.2) (fun (u : V × VL × V × V × V × V) t => WPos dC dI ct (XW aX a0 a1 a2 a3 ct u.1 u.2.1 u.2.2.1 u.2.2.2.1 u.2.2.2.2.1 u.2.2.2.2.2) A t) A) args s 0 0 A) (F0 m 31 ls [])) (hK48 : ∀ (i1 : Int32) (i2 : Int32) (i3 : Int32) (i4 : Int32) (i5 : Int32) (i6 : Int32) (i7 : Int32) (i8 : Int32) (x : V) (y : VL) (v0 : V) (v1 : V) (v2 : V) (v3 : V), K48 i1 i2 i3 i4 i5 i6 i7 i8 x y v0 v1 v2 v3 → ∀ (H : Heap) (locs : List Loc) (ls : Array Slot), va_P (dC, dI) vwCl (XW aX a0 a1 a2 a3 ct x y v0 v1 v2 v3) H → va_S A s.heap H locs → lv_has ls 9 [(0, .ref (aX 0)), (1, .int i1), (2, .int i2), (3, .int i3), (4, .int i4), (5, .int i5), (6, .int i6), (7, .int i7), (8, .int i8)] → W p l e rm_X0_buys s m args below meth c H locs 0 0 (MQ below (va_Qi (fun (r : Int32) (u : V × VL × V × V × V × V) => Post r u.1 u.2.1 u.2.2.1 u.2.2.2.1 u.2.2.2.2.1 u.2.2.2.2.2) (fun (u : V × VL × V × V × V × V) t => WPos dC dI ct (XW aX a0 a1 a2 a3 ct u.1 u.2.1 u.2.2.1 u.2.2.2.1 u.2.2.2.2.1 u.2.2.2.2.2) A t) A) args s 0 0 A) (F0 m 48 ls [])) (i1 : Int32) (i2 : Int32) (i3 : Int32) (i4 : Int32) (i5 : Int32) (i7 : Int32) (i8 : Int32) (is0 : Int32) (is1 : Int32) (x : V) (y : VL) (v0 : V) (v1 : V) (v2 : V) (v3 : V) (w : wp_X0_buys_L81  Post K31 K48 i1 i2 i3 i4 i5 i7 i8 is0 is1 x y v0 v1 v2 v3) : ∀ (H : Heap) (locs : List Loc) (ls : Array Slot), va_P (dC, dI) vwCl (XW aX a0 a1 a2 a3 ct x y v0 v1 v2 v3) H → va_S A s.heap H locs → lv_has ls 9 [(0, .ref (aX 0)), (1, .int i1), (2, .int i2), (3, .int i3), (4, .int i4), (5, .int i5), (7, .int i7), (8, .int i8)] → W p l e rm_X0_buys s m args below meth c H locs 0 0 (MQ below (va_Qi (fun (r : Int32) (u : V × VL × V × V × V × V) => Post r u.1 u.2.1 u.2.2.1 u.2.2.2.1 u.2.2.2.2.1 u.2.2.2.2.2) (fun (u : V × VL × V × V × V × V) t => WPos dC dI ct (XW aX a0 a1 a2 a3 ct u.1 u.2.1 u.2.2.1 u.2.2.2.1 u.2.2.2.2.1 u.2.2.2.2.2) A t) A) args s 0 0 A) (F0 m 81 ls [.int is0, .int is1]) := by
  intro H locs ls hP hS hl
  have X0 := X
  obtain ⟨⟨hx, hb, hml, hr, hlk, hown, hts⟩, hA, hK, hN⟩ := X0
  unfold wp_X0_buys_L81 at w
  refine lv_iadd hx hb dX0_buys_81 ?_
  refine lv_istore (lv' := [(6, .int (is1 + is0)), (0, .ref (aX 0)), (1, .int i1), (2, .int i2), (3, .int i3), (4, .int i4), (5, .int i5), (7, .int i7), (8, .int i8)]) hx hb dX0_buys_82 hl (by decide) rfl (fun ls hl => ?_)
  refine lv_iload hx hb dX0_buys_84 (lv_at hl 7 rfl) ?_
  refine lv_iload hx hb dX0_buys_86 (lv_at hl 6 rfl) ?_
  refine lv_iload hx hb dX0_buys_88 (lv_at hl 8 rfl) ?_
  refine vp_callSi (W.runS (As := [.int i5, .int i8]) (rest := [.int i7]) ⟨hx, hb, hml, hown, hts⟩ (met_X0_has l w) (va_cwS 2 hts (lw_S q342 q343 q48 q344) rfl rfl rfl hd_X0_has ⟨Nat.le_of_ble_eq_true rfl, Nat.le_of_ble_eq_true rfl⟩) pre_S rfl rfl hl.1 rfl (lv_room (Nat.le_of_ble_eq_true rfl)) dX0_buys_90 ⟨Nat.le_refl _, Nat.le_refl _⟩) (fun r1 w => ?_)
  refine lv_if_eq (tgt := 109) hx hb dX0_buys_93 (by decide) (fun c => ?_) (fun c => ?_)
  · have w := And.left w c
    exact wk_X0_buys_L109 X hD hK31 hK48 _ _ _ _ _ _ _ _ _ _ _ _ _ _ w _ _ _ hP hS (lv_sub hl [1, 2, 3, 4, 5, 6, 0, 8] rfl)
  · have w := And.right w c
    refine lv_aload_n hx hb dX0_buys_96 rfl (lv_at hl 1 rfl) ?_
    refine va_get (D := (dC, dI)) (ci := 0) (v := .ref (a0 0)) (C := RX0) (T := TX0) (N := 14) hx hb hts in_X0 hown hK hP 0 rfl rfl 0 (by decide) (hts _ q128) (fun _ h9 => h9) rfl dX0_buys_97 ?_
    refine va_getN (D := (dC, dI)) (ci := 1) (v := .ref (a0 11)) (C := RX1) (T := TX1) (N := 13) hx hb hts in_X1 hown hK hP 9 rfl rfl 4 (by decide) (va_Nw.use rfl hN.2.2.2.2.1) (fun _ h9 => h9) rfl dX0_buys_100 ?_
    refine lv_iload hx hb dX0_buys_103 (lv_at hl 8 rfl) ?_
    obtain ⟨gi, w⟩ := w
    refine va_iald hx hb hK hP 20 0 rfl rfl gi dX0_buys_105 ?_
    refine lv_if_ge (tgt := 113) hx hb dX0_buys_106 (by decide) (fun c => ?_) (fun c => ?_)
    · have w := And.left w c
      refine lv_iconst (v := 0) hx hb dX0_buys_113 (by decide) ?_
      exact wk_X0_buys_L114 X hD hK31 hK48 _ _ _ _ _ _ _ _ _ _ _ _ _ _ _ w _ _ _ hP hS (lv_sub hl [1, 2, 3, 4, 5, 6, 0, 8] rfl)
    · have w := And.right w c
      exact wk_X0_buys_L109 X hD hK31 hK48 _ _ _ _ _ _ _ _ _ _ _ _ _ _ w _ _ _ hP hS (lv_sub hl [1, 2, 3, 4, 5, 6, 0, 8] rfl)
set_option maxHeartbeats 4000000 in
set_option maxRecDepth 100000 in
theorem wk_X0_buys_L172 {p : Program} {l : Launch} {e : Env} {s : State} {m : MethodId} {args : Array Value} {below : List Frame} {meth : Method} {c : Code} {dC : Nat → ClassId} {dI : Nat → Nat → Nat} {ct : Nat → ClassId} {A : Nat → Prop} {aX : Nat → Nat} {a0 : Nat → Nat} {a1 : Nat → Nat} {a2 : Nat → Nat} {a3 : Nat → Nat} {Post : Int32 → V → VL → V → V → V → V → Prop} {K31 : Int32 → Int32 → Int32 → Int32 → Int32 → V → VL → V → V → V → V → Prop}  (X : CxW p s m args meth c cX0_buys 9 (some .int) RX0 dC dI ct A) (hD : ∀ (x : V) (y : VL) (v0 : V) (v1 : V) (v2 : V) (v3 : V), va_D A (XW aX a0 a1 a2 a3 ct x y v0 v1 v2 v3)) (hK31 : ∀ (i1 : Int32) (i2 : Int32) (i3 : Int32) (i4 : Int32) (i5 : Int32) (x : V) (y : VL) (v0 : V) (v1 : V) (v2 : V) (v3 : V), K31 i1 i2 i3 i4 i5 x y v0 v1 v2 v3 → ∀ (H : Heap) (locs : List Loc) (ls : Array Slot), va_P (dC, dI) vwCl (XW aX a0 a1 a2 a3 ct x y v0 v1 v2 v3) H → va_S A s.heap H locs → lv_has ls 9 [(0, .ref (aX 0)), (1, .int i1), (2, .int i2), (3, .int i3), (4, .int i4), (5, .int i5)] → W p l e rm_X0_buys s m args below meth c H locs 0 0 (MQ below (va_Qi (fun (r : Int32) (u : V × VL × V × V × V × V) => Post r u.1 u.2.1 u.2.2.1 u.2.2.2.1 u.2.2.2.2.1 u.2.2.2.2.2) (fun (u : V × VL × V × V × V × V) t => WPos dC dI ct (XW aX a0 a1 a2 a3 ct u.1 u.2.1 u.2.2.1 u.2.2.2.1 u.2.2.2.2.1 u.2.2.2.2.2) A t) A) args s 0 0 A) (F0 m 31 ls [])) (i1 : Int32) (i2 : Int32) (i4 : Int32) (i5 : Int32) (is0 : Int32) (x : V) (y : VL) (v0 : V) (v1 : V) (v2 : V) (v3 : V) (w : wp_X0_buys_L172  Post K31 i1 i2 i4 i5 is0 x y v0 v1 v2 v3) : ∀ (H : Heap) (locs : List Loc) (ls : Array Slot), va_P (dC, dI) vwCl (XW aX a0 a1 a2 a3 ct x y v0 v1 v2 v3) H → va_S A s.heap H locs → lv_has ls 9 [(0, .ref (aX 0)), (1, .int i1), (2, .int i2), (4, .int i4), (5, .int i5)] → W p l e rm_X0_buys s m args below meth c H locs 0 0 (MQ below (va_Qi (fun (r : Int32) (u : V × VL × V × V × V × V) => Post r u.1 u.2.1 u.2.2.1 u.2.2.2.1 u.2.2.2.2.1 u.2.2.2.2.2) (fun (u : V × VL × V × V × V × V) t => WPos dC dI ct (XW aX a0 a1 a2 a3 ct u.1 u.2.1 u.2.2.1 u.2.2.2.1 u.2.2.2.2.1 u.2.2.2.2.2) A t) A) args s 0 0 A) (F0 m 172 ls [.int is0]) := by
  intro H locs ls hP hS hl
  have X0 := X
  obtain ⟨⟨hx, hb, hml, hr, hlk, hown, hts⟩, hA, hK, hN⟩ := X0
  unfold wp_X0_buys_L172 at w
  refine lv_istore_n (lv' := [(3, .int is0), (0, .ref (aX 0)), (1, .int i1), (2, .int i2), (4, .int i4), (5, .int i5)]) hx hb dX0_buys_172 rfl hl (by decide) rfl (fun ls hl => ?_)
  refine lv_iinc (v := (i5 + 1)) (lv' := [(5, .int (i5 + 1)), (3, .int is0), (0, .ref (aX 0)), (1, .int i1), (2, .int i2), (4, .int i4)]) hx hb dX0_buys_173 hl (k := 5) rfl rfl (by decide) rfl (fun ls hl => ?_)
  refine lv_goto (tgt := 31) hx hb dX0_buys_176 (by decide) ?_
  exact hK31 _ _ _ _ _ _ _ _ _ _ _ w _ _ _ hP hS (lv_sub hl [2, 3, 4, 1, 5, 0] rfl)
set_option maxHeartbeats 4000000 in
set_option maxRecDepth 100000 in
theorem wk_X0_buys_L159 {p : Program} {l : Launch} {e : Env} {s : State} {m : MethodId} {args : Array Value} {below : List Frame} {meth : Method} {c : Code} {dC : Nat → ClassId} {dI : Nat → Nat → Nat} {ct : Nat → ClassId} {A : Nat → Prop} {aX : Nat → Nat} {a0 : Nat → Nat} {a1 : Nat → Nat} {a2 : Nat → Nat} {a3 : Nat → Nat} {Post : Int32 → V → VL → V → V → V → V → Prop} {K31 : Int32 → Int32 → Int32 → Int32 → Int32 → V → VL → V → V → V → V → Prop}  (X : CxW p s m args meth c cX0_buys 9 (some .int) RX0 dC dI ct A) (hD : ∀ (x : V) (y : VL) (v0 : V) (v1 : V) (v2 : V) (v3 : V), va_D A (XW aX a0 a1 a2 a3 ct x y v0 v1 v2 v3)) (hK31 : ∀ (i1 : Int32) (i2 : Int32) (i3 : Int32) (i4 : Int32) (i5 : Int32) (x : V) (y : VL) (v0 : V) (v1 : V) (v2 : V) (v3 : V), K31 i1 i2 i3 i4 i5 x y v0 v1 v2 v3 → ∀ (H : Heap) (locs : List Loc) (ls : Array Slot), va_P (dC, dI) vwCl (XW aX a0 a1 a2 a3 ct x y v0 v1 v2 v3) H → va_S A s.heap H locs → lv_has ls 9 [(0, .ref (aX 0)), (1, .int i1), (2, .int i2), (3, .int i3), (4, .int i4), (5, .int i5)] → W p l e rm_X0_buys s m args below meth c H locs 0 0 (MQ below (va_Qi (fun (r : Int32) (u : V × VL × V × V × V × V) => Post r u.1 u.2.1 u.2.2.1 u.2.2.2.1 u.2.2.2.2.1 u.2.2.2.2.2) (fun (u : V × VL × V × V × V × V) t => WPos dC dI ct (XW aX a0 a1 a2 a3 ct u.1 u.2.1 u.2.2.1 u.2.2.2.1 u.2.2.2.2.1 u.2.2.2.2.2) A t) A) args s 0 0 A) (F0 m 31 ls [])) (i1 : Int32) (i2 : Int32) (i3 : Int32) (i5 : Int32) (i6 : Int32) (i8 : Int32) (is0 : Int32) (x : V) (y : VL) (v0 : V) (v1 : V) (v2 : V) (v3 : V) (w : wp_X0_buys_L159  Post K31 i1 i2 i3 i5 i6 i8 is0 x y v0 v1 v2 v3) : ∀ (H : Heap) (locs : List Loc) (ls : Array Slot), va_P (dC, dI) vwCl (XW aX a0 a1 a2 a3 ct x y v0 v1 v2 v3) H → va_S A s.heap H locs → lv_has ls 9 [(0, .ref (aX 0)), (1, .int i1), (2, .int i2), (3, .int i3), (5, .int i5), (6, .int i6), (8, .int i8)] → W p l e rm_X0_buys s m args below meth c H locs 0 0 (MQ below (va_Qi (fun (r : Int32) (u : V × VL × V × V × V × V) => Post r u.1 u.2.1 u.2.2.1 u.2.2.2.1 u.2.2.2.2.1 u.2.2.2.2.2) (fun (u : V × VL × V × V × V × V) t => WPos dC dI ct (XW aX a0 a1 a2 a3 ct u.1 u.2.1 u.2.2.1 u.2.2.2.1 u.2.2.2.2.1 u.2.2.2.2.2) A t) A) args s 0 0 A) (F0 m 159 ls [.int is0]) := by
  intro H locs ls hP hS hl
  have X0 := X
  obtain ⟨⟨hx, hb, hml, hr, hlk, hown, hts⟩, hA, hK, hN⟩ := X0
  unfold wp_X0_buys_L159 at w
  refine lv_istore (lv' := [(4, .int is0), (0, .ref (aX 0)), (1, .int i1), (2, .int i2), (3, .int i3), (5, .int i5), (6, .int i6), (8, .int i8)]) hx hb dX0_buys_159 hl (by decide) rfl (fun ls hl => ?_)
  refine lv_iload hx hb dX0_buys_161 (lv_at hl 7 rfl) ?_
  refine lv_if_eq (tgt := 171) hx hb dX0_buys_163 (by decide) (fun c => ?_) (fun c => ?_)
  · have w := And.left w c
    refine lv_iload_n hx hb dX0_buys_171 rfl (lv_at hl 4 rfl) ?_
    exact wk_X0_buys_L172 X hD hK31 _ _ _ _ _ _ _ _ _ _ _ w _ _ _ hP hS (lv_sub hl [1, 2, 3, 0, 5] rfl)
  · have w := And.right w c
    refine lv_iload hx hb dX0_buys_166 (lv_at hl 6 rfl) ?_
    refine lv_goto (tgt := 172) hx hb dX0_buys_168 (by decide) ?_
    exact wk_X0_buys_L172 X hD hK31 _ _ _ _ _ _ _ _ _ _ _ w _ _ _ hP hS (lv_sub hl [1, 2, 3, 0, 5] rfl)
set_option maxHeartbeats 4000000 in
set_option maxRecDepth 100000 in
theorem wk_X0_buys_L145 {p : Program} {l : Launch} {e : Env} {s : State} {m : MethodId} {args : Array Value} {below : List Frame} {meth : Method} {c : Code} {dC : Nat → ClassId} {dI : Nat → Nat → Nat} {ct : Nat → ClassId} {A : Nat → Prop} {aX : Nat → Nat} {a0 : Nat → Nat} {a1 : Nat → Nat} {a2 : Nat → Nat} {a3 : Nat → Nat} {Post : Int32 → V → VL → V → V → V → V → Prop} {K31 : Int32 → Int32 → Int32 → Int32 → Int32 → V → VL → V → V → V → V → Prop}  (X : CxW p s m args meth c cX0_buys 9 (some .int) RX0 dC dI ct A) (hD : ∀ (x : V) (y : VL) (v0 : V) (v1 : V) (v2 : V) (v3 : V), va_D A (XW aX a0 a1 a2 a3 ct x y v0 v1 v2 v3)) (hK31 : ∀ (i1 : Int32) (i2 : Int32) (i3 : Int32) (i4 : Int32) (i5 : Int32) (x : V) (y : VL) (v0 : V) (v1 : V) (v2 : V) (v3 : V), K31 i1 i2 i3 i4 i5 x y v0 v1 v2 v3 → ∀ (H : Heap) (locs : List Loc) (ls : Array Slot), va_P (dC, dI) vwCl (XW aX a0 a1 a2 a3 ct x y v0 v1 v2 v3) H → va_S A s.heap H locs → lv_has ls 9 [(0, .ref (aX 0)), (1, .int i1), (2, .int i2), (3, .int i3), (4, .int i4), (5, .int i5)] → W p l e rm_X0_buys s m args below meth c H locs 0 0 (MQ below (va_Qi (fun (r : Int32) (u : V × VL × V × V × V × V) => Post r u.1 u.2.1 u.2.2.1 u.2.2.2.1 u.2.2.2.2.1 u.2.2.2.2.2) (fun (u : V × VL × V × V × V × V) t => WPos dC dI ct (XW aX a0 a1 a2 a3 ct u.1 u.2.1 u.2.2.1 u.2.2.2.1 u.2.2.2.2.1 u.2.2.2.2.2) A t) A) args s 0 0 A) (F0 m 31 ls [])) (i1 : Int32) (i2 : Int32) (i3 : Int32) (i4 : Int32) (i5 : Int32) (i6 : Int32) (is0 : Int32) (x : V) (y : VL) (v0 : V) (v1 : V) (v2 : V) (v3 : V) (w : wp_X0_buys_L145  Post K31 i1 i2 i3 i4 i5 i6 is0 x y v0 v1 v2 v3) : ∀ (H : Heap) (locs : List Loc) (ls : Array Slot), va_P (dC, dI) vwCl (XW aX a0 a1 a2 a3 ct x y v0 v1 v2 v3) H → va_S A s.heap H locs → lv_has ls 9 [(0, .ref (aX 0)), (1, .int i1), (2, .int i2), (3, .int i3), (4, .int i4), (5, .int i5), (6, .int i6)] → W p l e rm_X0_buys s m args below meth c H locs 0 0 (MQ below (va_Qi (fun (r : Int32) (u : V × VL × V × V × V × V) => Post r u.1 u.2.1 u.2.2.1 u.2.2.2.1 u.2.2.2.2.1 u.2.2.2.2.2) (fun (u : V × VL × V × V × V × V) t => WPos dC dI ct (XW aX a0 a1 a2 a3 ct u.1 u.2.1 u.2.2.1 u.2.2.2.1 u.2.2.2.2.1 u.2.2.2.2.2) A t) A) args s 0 0 A) (F0 m 145 ls [.int is0]) := by
  intro H locs ls hP hS hl
  have X0 := X
  obtain ⟨⟨hx, hb, hml, hr, hlk, hown, hts⟩, hA, hK, hN⟩ := X0
  unfold wp_X0_buys_L145 at w
  refine lv_istore (lv' := [(8, .int is0), (0, .ref (aX 0)), (1, .int i1), (2, .int i2), (3, .int i3), (4, .int i4), (5, .int i5), (6, .int i6)]) hx hb dX0_buys_145 hl (by decide) rfl (fun ls hl => ?_)
  refine lv_iload hx hb dX0_buys_147 (lv_at hl 0 rfl) ?_
  refine lv_if_eq (tgt := 157) hx hb dX0_buys_149 (by decide) (fun c => ?_) (fun c => ?_)
  · have w := And.left w c
    refine lv_iload hx hb dX0_buys_157 (lv_at hl 5 rfl) ?_
    exact wk_X0_buys_L159 X hD hK31 _ _ _ _ _ _ _ _ _ _ _ _ _ w _ _ _ hP hS (lv_sub hl [1, 2, 3, 4, 6, 7, 0] rfl)
  · have w := And.right w c
    refine lv_iload hx hb dX0_buys_152 (lv_at hl 6 rfl) ?_
    refine lv_goto (tgt := 159) hx hb dX0_buys_154 (by decide) ?_
    exact wk_X0_buys_L159 X hD hK31 _ _ _ _ _ _ _ _ _ _ _ _ _ w _ _ _ hP hS (lv_sub hl [1, 2, 3, 4, 6, 7, 0] rfl)
set_option maxHeartbeats 4000000 in
set_option maxRecDepth 100000 in
theorem wk_X0_buys_L144 {p : Program} {l : Launch} {e : Env} {s : State} {m : MethodId} {args : Array Value} {below : List Frame} {meth : Method} {c : Code} {dC : Nat → ClassId} {dI : Nat → Nat → Nat} {ct : Nat → ClassId} {A : Nat → Prop} {aX : Nat → Nat} {a0 : Nat → Nat} {a1 : Nat → Nat} {a2 : Nat → Nat} {a3 : Nat → Nat} {Post : Int32 → V → VL → V → V → V → V → Prop} {K31 : Int32 → Int32 → Int32 → Int32 → Int32 → V → VL → V → V → V → V → Prop}  (X : CxW p s m args meth c cX0_buys 9 (some .int) RX0 dC dI ct A) (hD : ∀ (x : V) (y : VL) (v0 : V) (v1 : V) (v2 : V) (v3 : V), va_D A (XW aX a0 a1 a2 a3 ct x y v0 v1 v2 v3)) (hK31 : ∀ (i1 : Int32) (i2 : Int32) (i3 : Int32) (i4 : Int32) (i5 : Int32) (x : V) (y : VL) (v0 : V) (v1 : V) (v2 : V) (v3 : V), K31 i1 i2 i3 i4 i5 x y v0 v1 v2 v3 → ∀ (H : Heap) (locs : List Loc) (ls : Array Slot), va_P (dC, dI) vwCl (XW aX a0 a1 a2 a3 ct x y v0 v1 v2 v3) H → va_S A s.heap H locs → lv_has ls 9 [(0, .ref (aX 0)), (1, .int i1), (2, .int i2), (3, .int i3), (4, .int i4), (5, .int i5)] → W p l e rm_X0_buys s m args below meth c H locs 0 0 (MQ below (va_Qi (fun (r : Int32) (u : V × VL × V × V × V × V) => Post r u.1 u.2.1 u.2.2.1 u.2.2.2.1 u.2.2.2.2.1 u.2.2.2.2.2) (fun (u : V × VL × V × V × V × V) t => WPos dC dI ct (XW aX a0 a1 a2 a3 ct u.1 u.2.1 u.2.2.1 u.2.2.2.1 u.2.2.2.2.1 u.2.2.2.2.2) A t) A) args s 0 0 A) (F0 m 31 ls [])) (i1 : Int32) (i2 : Int32) (i3 : Int32) (i4 : Int32) (i5 : Int32) (i6 : Int32) (x : V) (y : VL) (v0 : V) (v1 : V) (v2 : V) (v3 : V) (w : wp_X0_buys_L144  Post K31 i1 i2 i3 i4 i5 i6 x y v0 v1 v2 v3) : ∀ (H : Heap) (locs : List Loc) (ls : Array Slot), va_P (dC, dI) vwCl (XW aX a0 a1 a2 a3 ct x y v0 v1 v2 v3) H → va_S A s.heap H locs → lv_has ls 9 [(0, .ref (aX 0)), (1, .int i1), (2, .int i2), (3, .int i3), (4, .int i4), (5, .int i5), (6, .int i6)] → W p l e rm_X0_buys s m args below meth c H locs 0 0 (MQ below (va_Qi (fun (r : Int32) (u : V × VL × V × V × V × V) => Post r u.1 u.2.1 u.2.2.1 u.2.2.2.1 u.2.2.2.2.1 u.2.2.2.2.2) (fun (u : V × VL × V × V × V × V) t => WPos dC dI ct (XW aX a0 a1 a2 a3 ct u.1 u.2.1 u.2.2.1 u.2.2.2.1 u.2.2.2.2.1 u.2.2.2.2.2) A t) A) args s 0 0 A) (F0 m 144 ls []) := by
  intro H locs ls hP hS hl
  have X0 := X
  obtain ⟨⟨hx, hb, hml, hr, hlk, hown, hts⟩, hA, hK, hN⟩ := X0
  unfold wp_X0_buys_L144 at w
  refine lv_iconst (v := 0) hx hb dX0_buys_144 (by decide) ?_
  exact wk_X0_buys_L145 X hD hK31 _ _ _ _ _ _ _ _ _ _ _ _ _ w _ _ _ hP hS (lv_sub hl [0, 1, 2, 3, 4, 5, 6] rfl)
set_option maxHeartbeats 4000000 in
set_option maxRecDepth 100000 in
theorem wk_X0_buys_S48 {p : Program} {l : Launch} {e : Env} {s : State} {m : MethodId} {args : Array Value} {below : List Frame} {meth : Method} {c : Code} {dC : Nat → ClassId} {dI : Nat → Nat → Nat} {ct : Nat → ClassId} {A : Nat → Prop} {aX : Nat → Nat} {a0 : Nat → Nat} {a1 : Nat → Nat} {a2 : Nat → Nat} {a3 : Nat → Nat} {Post : Int32 → V → VL → V → V → V → V → Prop} {K31 : Int32 → Int32 → Int32 → Int32 → Int32 → V → VL → V → V → V → V → Prop} {K48 : Int32 → Int32 → Int32 → Int32 → Int32 → Int32 → Int32 → Int32 → V → VL → V → V → V → V → Prop}  (X : CxW p s m args meth c cX0_buys 9 (some .int) RX0 dC dI ct A) (hD : ∀ (x : V) (y : VL) (v0 : V) (v1 : V) (v2 : V) (v3 : V), va_D A (XW aX a0 a1 a2 a3 ct x y v0 v1 v2 v3)) (hK31 : ∀ (i1 : Int32) (i2 : Int32) (i3 : Int32) (i4 : Int32) (i5 : Int32) (x : V) (y : VL) (v0 : V) (v1 : V) (v2 : V) (v3 : V), K31 i1 i2 i3 i4 i5 x y v0 v1 v2 v3 → ∀ (H : Heap) (locs : List Loc) (ls : Array Slot), va_P (dC, dI) vwCl (XW aX a0 a1 a2 a3 ct x y v0 v1 v2 v3) H → va_S A s.heap H locs → lv_has ls 9 [(0, .ref (aX 0)), (1, .int i1), (2, .int i2), (3, .int i3), (4, .int i4), (5, .int i5)] → W p l e rm_X0_buys s m args below meth c H locs 0 0 (MQ below (va_Qi (fun (r : Int32) (u : V × VL × V × V × V × V) => Post r u.1 u.2.1 u.2.2.1 u.2.2.2.1 u.2.2.2.2.1 u.2.2.2.2.2) (fun (u : V × VL × V × V × V × V) t => WPos dC dI ct (XW aX a0 a1 a2 a3 ct u.1 u.2.1 u.2.2.1 u.2.2.2.1 u.2.2.2.2.1 u.2.2.2.2.2) A t) A) args s 0 0 A) (F0 m 31 ls [])) (hK48 : ∀ (i1 : Int32) (i2 : Int32) (i3 : Int32) (i4 : Int32) (i5 : Int32) (i6 : Int32) (i7 : Int32) (i8 : Int32) (x : V) (y : VL) (v0 : V) (v1 : V) (v2 : V) (v3 : V), K48 i1 i2 i3 i4 i5 i6 i7 i8 x y v0 v1 v2 v3 → ∀ (H : Heap) (locs : List Loc) (ls : Array Slot), va_P (dC, dI) vwCl (XW aX a0 a1 a2 a3 ct x y v0 v1 v2 v3) H → va_S A s.heap H locs → lv_has ls 9 [(0, .ref (aX 0)), (1, .int i1), (2, .int i2), (3, .int i3), (4, .int i4), (5, .int i5), (6, .int i6), (7, .int i7), (8, .int i8)] → W p l e rm_X0_buys s m args below meth c H locs 0 0 (MQ below (va_Qi (fun (r : Int32) (u : V × VL × V × V × V × V) => Post r u.1 u.2.1 u.2.2.1 u.2.2.2.1 u.2.2.2.2.1 u.2.2.2.2.2) (fun (u : V × VL × V × V × V × V) t => WPos dC dI ct (XW aX a0 a1 a2 a3 ct u.1 u.2.1 u.2.2.1 u.2.2.2.1 u.2.2.2.2.1 u.2.2.2.2.2) A t) A) args s 0 0 A) (F0 m 48 ls [])) (i1 : Int32) (i2 : Int32) (i3 : Int32) (i4 : Int32) (i5 : Int32) (i6 : Int32) (i7 : Int32) (i8 : Int32) (x : V) (y : VL) (v0 : V) (v1 : V) (v2 : V) (v3 : V) (w : wp_X0_buys_S48  Post K31 K48 i1 i2 i3 i4 i5 i6 i7 i8 x y v0 v1 v2 v3) : ∀ (H : Heap) (locs : List Loc) (ls : Array Slot), va_P (dC, dI) vwCl (XW aX a0 a1 a2 a3 ct x y v0 v1 v2 v3) H → va_S A s.heap H locs → lv_has ls 9 [(0, .ref (aX 0)), (1, .int i1), (2, .int i2), (3, .int i3), (4, .int i4), (5, .int i5), (6, .int i6), (7, .int i7), (8, .int i8)] → W p l e rm_X0_buys s m args below meth c H locs 0 0 (MQ below (va_Qi (fun (r : Int32) (u : V × VL × V × V × V × V) => Post r u.1 u.2.1 u.2.2.1 u.2.2.2.1 u.2.2.2.2.1 u.2.2.2.2.2) (fun (u : V × VL × V × V × V × V) t => WPos dC dI ct (XW aX a0 a1 a2 a3 ct u.1 u.2.1 u.2.2.1 u.2.2.2.1 u.2.2.2.2.1 u.2.2.2.2.2) A t) A) args s 0 0 A) (F0 m 48 ls []) := by
  intro H locs ls hP hS hl
  have X0 := X
  obtain ⟨⟨hx, hb, hml, hr, hlk, hown, hts⟩, hA, hK, hN⟩ := X0
  unfold wp_X0_buys_S48 at w
  refine lv_iload hx hb dX0_buys_48 (lv_at hl 8 rfl) ?_
  refine lv_bipush (v := 8) hx hb dX0_buys_50 (by decide) ?_
  refine lv_icmp_ge (tgt := 123) hx hb dX0_buys_52 (by decide) (fun c => ?_) (fun c => ?_)
  · have w := And.left w c
    refine lv_iload hx hb dX0_buys_123 (lv_at hl 7 rfl) ?_
    refine lv_if_eq (tgt := 144) hx hb dX0_buys_125 (by decide) (fun c => ?_) (fun c => ?_)
    · have w := And.left w c
      exact wk_X0_buys_L144 X hD hK31 _ _ _ _ _ _ _ _ _ _ _ _ w _ _ _ hP hS (lv_sub hl [0, 1, 2, 3, 4, 5, 6] rfl)
    · have w := And.right w c
      refine lv_iload hx hb dX0_buys_128 (lv_at hl 6 rfl) ?_
      refine lv_iload_n hx hb dX0_buys_130 rfl (lv_at hl 1 rfl) ?_
      refine lv_icmp_gt (tgt := 144) hx hb dX0_buys_131 (by decide) (fun c => ?_) (fun c => ?_)
      · have w := And.left w c
        exact wk_X0_buys_L144 X hD hK31 _ _ _ _ _ _ _ _ _ _ _ _ w _ _ _ hP hS (lv_sub hl [0, 1, 2, 3, 4, 5, 6] rfl)
      · have w := And.right w c
        refine lv_iload hx hb dX0_buys_134 (lv_at hl 6 rfl) ?_
        refine lv_iload_n hx hb dX0_buys_136 rfl (lv_at hl 3 rfl) ?_
        refine lv_icmp_le (tgt := 144) hx hb dX0_buys_137 (by decide) (fun c => ?_) (fun c => ?_)
        · have w := And.left w c
          exact wk_X0_buys_L144 X hD hK31 _ _ _ _ _ _ _ _ _ _ _ _ w _ _ _ hP hS (lv_sub hl [0, 1, 2, 3, 4, 5, 6] rfl)
        · have w := And.right w c
          refine lv_iconst (v := 1) hx hb dX0_buys_140 (by decide) ?_
          refine lv_goto (tgt := 145) hx hb dX0_buys_141 (by decide) ?_
          exact wk_X0_buys_L145 X hD hK31 _ _ _ _ _ _ _ _ _ _ _ _ _ w _ _ _ hP hS (lv_sub hl [0, 1, 2, 3, 4, 5, 6] rfl)
  · have w := And.right w c
    refine lv_iload hx hb dX0_buys_55 (lv_at hl 6 rfl) ?_
    refine lv_iload hx hb dX0_buys_57 (lv_at hl 5 rfl) ?_
    refine lv_iload hx hb dX0_buys_59 (lv_at hl 8 rfl) ?_
    refine vp_callSi (W.runS (As := [.int i5, .int i8]) (rest := [.int i6]) ⟨hx, hb, hml, hown, hts⟩ (met_X0_has l w) (va_cwS 2 hts (lw_S q342 q343 q48 q344) rfl rfl rfl hd_X0_has ⟨Nat.le_of_ble_eq_true rfl, Nat.le_of_ble_eq_true rfl⟩) pre_S rfl rfl hl.1 rfl (lv_room (Nat.le_of_ble_eq_true rfl)) dX0_buys_61 ⟨Nat.le_refl _, Nat.le_refl _⟩) (fun r1 w => ?_)
    refine lv_if_eq (tgt := 80) hx hb dX0_buys_64 (by decide) (fun c => ?_) (fun c => ?_)
    · have w := And.left w c
      refine lv_iconst (v := 0) hx hb dX0_buys_80 (by decide) ?_
      exact wk_X0_buys_L81 X hD hK31 hK48 _ _ _ _ _ _ _ _ _ _ _ _ _ _ _ w _ _ _ hP hS (lv_sub hl [0, 1, 2, 3, 4, 5, 7, 8] rfl)
    · have w := And.right w c
      refine lv_aload_n hx hb dX0_buys_67 rfl (lv_at hl 0 rfl) ?_
      refine va_get (D := (dC, dI)) (ci := 0) (v := .ref (a0 0)) (C := RX0) (T := TX0) (N := 14) hx hb hts in_X0 hown hK hP 0 rfl rfl 0 (by decide) (hts _ q128) (fun _ h9 => h9) rfl dX0_buys_68 ?_
      refine va_getN (D := (dC, dI)) (ci := 1) (v := .ref (a0 10)) (C := RX1) (T := TX1) (N := 13) hx hb hts in_X1 hown hK hP 9 rfl rfl 3 (by decide) (va_Nw.use rfl hN.2.2.2.1) (fun _ h9 => h9) rfl dX0_buys_71 ?_
      refine lv_iload hx hb dX0_buys_74 (lv_at hl 8 rfl) ?_
      obtain ⟨gi, w⟩ := w
      refine va_iald hx hb hK hP 19 0 rfl rfl gi dX0_buys_76 ?_
      refine lv_goto (tgt := 81) hx hb dX0_buys_77 (by decide) ?_
      exact wk_X0_buys_L81 X hD hK31 hK48 _ _ _ _ _ _ _ _ _ _ _ _ _ _ _ w _ _ _ hP hS (lv_sub hl [0, 1, 2, 3, 4, 5, 7, 8] rfl)
set_option maxHeartbeats 4000000 in
set_option maxRecDepth 100000 in
theorem wk_X0_buys_L48 {p : Program} {l : Launch} {e : Env} {s : State} {m : MethodId} {args : Array Value} {below : List Frame} {meth : Method} {c : Code} {dC : Nat → ClassId} {dI : Nat → Nat → Nat} {ct : Nat → ClassId} {A : Nat → Prop} {aX : Nat → Nat} {a0 : Nat → Nat} {a1 : Nat → Nat} {a2 : Nat → Nat} {a3 : Nat → Nat} {Post : Int32 → V → VL → V → V → V → V → Prop} {K31 : Int32 → Int32 → Int32 → Int32 → Int32 → V → VL → V → V → V → V → Prop}  (X : CxW p s m args meth c cX0_buys 9 (some .int) RX0 dC dI ct A) (hD : ∀ (x : V) (y : VL) (v0 : V) (v1 : V) (v2 : V) (v3 : V), va_D A (XW aX a0 a1 a2 a3 ct x y v0 v1 v2 v3)) (hK31 : ∀ (i1 : Int32) (i2 : Int32) (i3 : Int32) (i4 : Int32) (i5 : Int32) (x : V) (y : VL) (v0 : V) (v1 : V) (v2 : V) (v3 : V), K31 i1 i2 i3 i4 i5 x y v0 v1 v2 v3 → ∀ (H : Heap) (locs : List Loc) (ls : Array Slot), va_P (dC, dI) vwCl (XW aX a0 a1 a2 a3 ct x y v0 v1 v2 v3) H → va_S A s.heap H locs → lv_has ls 9 [(0, .ref (aX 0)), (1, .int i1), (2, .int i2), (3, .int i3), (4, .int i4), (5, .int i5)] → W p l e rm_X0_buys s m args below meth c H locs 0 0 (MQ below (va_Qi (fun (r : Int32) (u : V × VL × V × V × V × V) => Post r u.1 u.2.1 u.2.2.1 u.2.2.2.1 u.2.2.2.2.1 u.2.2.2.2.2) (fun (u : V × VL × V × V × V × V) t => WPos dC dI ct (XW aX a0 a1 a2 a3 ct u.1 u.2.1 u.2.2.1 u.2.2.2.1 u.2.2.2.2.1 u.2.2.2.2.2) A t) A) args s 0 0 A) (F0 m 31 ls [])) : ∀ (n : Nat) (i1 : Int32) (i2 : Int32) (i3 : Int32) (i4 : Int32) (i5 : Int32) (i6 : Int32) (i7 : Int32) (i8 : Int32) (x : V) (y : VL) (v0 : V) (v1 : V) (v2 : V) (v3 : V), wp_X0_buys_L48  Post K31 n i1 i2 i3 i4 i5 i6 i7 i8 x y v0 v1 v2 v3 → ∀ (H : Heap) (locs : List Loc) (ls : Array Slot), va_P (dC, dI) vwCl (XW aX a0 a1 a2 a3 ct x y v0 v1 v2 v3) H → va_S A s.heap H locs → lv_has ls 9 [(0, .ref (aX 0)), (1, .int i1), (2, .int i2), (3, .int i3), (4, .int i4), (5, .int i5), (6, .int i6), (7, .int i7), (8, .int i8)] → W p l e rm_X0_buys s m args below meth c H locs 0 0 (MQ below (va_Qi (fun (r : Int32) (u : V × VL × V × V × V × V) => Post r u.1 u.2.1 u.2.2.1 u.2.2.2.1 u.2.2.2.2.1 u.2.2.2.2.2) (fun (u : V × VL × V × V × V × V) t => WPos dC dI ct (XW aX a0 a1 a2 a3 ct u.1 u.2.1 u.2.2.1 u.2.2.2.1 u.2.2.2.2.1 u.2.2.2.2.2) A t) A) args s 0 0 A) (F0 m 48 ls []) := by
  intro n
  induction n with
  | zero => intro i1 i2 i3 i4 i5 i6 i7 i8 x y v0 v1 v2 v3 w; exact False.elim w
  | succ n ih => intro i1 i2 i3 i4 i5 i6 i7 i8 x y v0 v1 v2 v3 w H locs ls hP hS hl; exact wk_X0_buys_S48 X hD hK31 ih i1 i2 i3 i4 i5 i6 i7 i8 x y v0 v1 v2 v3 w H locs ls hP hS hl
set_option maxHeartbeats 4000000 in
set_option maxRecDepth 100000 in
theorem wk_X0_buys_L189 {p : Program} {l : Launch} {e : Env} {s : State} {m : MethodId} {args : Array Value} {below : List Frame} {meth : Method} {c : Code} {dC : Nat → ClassId} {dI : Nat → Nat → Nat} {ct : Nat → ClassId} {A : Nat → Prop} {aX : Nat → Nat} {a0 : Nat → Nat} {a1 : Nat → Nat} {a2 : Nat → Nat} {a3 : Nat → Nat} {Post : Int32 → V → VL → V → V → V → V → Prop}   (X : CxW p s m args meth c cX0_buys 9 (some .int) RX0 dC dI ct A) (hD : ∀ (x : V) (y : VL) (v0 : V) (v1 : V) (v2 : V) (v3 : V), va_D A (XW aX a0 a1 a2 a3 ct x y v0 v1 v2 v3))  (is0 : Int32) (x : V) (y : VL) (v0 : V) (v1 : V) (v2 : V) (v3 : V) (w : wp_X0_buys_L189  Post  is0 x y v0 v1 v2 v3) : ∀ (H : Heap) (locs : List Loc) (ls : Array Slot), va_P (dC, dI) vwCl (XW aX a0 a1 a2 a3 ct x y v0 v1 v2 v3) H → va_S A s.heap H locs → lv_has ls 9 [] → W p l e rm_X0_buys s m args below meth c H locs 0 0 (MQ below (va_Qi (fun (r : Int32) (u : V × VL × V × V × V × V) => Post r u.1 u.2.1 u.2.2.1 u.2.2.2.1 u.2.2.2.2.1 u.2.2.2.2.2) (fun (u : V × VL × V × V × V × V) t => WPos dC dI ct (XW aX a0 a1 a2 a3 ct u.1 u.2.1 u.2.2.1 u.2.2.2.1 u.2.2.2.2.1 u.2.2.2.2.2) A t) A) args s 0 0 A) (F0 m 189 ls [.int is0]) := by
  intro H locs ls hP hS hl
  have X0 := X
  obtain ⟨⟨hx, hb, hml, hr, hlk, hown, hts⟩, hA, hK, hN⟩ := X0
  unfold wp_X0_buys_L189 at w
  exact W.iret (v := is0) hx hb hr (fun t ht hW => ⟨⟨is0, (x, y, v0, v1, v2, v3), rfl, w, by rw [ht]; exact hP, va_K.moved hW.alike hK, (hD _ _ _ _ _ _)⟩, hS.F ht⟩) hS.2.2 dX0_buys_189 hlk
set_option maxHeartbeats 4000000 in
set_option maxRecDepth 100000 in
theorem wk_X0_buys_S31 {p : Program} {l : Launch} {e : Env} {s : State} {m : MethodId} {args : Array Value} {below : List Frame} {meth : Method} {c : Code} {dC : Nat → ClassId} {dI : Nat → Nat → Nat} {ct : Nat → ClassId} {A : Nat → Prop} {aX : Nat → Nat} {a0 : Nat → Nat} {a1 : Nat → Nat} {a2 : Nat → Nat} {a3 : Nat → Nat} {Post : Int32 → V → VL → V → V → V → V → Prop} {K31 : Int32 → Int32 → Int32 → Int32 → Int32 → V → VL → V → V → V → V → Prop}  (X : CxW p s m args meth c cX0_buys 9 (some .int) RX0 dC dI ct A) (hD : ∀ (x : V) (y : VL) (v0 : V) (v1 : V) (v2 : V) (v3 : V), va_D A (XW aX a0 a1 a2 a3 ct x y v0 v1 v2 v3)) (hK31 : ∀ (i1 : Int32) (i2 : Int32) (i3 : Int32) (i4 : Int32) (i5 : Int32) (x : V) (y : VL) (v0 : V) (v1 : V) (v2 : V) (v3 : V), K31 i1 i2 i3 i4 i5 x y v0 v1 v2 v3 → ∀ (H : Heap) (locs : List Loc) (ls : Array Slot), va_P (dC, dI) vwCl (XW aX a0 a1 a2 a3 ct x y v0 v1 v2 v3) H → va_S A s.heap H locs → lv_has ls 9 [(0, .ref (aX 0)), (1, .int i1), (2, .int i2), (3, .int i3), (4, .int i4), (5, .int i5)] → W p l e rm_X0_buys s m args below meth c H locs 0 0 (MQ below (va_Qi (fun (r : Int32) (u : V × VL × V × V × V × V) => Post r u.1 u.2.1 u.2.2.1 u.2.2.2.1 u.2.2.2.2.1 u.2.2.2.2.2) (fun (u : V × VL × V × V × V × V) t => WPos dC dI ct (XW aX a0 a1 a2 a3 ct u.1 u.2.1 u.2.2.1 u.2.2.2.1 u.2.2.2.2.1 u.2.2.2.2.2) A t) A) args s 0 0 A) (F0 m 31 ls [])) (i1 : Int32) (i2 : Int32) (i3 : Int32) (i4 : Int32) (i5 : Int32) (x : V) (y : VL) (v0 : V) (v1 : V) (v2 : V) (v3 : V) (w : wp_X0_buys_S31  Post K31 i1 i2 i3 i4 i5 x y v0 v1 v2 v3) : ∀ (H : Heap) (locs : List Loc) (ls : Array Slot), va_P (dC, dI) vwCl (XW aX a0 a1 a2 a3 ct x y v0 v1 v2 v3) H → va_S A s.heap H locs → lv_has ls 9 [(0, .ref (aX 0)), (1, .int i1), (2, .int i2), (3, .int i3), (4, .int i4), (5, .int i5)] → W p l e rm_X0_buys s m args below meth c H locs 0 0 (MQ below (va_Qi (fun (r : Int32) (u : V × VL × V × V × V × V) => Post r u.1 u.2.1 u.2.2.1 u.2.2.2.1 u.2.2.2.2.1 u.2.2.2.2.2) (fun (u : V × VL × V × V × V × V) t => WPos dC dI ct (XW aX a0 a1 a2 a3 ct u.1 u.2.1 u.2.2.1 u.2.2.2.1 u.2.2.2.2.1 u.2.2.2.2.2) A t) A) args s 0 0 A) (F0 m 31 ls []) := by
  intro H locs ls hP hS hl
  have X0 := X
  obtain ⟨⟨hx, hb, hml, hr, hlk, hown, hts⟩, hA, hK, hN⟩ := X0
  unfold wp_X0_buys_S31 at w
  refine lv_iload hx hb dX0_buys_31 (lv_at hl 5 rfl) ?_
  refine lv_sipush (v := 256) hx hb dX0_buys_33 (by decide) ?_
  refine lv_icmp_ge (tgt := 179) hx hb dX0_buys_36 (by decide) (fun c => ?_) (fun c => ?_)
  · have w := And.left w c
    refine lv_iload_n hx hb dX0_buys_179 rfl (lv_at hl 2 rfl) ?_
    refine lv_if_ne (tgt := 187) hx hb dX0_buys_180 (by decide) (fun c => ?_) (fun c => ?_)
    · have w := And.right w c
      refine lv_iload hx hb dX0_buys_187 (lv_at hl 4 rfl) ?_
      exact wk_X0_buys_L189 X hD  _ _ _ _ _ _ _ w _ _ _ hP hS (lv_sub hl [] rfl)
    · have w := And.left w c
      refine lv_iload_n hx hb dX0_buys_183 rfl (lv_at hl 3 rfl) ?_
      refine lv_goto (tgt := 189) hx hb dX0_buys_184 (by decide) ?_
      exact wk_X0_buys_L189 X hD  _ _ _ _ _ _ _ w _ _ _ hP hS (lv_sub hl [] rfl)
  · have w := And.right w c
    refine lv_iconst (v := 0) hx hb dX0_buys_39 (by decide) ?_
    refine lv_istore (lv' := [(6, .int (0 : Int32)), (0, .ref (aX 0)), (1, .int i1), (2, .int i2), (3, .int i3), (4, .int i4), (5, .int i5)]) hx hb dX0_buys_40 hl (by decide) rfl (fun ls hl => ?_)
    refine lv_iconst (v := 1) hx hb dX0_buys_42 (by decide) ?_
    refine lv_istore (lv' := [(7, .int (1 : Int32)), (6, .int (0 : Int32)), (0, .ref (aX 0)), (1, .int i1), (2, .int i2), (3, .int i3), (4, .int i4), (5, .int i5)]) hx hb dX0_buys_43 hl (by decide) rfl (fun ls hl => ?_)
    refine lv_iconst (v := 0) hx hb dX0_buys_45 (by decide) ?_
    refine lv_istore (lv' := [(8, .int (0 : Int32)), (7, .int (1 : Int32)), (6, .int (0 : Int32)), (0, .ref (aX 0)), (1, .int i1), (2, .int i2), (3, .int i3), (4, .int i4), (5, .int i5)]) hx hb dX0_buys_46 hl (by decide) rfl (fun ls hl => ?_)
    obtain ⟨n, w⟩ := w
    exact wk_X0_buys_L48 X hD hK31 n _ _ _ _ _ _ _ _ _ _ _ _ _ _ w _ _ _ hP hS (lv_sub hl [3, 4, 5, 6, 7, 8, 2, 1, 0] rfl)
set_option maxHeartbeats 4000000 in
set_option maxRecDepth 100000 in
theorem wk_X0_buys_L31 {p : Program} {l : Launch} {e : Env} {s : State} {m : MethodId} {args : Array Value} {below : List Frame} {meth : Method} {c : Code} {dC : Nat → ClassId} {dI : Nat → Nat → Nat} {ct : Nat → ClassId} {A : Nat → Prop} {aX : Nat → Nat} {a0 : Nat → Nat} {a1 : Nat → Nat} {a2 : Nat → Nat} {a3 : Nat → Nat} {Post : Int32 → V → VL → V → V → V → V → Prop}   (X : CxW p s m args meth c cX0_buys 9 (some .int) RX0 dC dI ct A) (hD : ∀ (x : V) (y : VL) (v0 : V) (v1 : V) (v2 : V) (v3 : V), va_D A (XW aX a0 a1 a2 a3 ct x y v0 v1 v2 v3))  : ∀ (n : Nat) (i1 : Int32) (i2 : Int32) (i3 : Int32) (i4 : Int32) (i5 : Int32) (x : V) (y : VL) (v0 : V) (v1 : V) (v2 : V) (v3 : V), wp_X0_buys_L31  Post  n i1 i2 i3 i4 i5 x y v0 v1 v2 v3 → ∀ (H : Heap) (locs : List Loc) (ls : Array Slot), va_P (dC, dI) vwCl (XW aX a0 a1 a2 a3 ct x y v0 v1 v2 v3) H → va_S A s.heap H locs → lv_has ls 9 [(0, .ref (aX 0)), (1, .int i1), (2, .int i2), (3, .int i3), (4, .int i4), (5, .int i5)] → W p l e rm_X0_buys s m args below meth c H locs 0 0 (MQ below (va_Qi (fun (r : Int32) (u : V × VL × V × V × V × V) => Post r u.1 u.2.1 u.2.2.1 u.2.2.2.1 u.2.2.2.2.1 u.2.2.2.2.2) (fun (u : V × VL × V × V × V × V) t => WPos dC dI ct (XW aX a0 a1 a2 a3 ct u.1 u.2.1 u.2.2.1 u.2.2.2.1 u.2.2.2.2.1 u.2.2.2.2.2) A t) A) args s 0 0 A) (F0 m 31 ls []) := by
  intro n
  induction n with
  | zero => intro i1 i2 i3 i4 i5 x y v0 v1 v2 v3 w; exact False.elim w
  | succ n ih => intro i1 i2 i3 i4 i5 x y v0 v1 v2 v3 w H locs ls hP hS hl; exact wk_X0_buys_S31 X hD  ih i1 i2 i3 i4 i5 x y v0 v1 v2 v3 w H locs ls hP hS hl
set_option maxHeartbeats 4000000 in
set_option maxRecDepth 100000 in
theorem met_X0_buys (l : Launch) (dC : Nat → ClassId) (dI : Nat → Nat → Nat) (ct : Nat → ClassId) (aX : Nat → Nat) (a0 : Nat → Nat) (a1 : Nat → Nat) (a2 : Nat → Nat) (a3 : Nat → Nat) (sz : Nat) {i1 : Int32} {i2 : Int32} {x : V} {y : VL} {v0 : V} {v1 : V} {v2 : V} {v3 : V} {Post : Int32 → V → VL → V → V → V → V → Prop} (w : wp_X0_buys i1 i2 x y v0 v1 v2 v3 Post) : Met l yX0_buys (ws_ yX0_buys cX0_buys 9 (some .int)) rm_X0_buys (va_Pc [.ref (aX 0), .int i1, .int i2] (fun U => WPre dC dI ct (XW aX a0 a1 a2 a3 ct x y v0 v1 v2 v3) sz U)) ((fun A => (va_Qi (fun (r : Int32) (u : V × VL × V × V × V × V) => Post r u.1 u.2.1 u.2.2.1 u.2.2.2.1 u.2.2.2.2.1 u.2.2.2.2.2) (fun (u : V × VL × V × V × V × V) t => WPos dC dI ct (XW aX a0 a1 a2 a3 ct u.1 u.2.1 u.2.2.1 u.2.2.2.1 u.2.2.2.2.1 u.2.2.2.2.2) A t) A)) (va_A (XW aX a0 a1 a2 a3 ct x y v0 v1 v2 v3) sz)) 0 0 (va_A (XW aX a0 a1 a2 a3 ct x y v0 v1 v2 v3) sz) := by
  refine open_W (fun A => (va_Qi (fun (r : Int32) (u : V × VL × V × V × V × V) => Post r u.1 u.2.1 u.2.2.1 u.2.2.2.1 u.2.2.2.2.1 u.2.2.2.2.2) (fun (u : V × VL × V × V × V × V) t => WPos dC dI ct (XW aX a0 a1 a2 a3 ct u.1 u.2.1 u.2.2.1 u.2.2.2.1 u.2.2.2.2.1 u.2.2.2.2.2) A t) A)) (by decide) (Nat.le_of_ble_eq_true rfl) ?_
  intro p e s m args below meth c ls A X hD0 hP hS hl
  have X0 := X
  obtain ⟨⟨hx, hb, hml, hr, hlk, hown, hts⟩, hA, hK, hN⟩ := X0
  have hD : ∀ (x' : V) (y' : VL) (v0' : V) (v1' : V) (v2' : V) (v3' : V), va_D A (XW aX a0 a1 a2 a3 ct x' y' v0' v1' v2' v3') := fun x' y' v0' v1' v2' v3' => va_D_addr hD0 rfl
  have hl : lv_has ls 9 [(0, .ref (aX 0)), (1, .int i1), (2, .int i2)] := hl
  unfold wp_X0_buys at w
  have hS0 := hS
  refine lv_iload_n hx hb dX0_buys_0 rfl (lv_at hl 1 rfl) ?_
  refine lv_iconst (v := 0) hx hb dX0_buys_1 (by decide) ?_
  refine lv_sipush (v := 9999) hx hb dX0_buys_2 (by decide) ?_
  refine vp_callSi (W.runS (As := [.int i1, .int (0 : Int32), .int (9999 : Int32)]) (rest := []) ⟨hx, hb, hml, hown, hts⟩ (met_X0_isIn l w) (va_cwS 3 hts (lw_S q180 q181 q48 q182) rfl rfl rfl hd_X0_isIn ⟨Nat.le_of_ble_eq_true rfl, Nat.le_of_ble_eq_true rfl⟩) pre_S rfl rfl hl.1 rfl (lv_room (Nat.le_of_ble_eq_true rfl)) dX0_buys_5 ⟨Nat.le_refl _, Nat.le_refl _⟩) (fun r1 w => ?_)
  refine lv_if_eq (tgt := 20) hx hb dX0_buys_8 (by decide) (fun c => ?_) (fun c => ?_)
  · have w := And.left w c
    exact wk_X0_buys_L20 X hD  _ _ _ _ _ _ w _ _ _ hP hS (lv_sub hl [] rfl)
  · have w := And.right w c
    refine lv_iload_n hx hb dX0_buys_11 rfl (lv_at hl 2 rfl) ?_
    refine lv_iconst (v := 0) hx hb dX0_buys_12 (by decide) ?_
    refine lv_iconst (v := 1) hx hb dX0_buys_13 (by decide) ?_
    refine vp_callSi (W.runS (As := [.int i2, .int (0 : Int32), .int (1 : Int32)]) (rest := []) ⟨hx, hb, hml, hown, hts⟩ (met_X0_isIn l w) (va_cwS 3 hts (lw_S q180 q181 q48 q182) rfl rfl rfl hd_X0_isIn ⟨Nat.le_of_ble_eq_true rfl, Nat.le_of_ble_eq_true rfl⟩) pre_S rfl rfl hl.1 rfl (lv_room (Nat.le_of_ble_eq_true rfl)) dX0_buys_14 ⟨Nat.le_refl _, Nat.le_refl _⟩) (fun r2 w => ?_)
    refine lv_if_ne (tgt := 23) hx hb dX0_buys_17 (by decide) (fun c => ?_) (fun c => ?_)
    · have w := And.right w c
      refine lv_iconst (v := 0) hx hb dX0_buys_23 (by decide) ?_
      refine lv_istore_n (lv' := [(3, .int (0 : Int32)), (0, .ref (aX 0)), (1, .int i1), (2, .int i2)]) hx hb dX0_buys_24 rfl hl (by decide) rfl (fun ls hl => ?_)
      refine lv_iconst (v := 0) hx hb dX0_buys_25 (by decide) ?_
      refine lv_istore (lv' := [(4, .int (0 : Int32)), (3, .int (0 : Int32)), (0, .ref (aX 0)), (1, .int i1), (2, .int i2)]) hx hb dX0_buys_26 hl (by decide) rfl (fun ls hl => ?_)
      refine lv_iconst (v := 0) hx hb dX0_buys_28 (by decide) ?_
      refine lv_istore (lv' := [(5, .int (0 : Int32)), (4, .int (0 : Int32)), (3, .int (0 : Int32)), (0, .ref (aX 0)), (1, .int i1), (2, .int i2)]) hx hb dX0_buys_29 hl (by decide) rfl (fun ls hl => ?_)
      obtain ⟨n, w⟩ := w
      exact wk_X0_buys_L31 X hD  n _ _ _ _ _ _ _ _ _ _ _ w _ _ _ hP hS (lv_sub hl [3, 4, 5, 2, 1, 0] rfl)
    · have w := And.left w c
      exact wk_X0_buys_L20 X hD  _ _ _ _ _ _ w _ _ _ hP hS (lv_sub hl [] rfl)
abbrev rm_X0_runs : Room := { frames := 2, cells := 0, slots := 0, locals := 52 }
theorem hd_X0_runs : yX0_runs.cls = RX0 ∧ yX0_runs.cls ≠ "java/lang/invoke/MethodHandle" ∧ yX0_runs.cls ≠ "java/lang/invoke/VarHandle" ∧ (parseMethodDescriptor yX0_runs.desc).map (fun d => d.parameters.length) = some 3 := by decide +kernel
set_option maxHeartbeats 4000000 in
set_option maxRecDepth 100000 in
theorem wk_X0_runs_L30 {p : Program} {l : Launch} {e : Env} {s : State} {m : MethodId} {args : Array Value} {below : List Frame} {meth : Method} {c : Code} {dC : Nat → ClassId} {dI : Nat → Nat → Nat} {ct : Nat → ClassId} {A : Nat → Prop} {aX : Nat → Nat} {a0 : Nat → Nat} {a1 : Nat → Nat} {a2 : Nat → Nat} {a3 : Nat → Nat} {Post : Int32 → V → VL → V → V → V → V → Prop}   (X : CxW p s m args meth c cX0_runs 9 (some .int) RX0 dC dI ct A) (hD : ∀ (x : V) (y : VL) (v0 : V) (v1 : V) (v2 : V) (v3 : V), va_D A (XW aX a0 a1 a2 a3 ct x y v0 v1 v2 v3))  (x : V) (y : VL) (v0 : V) (v1 : V) (v2 : V) (v3 : V) (w : wp_X0_runs_L30  Post  x y v0 v1 v2 v3) : ∀ (H : Heap) (locs : List Loc) (ls : Array Slot), va_P (dC, dI) vwCl (XW aX a0 a1 a2 a3 ct x y v0 v1 v2 v3) H → va_S A s.heap H locs → lv_has ls 9 [] → W p l e rm_X0_runs s m args below meth c H locs 0 0 (MQ below (va_Qi (fun (r : Int32) (u : V × VL × V × V × V × V) => Post r u.1 u.2.1 u.2.2.1 u.2.2.2.1 u.2.2.2.2.1 u.2.2.2.2.2) (fun (u : V × VL × V × V × V × V) t => WPos dC dI ct (XW aX a0 a1 a2 a3 ct u.1 u.2.1 u.2.2.1 u.2.2.2.1 u.2.2.2.2.1 u.2.2.2.2.2) A t) A) args s 0 0 A) (F0 m 30 ls []) := by
  intro H locs ls hP hS hl
  have X0 := X
  obtain ⟨⟨hx, hb, hml, hr, hlk, hown, hts⟩, hA, hK, hN⟩ := X0
  unfold wp_X0_runs_L30 at w
  refine lv_bipush (v := -2) hx hb dX0_runs_30 (by decide) ?_
  exact W.iret (v := (-2 : Int32)) hx hb hr (fun t ht hW => ⟨⟨(-2 : Int32), (x, y, v0, v1, v2, v3), rfl, w, by rw [ht]; exact hP, va_K.moved hW.alike hK, (hD _ _ _ _ _ _)⟩, hS.F ht⟩) hS.2.2 dX0_runs_32 hlk
set_option maxHeartbeats 4000000 in
set_option maxRecDepth 100000 in
theorem wk_X0_runs_S49 {p : Program} {l : Launch} {e : Env} {s : State} {m : MethodId} {args : Array Value} {below : List Frame} {meth : Method} {c : Code} {dC : Nat → ClassId} {dI : Nat → Nat → Nat} {ct : Nat → ClassId} {A : Nat → Prop} {aX : Nat → Nat} {a0 : Nat → Nat} {a1 : Nat → Nat} {a2 : Nat → Nat} {a3 : Nat → Nat} {Post : Int32 → V → VL → V → V → V → V → Prop} {K49 : Int32 → Int32 → Int32 → Int64 → Int32 → V → VL → V → V → V → V → Prop}  (X : CxW p s m args meth c cX0_runs 9 (some .int) RX0 dC dI ct A) (hD : ∀ (x : V) (y : VL) (v0 : V) (v1 : V) (v2 : V) (v3 : V), va_D A (XW aX a0 a1 a2 a3 ct x y v0 v1 v2 v3)) (hK49 : ∀ (i2 : Int32) (i3 : Int32) (i4 : Int32) (l5 : Int64) (i7 : Int32) (x : V) (y : VL) (v0 : V) (v1 : V) (v2 : V) (v3 : V), K49 i2 i3 i4 l5 i7 x y v0 v1 v2 v3 → ∀ (H : Heap) (locs : List Loc) (ls : Array Slot), va_P (dC, dI) vwCl (XW aX a0 a1 a2 a3 ct x y v0 v1 v2 v3) H → va_S A s.heap H locs → lv_has ls 9 [(2, .int i2), (3, .int i3), (4, .int i4), (5, .long l5), (7, .int i7)] → W p l e rm_X0_runs s m args below meth c H locs 0 0 (MQ below (va_Qi (fun (r : Int32) (u : V × VL × V × V × V × V) => Post r u.1 u.2.1 u.2.2.1 u.2.2.2.1 u.2.2.2.2.1 u.2.2.2.2.2) (fun (u : V × VL × V × V × V × V) t => WPos dC dI ct (XW aX a0 a1 a2 a3 ct u.1 u.2.1 u.2.2.1 u.2.2.2.1 u.2.2.2.2.1 u.2.2.2.2.2) A t) A) args s 0 0 A) (F0 m 49 ls [])) (i2 : Int32) (i3 : Int32) (i4 : Int32) (l5 : Int64) (i7 : Int32) (x : V) (y : VL) (v0 : V) (v1 : V) (v2 : V) (v3 : V) (w : wp_X0_runs_S49  Post K49 i2 i3 i4 l5 i7 x y v0 v1 v2 v3) : ∀ (H : Heap) (locs : List Loc) (ls : Array Slot), va_P (dC, dI) vwCl (XW aX a0 a1 a2 a3 ct x y v0 v1 v2 v3) H → va_S A s.heap H locs → lv_has ls 9 [(2, .int i2), (3, .int i3), (4, .int i4), (5, .long l5), (7, .int i7)] → W p l e rm_X0_runs s m args below meth c H locs 0 0 (MQ below (va_Qi (fun (r : Int32) (u : V × VL × V × V × V × V) => Post r u.1 u.2.1 u.2.2.1 u.2.2.2.1 u.2.2.2.2.1 u.2.2.2.2.2) (fun (u : V × VL × V × V × V × V) t => WPos dC dI ct (XW aX a0 a1 a2 a3 ct u.1 u.2.1 u.2.2.1 u.2.2.2.1 u.2.2.2.2.1 u.2.2.2.2.2) A t) A) args s 0 0 A) (F0 m 49 ls []) := by
  intro H locs ls hP hS hl
  have X0 := X
  obtain ⟨⟨hx, hb, hml, hr, hlk, hown, hts⟩, hA, hK, hN⟩ := X0
  unfold wp_X0_runs_S49 at w
  refine lv_iload hx hb dX0_runs_49 (lv_at hl 4 rfl) ?_
  refine lv_bipush (v := 100) hx hb dX0_runs_51 (by decide) ?_
  refine lv_icmp_gt (tgt := 105) hx hb dX0_runs_53 (by decide) (fun c => ?_) (fun c => ?_)
  · have w := And.left w c
    refine lv_bipush (v := -6) hx hb dX0_runs_105 (by decide) ?_
    exact W.iret (v := (-6 : Int32)) hx hb hr (fun t ht hW => ⟨⟨(-6 : Int32), (x, y, v0, v1, v2, v3), rfl, w, by rw [ht]; exact hP, va_K.moved hW.alike hK, (hD _ _ _ _ _ _)⟩, hS.F ht⟩) hS.2.2 dX0_runs_107 hlk
  · have w := And.right w c
    refine lv_iload hx hb dX0_runs_56 (lv_at hl 2 rfl) ?_
    refine lv_lload hx hb dX0_runs_58 (lv_at hl 3 rfl) ?_
    refine vp_callSi (W.runS (As := [.int i4, .long l5]) (rest := []) ⟨hx, hb, hml, hown, hts⟩ (met_X0_rateOf l w) (va_cwS 2 hts (lw_S q359 q266 q48 q267) rfl rfl rfl hd_X0_rateOf ⟨Nat.le_of_ble_eq_true rfl, Nat.le_of_ble_eq_true rfl⟩) pre_S rfl rfl hl.1 rfl (lv_room (Nat.le_of_ble_eq_true rfl)) dX0_runs_60 ⟨Nat.le_refl _, Nat.le_refl _⟩) (fun r1 w => ?_)
    refine lv_istore (lv' := [(8, .int r1), (2, .int i2), (3, .int i3), (4, .int i4), (5, .long l5), (7, .int i7)]) hx hb dX0_runs_63 hl (by decide) rfl (fun ls hl => ?_)
    refine lv_iload hx hb dX0_runs_65 (lv_at hl 0 rfl) ?_
    refine lv_iload_n hx hb dX0_runs_67 rfl (lv_at hl 2 rfl) ?_
    refine lv_icmp_ge (tgt := 74) hx hb dX0_runs_68 (by decide) (fun c => ?_) (fun c => ?_)
    · have w := And.left w c
      refine lv_lload hx hb dX0_runs_74 (lv_at hl 4 rfl) ?_
      refine lv_lload hx hb dX0_runs_76 (lv_at hl 4 rfl) ?_
      refine lv_iload_n hx hb dX0_runs_78 rfl (lv_at hl 1 rfl) ?_
      refine lv_i2l hx hb dX0_runs_79 rfl ?_
      refine lv_lmul hx hb dX0_runs_80 ?_
      refine lv_ldc2 (v := 100) hx hb hown (hts _ q268) dX0_runs_81 ?_
      refine lv_ldiv hx hb dX0_runs_84 (by decide) ?_
      refine lv_ldc2 (v := 100) hx hb hown (hts _ q268) dX0_runs_85 ?_
      refine lv_bipush (v := 100) hx hb dX0_runs_88 (by decide) ?_
      refine lv_iload hx hb dX0_runs_90 (lv_at hl 0 rfl) ?_
      refine lv_isub hx hb dX0_runs_92 ?_
      refine lv_i2l hx hb dX0_runs_93 rfl ?_
      refine lv_lmul hx hb dX0_runs_94 ?_
      refine lv_ladd hx hb dX0_runs_95 ?_
      refine lv_ladd hx hb dX0_runs_96 ?_
      refine lv_topl (fun n2 en2 => ?_)
      have w := w n2 en2
      refine lv_lstore (lv' := [(5, .long n2), (8, .int r1), (2, .int i2), (3, .int i3), (4, .int i4), (7, .int i7)]) hx hb dX0_runs_97 hl (by decide) rfl (fun ls hl => ?_)
      refine lv_iinc (v := (i7 + 1)) (lv' := [(7, .int (i7 + 1)), (5, .long n2), (8, .int r1), (2, .int i2), (3, .int i3), (4, .int i4)]) hx hb dX0_runs_99 hl (k := 5) rfl rfl (by decide) rfl (fun ls hl => ?_)
      refine lv_goto (tgt := 49) hx hb dX0_runs_102 (by decide) ?_
      exact hK49 _ _ _ _ _ _ _ _ _ _ _ w _ _ _ hP hS (lv_sub hl [3, 4, 5, 1, 0] rfl)
    · have w := And.right w c
      refine lv_iload hx hb dX0_runs_71 (lv_at hl 5 rfl) ?_
      exact W.iret (v := i7) hx hb hr (fun t ht hW => ⟨⟨i7, (x, y, v0, v1, v2, v3), rfl, w, by rw [ht]; exact hP, va_K.moved hW.alike hK, (hD _ _ _ _ _ _)⟩, hS.F ht⟩) hS.2.2 dX0_runs_73 hlk
set_option maxHeartbeats 4000000 in
set_option maxRecDepth 100000 in
theorem wk_X0_runs_L49 {p : Program} {l : Launch} {e : Env} {s : State} {m : MethodId} {args : Array Value} {below : List Frame} {meth : Method} {c : Code} {dC : Nat → ClassId} {dI : Nat → Nat → Nat} {ct : Nat → ClassId} {A : Nat → Prop} {aX : Nat → Nat} {a0 : Nat → Nat} {a1 : Nat → Nat} {a2 : Nat → Nat} {a3 : Nat → Nat} {Post : Int32 → V → VL → V → V → V → V → Prop}   (X : CxW p s m args meth c cX0_runs 9 (some .int) RX0 dC dI ct A) (hD : ∀ (x : V) (y : VL) (v0 : V) (v1 : V) (v2 : V) (v3 : V), va_D A (XW aX a0 a1 a2 a3 ct x y v0 v1 v2 v3))  : ∀ (n : Nat) (i2 : Int32) (i3 : Int32) (i4 : Int32) (l5 : Int64) (i7 : Int32) (x : V) (y : VL) (v0 : V) (v1 : V) (v2 : V) (v3 : V), wp_X0_runs_L49  Post  n i2 i3 i4 l5 i7 x y v0 v1 v2 v3 → ∀ (H : Heap) (locs : List Loc) (ls : Array Slot), va_P (dC, dI) vwCl (XW aX a0 a1 a2 a3 ct x y v0 v1 v2 v3) H → va_S A s.heap H locs → lv_has ls 9 [(2, .int i2), (3, .int i3), (4, .int i4), (5, .long l5), (7, .int i7)] → W p l e rm_X0_runs s m args below meth c H locs 0 0 (MQ below (va_Qi (fun (r : Int32) (u : V × VL × V × V × V × V) => Post r u.1 u.2.1 u.2.2.1 u.2.2.2.1 u.2.2.2.2.1 u.2.2.2.2.2) (fun (u : V × VL × V × V × V × V) t => WPos dC dI ct (XW aX a0 a1 a2 a3 ct u.1 u.2.1 u.2.2.1 u.2.2.2.1 u.2.2.2.2.1 u.2.2.2.2.2) A t) A) args s 0 0 A) (F0 m 49 ls []) := by
  intro n
  induction n with
  | zero => intro i2 i3 i4 l5 i7 x y v0 v1 v2 v3 w; exact False.elim w
  | succ n ih => intro i2 i3 i4 l5 i7 x y v0 v1 v2 v3 w H locs ls hP hS hl; exact wk_X0_runs_S49 X hD  ih i2 i3 i4 l5 i7 x y v0 v1 v2 v3 w H locs ls hP hS hl
set_option maxHeartbeats 4000000 in
set_option maxRecDepth 100000 in
theorem met_X0_runs (l : Launch) (dC : Nat → ClassId) (dI : Nat → Nat → Nat) (ct : Nat → ClassId) (aX : Nat → Nat) (a0 : Nat → Nat) (a1 : Nat → Nat) (a2 : Nat → Nat) (a3 : Nat → Nat) (sz : Nat) {i1 : Int32} {i2 : Int32} {i3 : Int32} {x : V} {y : VL} {v0 : V} {v1 : V} {v2 : V} {v3 : V} {Post : Int32 → V → VL → V → V → V → V → Prop} (w : wp_X0_runs i1 i2 i3 x y v0 v1 v2 v3 Post) : Met l yX0_runs (ws_ yX0_runs cX0_runs 9 (some .int)) rm_X0_runs (va_Pc [.ref (aX 0), .int i1, .int i2, .int i3] (fun U => WPre dC dI ct (XW aX a0 a1 a2 a3 ct x y v0 v1 v2 v3) sz U)) ((fun A => (va_Qi (fun (r : Int32) (u : V × VL × V × V × V × V) => Post r u.1 u.2.1 u.2.2.1 u.2.2.2.1 u.2.2.2.2.1 u.2.2.2.2.2) (fun (u : V × VL × V × V × V × V) t => WPos dC dI ct (XW aX a0 a1 a2 a3 ct u.1 u.2.1 u.2.2.1 u.2.2.2.1 u.2.2.2.2.1 u.2.2.2.2.2) A t) A)) (va_A (XW aX a0 a1 a2 a3 ct x y v0 v1 v2 v3) sz)) 0 0 (va_A (XW aX a0 a1 a2 a3 ct x y v0 v1 v2 v3) sz) := by
  refine open_W (fun A => (va_Qi (fun (r : Int32) (u : V × VL × V × V × V × V) => Post r u.1 u.2.1 u.2.2.1 u.2.2.2.1 u.2.2.2.2.1 u.2.2.2.2.2) (fun (u : V × VL × V × V × V × V) t => WPos dC dI ct (XW aX a0 a1 a2 a3 ct u.1 u.2.1 u.2.2.1 u.2.2.2.1 u.2.2.2.2.1 u.2.2.2.2.2) A t) A)) (by decide) (Nat.le_of_ble_eq_true rfl) ?_
  intro p e s m args below meth c ls A X hD0 hP hS hl
  have X0 := X
  obtain ⟨⟨hx, hb, hml, hr, hlk, hown, hts⟩, hA, hK, hN⟩ := X0
  have hD : ∀ (x' : V) (y' : VL) (v0' : V) (v1' : V) (v2' : V) (v3' : V), va_D A (XW aX a0 a1 a2 a3 ct x' y' v0' v1' v2' v3') := fun x' y' v0' v1' v2' v3' => va_D_addr hD0 rfl
  have hl : lv_has ls 9 [(0, .ref (aX 0)), (1, .int i1), (2, .int i2), (3, .int i3)] := hl
  unfold wp_X0_runs at w
  have hS0 := hS
  refine lv_iload_n hx hb dX0_runs_0 rfl (lv_at hl 1 rfl) ?_
  refine lv_iconst (v := 1) hx hb dX0_runs_1 (by decide) ?_
  refine lv_ldc (v := 99999) hx hb hown (hts _ q201) dX0_runs_2 ?_
  refine vp_callSi (W.runS (As := [.int i1, .int (1 : Int32), .int (99999 : Int32)]) (rest := []) ⟨hx, hb, hml, hown, hts⟩ (met_X0_isIn l w) (va_cwS 3 hts (lw_S q180 q181 q48 q182) rfl rfl rfl hd_X0_isIn ⟨Nat.le_of_ble_eq_true rfl, Nat.le_of_ble_eq_true rfl⟩) pre_S rfl rfl hl.1 rfl (lv_room (Nat.le_of_ble_eq_true rfl)) dX0_runs_4 ⟨Nat.le_refl _, Nat.le_refl _⟩) (fun r1 w => ?_)
  refine lv_if_eq (tgt := 30) hx hb dX0_runs_7 (by decide) (fun c => ?_) (fun c => ?_)
  · have w := And.left w c
    exact wk_X0_runs_L30 X hD  _ _ _ _ _ _ w _ _ _ hP hS (lv_sub hl [] rfl)
  · have w := And.right w c
    refine lv_iload_n hx hb dX0_runs_10 rfl (lv_at hl 2 rfl) ?_
    refine lv_iconst (v := 0) hx hb dX0_runs_11 (by decide) ?_
    refine lv_bipush (v := 99) hx hb dX0_runs_12 (by decide) ?_
    refine vp_callSi (W.runS (As := [.int i2, .int (0 : Int32), .int (99 : Int32)]) (rest := []) ⟨hx, hb, hml, hown, hts⟩ (met_X0_isIn l w) (va_cwS 3 hts (lw_S q180 q181 q48 q182) rfl rfl rfl hd_X0_isIn ⟨Nat.le_of_ble_eq_true rfl, Nat.le_of_ble_eq_true rfl⟩) pre_S rfl rfl hl.1 rfl (lv_room (Nat.le_of_ble_eq_true rfl)) dX0_runs_14 ⟨Nat.le_refl _, Nat.le_refl _⟩) (fun r2 w => ?_)
    refine lv_if_eq (tgt := 30) hx hb dX0_runs_17 (by decide) (fun c => ?_) (fun c => ?_)
    · have w := And.left w c
      exact wk_X0_runs_L30 X hD  _ _ _ _ _ _ w _ _ _ hP hS (lv_sub hl [] rfl)
    · have w := And.right w c
      refine lv_iload_n hx hb dX0_runs_20 rfl (lv_at hl 3 rfl) ?_
      refine lv_iconst (v := 1) hx hb dX0_runs_21 (by decide) ?_
      refine lv_bipush (v := 100) hx hb dX0_runs_22 (by decide) ?_
      refine vp_callSi (W.runS (As := [.int i3, .int (1 : Int32), .int (100 : Int32)]) (rest := []) ⟨hx, hb, hml, hown, hts⟩ (met_X0_isIn l w) (va_cwS 3 hts (lw_S q180 q181 q48 q182) rfl rfl rfl hd_X0_isIn ⟨Nat.le_of_ble_eq_true rfl, Nat.le_of_ble_eq_true rfl⟩) pre_S rfl rfl hl.1 rfl (lv_room (Nat.le_of_ble_eq_true rfl)) dX0_runs_24 ⟨Nat.le_refl _, Nat.le_refl _⟩) (fun r3 w => ?_)
      refine lv_if_ne (tgt := 33) hx hb dX0_runs_27 (by decide) (fun c => ?_) (fun c => ?_)
      · have w := And.right w c
        refine lv_aload_n hx hb dX0_runs_33 rfl (lv_at hl 0 rfl) ?_
        refine va_get (D := (dC, dI)) (ci := 0) (v := .ref (a0 0)) (C := RX0) (T := TX0) (N := 14) hx hb hts in_X0 hown hK hP 0 rfl rfl 0 (by decide) (hts _ q128) (fun _ h9 => h9) rfl dX0_runs_34 ?_
        have hPc := XW_g0 hP
        have hDc := XW_d0 (hD x y v0 v1 v2 v3)
        refine va_calli (va_runV (As := []) (rest := []) ⟨hx, hb, hml, hown, hts⟩ (met_X1_land l dC dI ct a0 _ w) (cwV 0 hts (lw_V q320 q258 q259 q49 q260) rfl rfl rfl hd_X1_land ⟨Nat.le_of_ble_eq_true rfl, Nat.le_of_ble_eq_true rfl⟩) (pre_V hK hPc hDc hN (va_recv hK hPc (ci := 1) (q0 := 0) rfl rfl)) rfl rfl hl.1 rfl (lv_room (Nat.le_of_ble_eq_true rfl)) dX0_runs_37 ⟨Nat.le_refl _, Nat.le_refl _⟩) hS (fun q _ h => x_free hDc hS hA q h) (x_free hDc hS hA) (fun r4 v0_4 t H locs ht hvm w hB hz hk hS => ?_)
        have hP := XW_j0 hP (hD _ _ _ _ _ _) hk (post_P hB ht)
        have hP : va_P (dC, dI) vwCl (XW aX a0 a1 a2 a3 ct x y v0_4 v1 v2 v3) H := hP
        refine lv_istore (lv' := [(4, .int r4), (0, .ref (aX 0)), (1, .int i1), (2, .int i2), (3, .int i3)]) hx hb dX0_runs_40 hl (by decide) rfl (fun ls hl => ?_)
        refine lv_iload_n hx hb dX0_runs_42 rfl (lv_at hl 2 rfl) ?_
        refine lv_i2l hx hb dX0_runs_43 rfl ?_
        refine lv_lstore (lv' := [(5, .long i1.toInt64), (4, .int r4), (0, .ref (aX 0)), (1, .int i1), (2, .int i2), (3, .int i3)]) hx hb dX0_runs_44 hl (by decide) rfl (fun ls hl => ?_)
        refine lv_iconst (v := 0) hx hb dX0_runs_46 (by decide) ?_
        refine lv_istore (lv' := [(7, .int (0 : Int32)), (5, .long i1.toInt64), (4, .int r4), (0, .ref (aX 0)), (1, .int i1), (2, .int i2), (3, .int i3)]) hx hb dX0_runs_47 hl (by decide) rfl (fun ls hl => ?_)
        obtain ⟨n, w⟩ := w
        exact wk_X0_runs_L49 X hD  n _ _ _ _ _ _ _ _ _ _ _ w _ _ _ hP hS (lv_sub hl [5, 6, 2, 1, 0] rfl)
      · have w := And.left w c
        exact wk_X0_runs_L30 X hD  _ _ _ _ _ _ w _ _ _ hP hS (lv_sub hl [] rfl)
abbrev rm_X0_wages : Room := { frames := 1, cells := 0, slots := 0, locals := 30 }
theorem hd_X0_wages : yX0_wages.cls = RX0 ∧ yX0_wages.cls ≠ "java/lang/invoke/MethodHandle" ∧ yX0_wages.cls ≠ "java/lang/invoke/VarHandle" ∧ (parseMethodDescriptor yX0_wages.desc).map (fun d => d.parameters.length) = some 2 := by decide +kernel
set_option maxHeartbeats 4000000 in
set_option maxRecDepth 100000 in
theorem wk_X0_wages_L20 {p : Program} {l : Launch} {e : Env} {s : State} {m : MethodId} {args : Array Value} {below : List Frame} {meth : Method} {c : Code} {dC : Nat → ClassId} {dI : Nat → Nat → Nat} {ct : Nat → ClassId} {A : Nat → Prop} {aX : Nat → Nat} {a0 : Nat → Nat} {a1 : Nat → Nat} {a2 : Nat → Nat} {a3 : Nat → Nat} {Post : Int32 → V → VL → V → V → V → V → Prop}   (X : CxW p s m args meth c cX0_wages 6 (some .int) RX0 dC dI ct A) (hD : ∀ (x : V) (y : VL) (v0 : V) (v1 : V) (v2 : V) (v3 : V), va_D A (XW aX a0 a1 a2 a3 ct x y v0 v1 v2 v3))  (x : V) (y : VL) (v0 : V) (v1 : V) (v2 : V) (v3 : V) (w : wp_X0_wages_L20  Post  x y v0 v1 v2 v3) : ∀ (H : Heap) (locs : List Loc) (ls : Array Slot), va_P (dC, dI) vwCl (XW aX a0 a1 a2 a3 ct x y v0 v1 v2 v3) H → va_S A s.heap H locs → lv_has ls 6 [] → W p l e rm_X0_wages s m args below meth c H locs 0 0 (MQ below (va_Qi (fun (r : Int32) (u : V × VL × V × V × V × V) => Post r u.1 u.2.1 u.2.2.1 u.2.2.2.1 u.2.2.2.2.1 u.2.2.2.2.2) (fun (u : V × VL × V × V × V × V) t => WPos dC dI ct (XW aX a0 a1 a2 a3 ct u.1 u.2.1 u.2.2.1 u.2.2.2.1 u.2.2.2.2.1 u.2.2.2.2.2) A t) A) args s 0 0 A) (F0 m 20 ls []) := by
  intro H locs ls hP hS hl
  have X0 := X
  obtain ⟨⟨hx, hb, hml, hr, hlk, hown, hts⟩, hA, hK, hN⟩ := X0
  unfold wp_X0_wages_L20 at w
  refine lv_bipush (v := -2) hx hb dX0_wages_20 (by decide) ?_
  exact W.iret (v := (-2 : Int32)) hx hb hr (fun t ht hW => ⟨⟨(-2 : Int32), (x, y, v0, v1, v2, v3), rfl, w, by rw [ht]; exact hP, va_K.moved hW.alike hK, (hD _ _ _ _ _ _)⟩, hS.F ht⟩) hS.2.2 dX0_wages_22 hlk
set_option maxHeartbeats 4000000 in
set_option maxRecDepth 100000 in
theorem wk_X0_wages_L55 {p : Program} {l : Launch} {e : Env} {s : State} {m : MethodId} {args : Array Value} {below : List Frame} {meth : Method} {c : Code} {dC : Nat → ClassId} {dI : Nat → Nat → Nat} {ct : Nat → ClassId} {A : Nat → Prop} {aX : Nat → Nat} {a0 : Nat → Nat} {a1 : Nat → Nat} {a2 : Nat → Nat} {a3 : Nat → Nat} {Post : Int32 → V → VL → V → V → V → V → Prop} {K28 : Int32 → Int32 → Int32 → Int32 → V → VL → V → V → V → V → Prop}  (X : CxW p s m args meth c cX0_wages 6 (some .int) RX0 dC dI ct A) (hD : ∀ (x : V) (y : VL) (v0 : V) (v1 : V) (v2 : V) (v3 : V), va_D A (XW aX a0 a1 a2 a3 ct x y v0 v1 v2 v3)) (hK28 : ∀ (i1 : Int32) (i2 : Int32) (i3 : Int32) (i4 : Int32) (x : V) (y : VL) (v0 : V) (v1 : V) (v2 : V) (v3 : V), K28 i1 i2 i3 i4 x y v0 v1 v2 v3 → ∀ (H : Heap) (locs : List Loc) (ls : Array Slot), va_P (dC, dI) vwCl (XW aX a0 a1 a2 a3 ct x y v0 v1 v2 v3) H → va_S A s.heap H locs → lv_has ls 6 [(1, .int i1), (2, .int i2), (3, .int i3), (4, .int i4)] → W p l e rm_X0_wages s m args below meth c H locs 0 0 (MQ below (va_Qi (fun (r : Int32) (u : V × VL × V × V × V × V) => Post r u.1 u.2.1 u.2.2.1 u.2.2.2.1 u.2.2.2.2.1 u.2.2.2.2.2) (fun (u : V × VL × V × V × V × V) t => WPos dC dI ct (XW aX a0 a1 a2 a3 ct u.1 u.2.1 u.2.2.1 u.2.2.2.1 u.2.2.2.2.1 u.2.2.2.2.2) A t) A) args s 0 0 A) (F0 m 28 ls [])) (i1 : Int32) (i2 : Int32) (i3 : Int32) (i4 : Int32) (is0 : Int32) (x : V) (y : VL) (v0 : V) (v1 : V) (v2 : V) (v3 : V) (w : wp_X0_wages_L55  Post K28 i1 i2 i3 i4 is0 x y v0 v1 v2 v3) : ∀ (H : Heap) (locs : List Loc) (ls : Array Slot), va_P (dC, dI) vwCl (XW aX a0 a1 a2 a3 ct x y v0 v1 v2 v3) H → va_S A s.heap H locs → lv_has ls 6 [(1, .int i1), (2, .int i2), (3, .int i3), (4, .int i4)] → W p l e rm_X0_wages s m args below meth c H locs 0 0 (MQ below (va_Qi (fun (r : Int32) (u : V × VL × V × V × V × V) => Post r u.1 u.2.1 u.2.2.1 u.2.2.2.1 u.2.2.2.2.1 u.2.2.2.2.2) (fun (u : V × VL × V × V × V × V) t => WPos dC dI ct (XW aX a0 a1 a2 a3 ct u.1 u.2.1 u.2.2.1 u.2.2.2.1 u.2.2.2.2.1 u.2.2.2.2.2) A t) A) args s 0 0 A) (F0 m 55 ls [.int is0]) := by
  intro H locs ls hP hS hl
  have X0 := X
  obtain ⟨⟨hx, hb, hml, hr, hlk, hown, hts⟩, hA, hK, hN⟩ := X0
  unfold wp_X0_wages_L55 at w
  refine lv_istore (lv' := [(5, .int is0), (1, .int i1), (2, .int i2), (3, .int i3), (4, .int i4)]) hx hb dX0_wages_55 hl (by decide) rfl (fun ls hl => ?_)
  refine lv_iload_n hx hb dX0_wages_57 rfl (lv_at hl 3 rfl) ?_
  refine lv_iconst (v := 0) hx hb dX0_wages_58 (by decide) ?_
  refine lv_iload_n hx hb dX0_wages_59 rfl (lv_at hl 1 rfl) ?_
  refine lv_iload hx hb dX0_wages_60 (lv_at hl 4 rfl) ?_
  refine lv_bipush (v := 9) hx hb dX0_wages_62 (by decide) ?_
  refine vp_callSi (W.runS (As := [.int i1, .int i4, .int (9 : Int32)]) (rest := [.int (0 : Int32), .int i3]) ⟨hx, hb, hml, hown, hts⟩ (met_X0_digit l w) (va_cwS 3 hts (lw_S q373 q374 q48 q375) rfl rfl rfl hd_X0_digit ⟨Nat.le_of_ble_eq_true rfl, Nat.le_of_ble_eq_true rfl⟩) pre_S rfl rfl hl.1 rfl (lv_room (Nat.le_of_ble_eq_true rfl)) dX0_wages_64 ⟨Nat.le_refl _, Nat.le_refl _⟩) (fun r1 w => ?_)
  refine lv_iload hx hb dX0_wages_67 (lv_at hl 0 rfl) ?_
  refine lv_isub hx hb dX0_wages_69 ?_
  refine va_mmax hx hb (hml.trans hl.1.symm) hown (hts _ q338) (hts _ q339) (hts _ q53) (hts _ q340) (Nat.le_of_ble_eq_true rfl) (Nat.le_of_ble_eq_true rfl) (Nat.zero_le _) (Nat.zero_le _) dX0_wages_70 ?_
  refine lv_iadd hx hb dX0_wages_73 ?_
  refine lv_istore_n (lv' := [(3, .int (i3 + (if (0 : Int32) < (r1 - is0) then (r1 - is0) else (0 : Int32)))), (5, .int is0), (1, .int i1), (2, .int i2), (4, .int i4)]) hx hb dX0_wages_74 rfl hl (by decide) rfl (fun ls hl => ?_)
  refine lv_iinc (v := (i4 + 1)) (lv' := [(4, .int (i4 + 1)), (3, .int (i3 + (if (0 : Int32) < (r1 - is0) then (r1 - is0) else (0 : Int32)))), (5, .int is0), (1, .int i1), (2, .int i2)]) hx hb dX0_wages_75 hl (k := 4) rfl rfl (by decide) rfl (fun ls hl => ?_)
  refine lv_goto (tgt := 28) hx hb dX0_wages_78 (by decide) ?_
  exact hK28 _ _ _ _ _ _ _ _ _ _ w _ _ _ hP hS (lv_sub hl [3, 4, 1, 0] rfl)
set_option maxHeartbeats 4000000 in
set_option maxRecDepth 100000 in
theorem wk_X0_wages_S28 {p : Program} {l : Launch} {e : Env} {s : State} {m : MethodId} {args : Array Value} {below : List Frame} {meth : Method} {c : Code} {dC : Nat → ClassId} {dI : Nat → Nat → Nat} {ct : Nat → ClassId} {A : Nat → Prop} {aX : Nat → Nat} {a0 : Nat → Nat} {a1 : Nat → Nat} {a2 : Nat → Nat} {a3 : Nat → Nat} {Post : Int32 → V → VL → V → V → V → V → Prop} {K28 : Int32 → Int32 → Int32 → Int32 → V → VL → V → V → V → V → Prop}  (X : CxW p s m args meth c cX0_wages 6 (some .int) RX0 dC dI ct A) (hD : ∀ (x : V) (y : VL) (v0 : V) (v1 : V) (v2 : V) (v3 : V), va_D A (XW aX a0 a1 a2 a3 ct x y v0 v1 v2 v3)) (hK28 : ∀ (i1 : Int32) (i2 : Int32) (i3 : Int32) (i4 : Int32) (x : V) (y : VL) (v0 : V) (v1 : V) (v2 : V) (v3 : V), K28 i1 i2 i3 i4 x y v0 v1 v2 v3 → ∀ (H : Heap) (locs : List Loc) (ls : Array Slot), va_P (dC, dI) vwCl (XW aX a0 a1 a2 a3 ct x y v0 v1 v2 v3) H → va_S A s.heap H locs → lv_has ls 6 [(1, .int i1), (2, .int i2), (3, .int i3), (4, .int i4)] → W p l e rm_X0_wages s m args below meth c H locs 0 0 (MQ below (va_Qi (fun (r : Int32) (u : V × VL × V × V × V × V) => Post r u.1 u.2.1 u.2.2.1 u.2.2.2.1 u.2.2.2.2.1 u.2.2.2.2.2) (fun (u : V × VL × V × V × V × V) t => WPos dC dI ct (XW aX a0 a1 a2 a3 ct u.1 u.2.1 u.2.2.1 u.2.2.2.1 u.2.2.2.2.1 u.2.2.2.2.2) A t) A) args s 0 0 A) (F0 m 28 ls [])) (i1 : Int32) (i2 : Int32) (i3 : Int32) (i4 : Int32) (x : V) (y : VL) (v0 : V) (v1 : V) (v2 : V) (v3 : V) (w : wp_X0_wages_S28  Post K28 i1 i2 i3 i4 x y v0 v1 v2 v3) : ∀ (H : Heap) (locs : List Loc) (ls : Array Slot), va_P (dC, dI) vwCl (XW aX a0 a1 a2 a3 ct x y v0 v1 v2 v3) H → va_S A s.heap H locs → lv_has ls 6 [(1, .int i1), (2, .int i2), (3, .int i3), (4, .int i4)] → W p l e rm_X0_wages s m args below meth c H locs 0 0 (MQ below (va_Qi (fun (r : Int32) (u : V × VL × V × V × V × V) => Post r u.1 u.2.1 u.2.2.1 u.2.2.2.1 u.2.2.2.2.1 u.2.2.2.2.2) (fun (u : V × VL × V × V × V × V) t => WPos dC dI ct (XW aX a0 a1 a2 a3 ct u.1 u.2.1 u.2.2.1 u.2.2.2.1 u.2.2.2.2.1 u.2.2.2.2.2) A t) A) args s 0 0 A) (F0 m 28 ls []) := by
  intro H locs ls hP hS hl
  have X0 := X
  obtain ⟨⟨hx, hb, hml, hr, hlk, hown, hts⟩, hA, hK, hN⟩ := X0
  unfold wp_X0_wages_S28 at w
  refine lv_iload hx hb dX0_wages_28 (lv_at hl 3 rfl) ?_
  refine lv_bipush (v := 9) hx hb dX0_wages_30 (by decide) ?_
  refine lv_icmp_ge (tgt := 81) hx hb dX0_wages_32 (by decide) (fun c => ?_) (fun c => ?_)
  · have w := And.left w c
    refine lv_iload_n hx hb dX0_wages_81 rfl (lv_at hl 2 rfl) ?_
    exact W.iret (v := i3) hx hb hr (fun t ht hW => ⟨⟨i3, (x, y, v0, v1, v2, v3), rfl, w, by rw [ht]; exact hP, va_K.moved hW.alike hK, (hD _ _ _ _ _ _)⟩, hS.F ht⟩) hS.2.2 dX0_wages_82 hlk
  · have w := And.right w c
    refine lv_iload hx hb dX0_wages_35 (lv_at hl 3 rfl) ?_
    refine lv_iload_n hx hb dX0_wages_37 rfl (lv_at hl 1 rfl) ?_
    refine lv_icmp_ge (tgt := 45) hx hb dX0_wages_38 (by decide) (fun c => ?_) (fun c => ?_)
    · have w := And.left w c
      refine lv_iload_n hx hb dX0_wages_45 rfl (lv_at hl 0 rfl) ?_
      refine lv_iload hx hb dX0_wages_46 (lv_at hl 3 rfl) ?_
      refine lv_iload_n hx hb dX0_wages_48 rfl (lv_at hl 1 rfl) ?_
      refine lv_isub hx hb dX0_wages_49 ?_
      refine lv_bipush (v := 9) hx hb dX0_wages_50 (by decide) ?_
      refine vp_callSi (W.runS (As := [.int i1, .int (i4 - i2), .int (9 : Int32)]) (rest := []) ⟨hx, hb, hml, hown, hts⟩ (met_X0_digit l w) (va_cwS 3 hts (lw_S q373 q374 q48 q375) rfl rfl rfl hd_X0_digit ⟨Nat.le_of_ble_eq_true rfl, Nat.le_of_ble_eq_true rfl⟩) pre_S rfl rfl hl.1 rfl (lv_room (Nat.le_of_ble_eq_true rfl)) dX0_wages_52 ⟨Nat.le_refl _, Nat.le_refl _⟩) (fun r1 w => ?_)
      exact wk_X0_wages_L55 X hD hK28 _ _ _ _ _ _ _ _ _ _ _ w _ _ _ hP hS (lv_sub hl [0, 1, 2, 3] rfl)
    · have w := And.right w c
      refine lv_iconst (v := 0) hx hb dX0_wages_41 (by decide) ?_
      refine lv_goto (tgt := 55) hx hb dX0_wages_42 (by decide) ?_
      exact wk_X0_wages_L55 X hD hK28 _ _ _ _ _ _ _ _ _ _ _ w _ _ _ hP hS (lv_sub hl [0, 1, 2, 3] rfl)
set_option maxHeartbeats 4000000 in
set_option maxRecDepth 100000 in
theorem wk_X0_wages_L28 {p : Program} {l : Launch} {e : Env} {s : State} {m : MethodId} {args : Array Value} {below : List Frame} {meth : Method} {c : Code} {dC : Nat → ClassId} {dI : Nat → Nat → Nat} {ct : Nat → ClassId} {A : Nat → Prop} {aX : Nat → Nat} {a0 : Nat → Nat} {a1 : Nat → Nat} {a2 : Nat → Nat} {a3 : Nat → Nat} {Post : Int32 → V → VL → V → V → V → V → Prop}   (X : CxW p s m args meth c cX0_wages 6 (some .int) RX0 dC dI ct A) (hD : ∀ (x : V) (y : VL) (v0 : V) (v1 : V) (v2 : V) (v3 : V), va_D A (XW aX a0 a1 a2 a3 ct x y v0 v1 v2 v3))  : ∀ (n : Nat) (i1 : Int32) (i2 : Int32) (i3 : Int32) (i4 : Int32) (x : V) (y : VL) (v0 : V) (v1 : V) (v2 : V) (v3 : V), wp_X0_wages_L28  Post  n i1 i2 i3 i4 x y v0 v1 v2 v3 → ∀ (H : Heap) (locs : List Loc) (ls : Array Slot), va_P (dC, dI) vwCl (XW aX a0 a1 a2 a3 ct x y v0 v1 v2 v3) H → va_S A s.heap H locs → lv_has ls 6 [(1, .int i1), (2, .int i2), (3, .int i3), (4, .int i4)] → W p l e rm_X0_wages s m args below meth c H locs 0 0 (MQ below (va_Qi (fun (r : Int32) (u : V × VL × V × V × V × V) => Post r u.1 u.2.1 u.2.2.1 u.2.2.2.1 u.2.2.2.2.1 u.2.2.2.2.2) (fun (u : V × VL × V × V × V × V) t => WPos dC dI ct (XW aX a0 a1 a2 a3 ct u.1 u.2.1 u.2.2.1 u.2.2.2.1 u.2.2.2.2.1 u.2.2.2.2.2) A t) A) args s 0 0 A) (F0 m 28 ls []) := by
  intro n
  induction n with
  | zero => intro i1 i2 i3 i4 x y v0 v1 v2 v3 w; exact False.elim w
  | succ n ih => intro i1 i2 i3 i4 x y v0 v1 v2 v3 w H locs ls hP hS hl; exact wk_X0_wages_S28 X hD  ih i1 i2 i3 i4 x y v0 v1 v2 v3 w H locs ls hP hS hl
set_option maxHeartbeats 4000000 in
set_option maxRecDepth 100000 in
theorem met_X0_wages (l : Launch) (dC : Nat → ClassId) (dI : Nat → Nat → Nat) (ct : Nat → ClassId) (aX : Nat → Nat) (a0 : Nat → Nat) (a1 : Nat → Nat) (a2 : Nat → Nat) (a3 : Nat → Nat) (sz : Nat) {i1 : Int32} {i2 : Int32} {x : V} {y : VL} {v0 : V} {v1 : V} {v2 : V} {v3 : V} {Post : Int32 → V → VL → V → V → V → V → Prop} (w : wp_X0_wages i1 i2 x y v0 v1 v2 v3 Post) : Met l yX0_wages (ws_ yX0_wages cX0_wages 6 (some .int)) rm_X0_wages (va_Pc [.ref (aX 0), .int i1, .int i2] (fun U => WPre dC dI ct (XW aX a0 a1 a2 a3 ct x y v0 v1 v2 v3) sz U)) ((fun A => (va_Qi (fun (r : Int32) (u : V × VL × V × V × V × V) => Post r u.1 u.2.1 u.2.2.1 u.2.2.2.1 u.2.2.2.2.1 u.2.2.2.2.2) (fun (u : V × VL × V × V × V × V) t => WPos dC dI ct (XW aX a0 a1 a2 a3 ct u.1 u.2.1 u.2.2.1 u.2.2.2.1 u.2.2.2.2.1 u.2.2.2.2.2) A t) A)) (va_A (XW aX a0 a1 a2 a3 ct x y v0 v1 v2 v3) sz)) 0 0 (va_A (XW aX a0 a1 a2 a3 ct x y v0 v1 v2 v3) sz) := by
  refine open_W (fun A => (va_Qi (fun (r : Int32) (u : V × VL × V × V × V × V) => Post r u.1 u.2.1 u.2.2.1 u.2.2.2.1 u.2.2.2.2.1 u.2.2.2.2.2) (fun (u : V × VL × V × V × V × V) t => WPos dC dI ct (XW aX a0 a1 a2 a3 ct u.1 u.2.1 u.2.2.1 u.2.2.2.1 u.2.2.2.2.1 u.2.2.2.2.2) A t) A)) (by decide) (Nat.le_of_ble_eq_true rfl) ?_
  intro p e s m args below meth c ls A X hD0 hP hS hl
  have X0 := X
  obtain ⟨⟨hx, hb, hml, hr, hlk, hown, hts⟩, hA, hK, hN⟩ := X0
  have hD : ∀ (x' : V) (y' : VL) (v0' : V) (v1' : V) (v2' : V) (v3' : V), va_D A (XW aX a0 a1 a2 a3 ct x' y' v0' v1' v2' v3') := fun x' y' v0' v1' v2' v3' => va_D_addr hD0 rfl
  have hl : lv_has ls 6 [(0, .ref (aX 0)), (1, .int i1), (2, .int i2)] := hl
  unfold wp_X0_wages at w
  have hS0 := hS
  refine lv_iload_n hx hb dX0_wages_0 rfl (lv_at hl 1 rfl) ?_
  refine lv_iconst (v := 0) hx hb dX0_wages_1 (by decide) ?_
  refine lv_ldc (v := 999999999) hx hb hown (hts _ q372) dX0_wages_2 ?_
  refine vp_callSi (W.runS (As := [.int i1, .int (0 : Int32), .int (999999999 : Int32)]) (rest := []) ⟨hx, hb, hml, hown, hts⟩ (met_X0_isIn l w) (va_cwS 3 hts (lw_S q180 q181 q48 q182) rfl rfl rfl hd_X0_isIn ⟨Nat.le_of_ble_eq_true rfl, Nat.le_of_ble_eq_true rfl⟩) pre_S rfl rfl hl.1 rfl (lv_room (Nat.le_of_ble_eq_true rfl)) dX0_wages_4 ⟨Nat.le_refl _, Nat.le_refl _⟩) (fun r1 w => ?_)
  refine lv_if_eq (tgt := 20) hx hb dX0_wages_7 (by decide) (fun c => ?_) (fun c => ?_)
  · have w := And.left w c
    exact wk_X0_wages_L20 X hD  _ _ _ _ _ _ w _ _ _ hP hS (lv_sub hl [] rfl)
  · have w := And.right w c
    refine lv_iload_n hx hb dX0_wages_10 rfl (lv_at hl 2 rfl) ?_
    refine lv_iconst (v := 0) hx hb dX0_wages_11 (by decide) ?_
    refine lv_bipush (v := 8) hx hb dX0_wages_12 (by decide) ?_
    refine vp_callSi (W.runS (As := [.int i2, .int (0 : Int32), .int (8 : Int32)]) (rest := []) ⟨hx, hb, hml, hown, hts⟩ (met_X0_isIn l w) (va_cwS 3 hts (lw_S q180 q181 q48 q182) rfl rfl rfl hd_X0_isIn ⟨Nat.le_of_ble_eq_true rfl, Nat.le_of_ble_eq_true rfl⟩) pre_S rfl rfl hl.1 rfl (lv_room (Nat.le_of_ble_eq_true rfl)) dX0_wages_14 ⟨Nat.le_refl _, Nat.le_refl _⟩) (fun r2 w => ?_)
    refine lv_if_ne (tgt := 23) hx hb dX0_wages_17 (by decide) (fun c => ?_) (fun c => ?_)
    · have w := And.right w c
      refine lv_iconst (v := 0) hx hb dX0_wages_23 (by decide) ?_
      refine lv_istore_n (lv' := [(3, .int (0 : Int32)), (0, .ref (aX 0)), (1, .int i1), (2, .int i2)]) hx hb dX0_wages_24 rfl hl (by decide) rfl (fun ls hl => ?_)
      refine lv_iconst (v := 0) hx hb dX0_wages_25 (by decide) ?_
      refine lv_istore (lv' := [(4, .int (0 : Int32)), (3, .int (0 : Int32)), (0, .ref (aX 0)), (1, .int i1), (2, .int i2)]) hx hb dX0_wages_26 hl (by decide) rfl (fun ls hl => ?_)
      obtain ⟨n, w⟩ := w
      exact wk_X0_wages_L28 X hD  n _ _ _ _ _ _ _ _ _ _ w _ _ _ hP hS (lv_sub hl [3, 4, 1, 0] rfl)
    · have w := And.left w c
      exact wk_X0_wages_L20 X hD  _ _ _ _ _ _ w _ _ _ hP hS (lv_sub hl [] rfl)
abbrev rm_X0_change : Room := { frames := 101, cells := 0, slots := 0, locals := 2323 }
theorem hd_X0_change : yX0_change.cls = RX0 ∧ yX0_change.cls ≠ "java/lang/invoke/MethodHandle" ∧ yX0_change.cls ≠ "java/lang/invoke/VarHandle" ∧ (parseMethodDescriptor yX0_change.desc).map (fun d => d.parameters.length) = some 5 := by decide +kernel
set_option maxHeartbeats 4000000 in
set_option maxRecDepth 100000 in
theorem wk_X0_change_L50 {p : Program} {l : Launch} {e : Env} {s : State} {m : MethodId} {args : Array Value} {below : List Frame} {meth : Method} {c : Code} {dC : Nat → ClassId} {dI : Nat → Nat → Nat} {ct : Nat → ClassId} {A : Nat → Prop} {aX : Nat → Nat} {a0 : Nat → Nat} {a1 : Nat → Nat} {a2 : Nat → Nat} {a3 : Nat → Nat} {Post : Int64 → V → VL → V → V → V → V → Prop}   (X : CxW p s m args meth c cX0_change 13 (some .long) RX0 dC dI ct A) (hD : ∀ (x : V) (y : VL) (v0 : V) (v1 : V) (v2 : V) (v3 : V), va_D A (XW aX a0 a1 a2 a3 ct x y v0 v1 v2 v3))  (x : V) (y : VL) (v0 : V) (v1 : V) (v2 : V) (v3 : V) (w : wp_X0_change_L50  Post  x y v0 v1 v2 v3) : ∀ (H : Heap) (locs : List Loc) (ls : Array Slot), va_P (dC, dI) vwCl (XW aX a0 a1 a2 a3 ct x y v0 v1 v2 v3) H → va_S A s.heap H locs → lv_has ls 13 [] → W p l e rm_X0_change s m args below meth c H locs 0 0 (MQ below (va_Ql (fun (r : Int64) (u : V × VL × V × V × V × V) => Post r u.1 u.2.1 u.2.2.1 u.2.2.2.1 u.2.2.2.2.1 u.2.2.2.2.2) (fun (u : V × VL × V × V × V × V) t => WPos dC dI ct (XW aX a0 a1 a2 a3 ct u.1 u.2.1 u.2.2.1 u.2.2.2.1 u.2.2.2.2.1 u.2.2.2.2.2) A t) A) args s 0 0 A) (F0 m 50 ls []) := by
  intro H locs ls hP hS hl
  have X0 := X
  obtain ⟨⟨hx, hb, hml, hr, hlk, hown, hts⟩, hA, hK, hN⟩ := X0
  unfold wp_X0_change_L50 at w
  refine lv_ldc2 (v := -1000000000000000002) hx hb hown (hts _ q380) dX0_change_50 ?_
  exact W.lret (v := (-1000000000000000002 : Int64)) hx hb hr (fun t ht hW => ⟨⟨(-1000000000000000002 : Int64), (x, y, v0, v1, v2, v3), rfl, w, by rw [ht]; exact hP, va_K.moved hW.alike hK, (hD _ _ _ _ _ _)⟩, hS.F ht⟩) hS.2.2 dX0_change_53 hlk
set_option maxHeartbeats 4000000 in
set_option maxRecDepth 100000 in
theorem wk_X0_change_L220 {p : Program} {l : Launch} {e : Env} {s : State} {m : MethodId} {args : Array Value} {below : List Frame} {meth : Method} {c : Code} {dC : Nat → ClassId} {dI : Nat → Nat → Nat} {ct : Nat → ClassId} {A : Nat → Prop} {aX : Nat → Nat} {a0 : Nat → Nat} {a1 : Nat → Nat} {a2 : Nat → Nat} {a3 : Nat → Nat} {Post : Int64 → V → VL → V → V → V → V → Prop} {K92 : Int32 → Int32 → Int32 → Int32 → Int32 → Int64 → Int32 → Int32 → V → VL → V → V → V → V → Prop} {K127 : Int32 → Int32 → Int32 → Int32 → Int32 → Int64 → Int32 → Int32 → Int32 → V → VL → V → V → V → V → Prop}  (X : CxW p s m args meth c cX0_change 13 (some .long) RX0 dC dI ct A) (hD : ∀ (x : V) (y : VL) (v0 : V) (v1 : V) (v2 : V) (v3 : V), va_D A (XW aX a0 a1 a2 a3 ct x y v0 v1 v2 v3)) (hK92 : ∀ (i1 : Int32) (i2 : Int32) (i3 : Int32) (i4 : Int32) (i5 : Int32) (l6 : Int64) (i8 : Int32) (i9 : Int32) (x : V) (y : VL) (v0 : V) (v1 : V) (v2 : V) (v3 : V), K92 i1 i2 i3 i4 i5 l6 i8 i9 x y v0 v1 v2 v3 → ∀ (H : Heap) (locs : List Loc) (ls : Array Slot), va_P (dC, dI) vwCl (XW aX a0 a1 a2 a3 ct x y v0 v1 v2 v3) H → va_S A s.heap H locs → lv_has ls 13 [(0, .ref (aX 0)), (1, .int i1), (2, .int i2), (3, .int i3), (4, .int i4), (5, .int i5), (6, .long l6), (8, .int i8), (9, .int i9)] → W p l e rm_X0_change s m args below meth c H locs 0 0 (MQ below (va_Ql (fun (r : Int64) (u : V × VL × V × V × V × V) => Post r u.1 u.2.1 u.2.2.1 u.2.2.2.1 u.2.2.2.2.1 u.2.2.2.2.2) (fun (u : V × VL × V × V × V × V) t => WPos dC dI ct (XW aX a0 a1 a2 a3 ct u.1 u.2.1 u.2.2.1 u.2.2.2.1 u.2.2.2.2.1 u.2.2.2.2.2) A t) A) args s 0 0 A) (F0 m 92 ls [])) (hK127 : ∀ (i1 : Int32) (i2 : Int32) (i3 : Int32) (i4 : Int32) (i5 : Int32) (l6 : Int64) (i8 : Int32) (i9 : Int32) (i10 : Int32) (x : V) (y : VL) (v0 : V) (v1 : V) (v2 : V) (v3 : V), K127 i1 i2 i3 i4 i5 l6 i8 i9 i10 x y v0 v1 v2 v3 → ∀ (H : Heap) (locs : List Loc) (ls : Array Slot), va_P (dC, dI) vwCl (XW aX a0 a1 a2 a3 ct x y v0 v1 v2 v3) H → va_S A s.heap H locs → lv_has ls 13 [(0, .ref (aX 0)), (1, .int i1), (2, .int i2), (3, .int i3), (4, .int i4), (5, .int i5), (6, .long l6), (8, .int i8), (9, .int i9), (10, .int i10)] → W p l e rm_X0_change s m args below meth c H locs 0 0 (MQ below (va_Ql (fun (r : Int64) (u : V × VL × V × V × V × V) => Post r u.1 u.2.1 u.2.2.1 u.2.2.2.1 u.2.2.2.2.1 u.2.2.2.2.2) (fun (u : V × VL × V × V × V × V) t => WPos dC dI ct (XW aX a0 a1 a2 a3 ct u.1 u.2.1 u.2.2.1 u.2.2.2.1 u.2.2.2.2.1 u.2.2.2.2.2) A t) A) args s 0 0 A) (F0 m 127 ls [])) (i1 : Int32) (i2 : Int32) (i3 : Int32) (i4 : Int32) (i5 : Int32) (l6 : Int64) (i9 : Int32) (i10 : Int32) (is0 : Int32) (x : V) (y : VL) (v0 : V) (v1 : V) (v2 : V) (v3 : V) (w : wp_X0_change_L220  Post K92 K127 i1 i2 i3 i4 i5 l6 i9 i10 is0 x y v0 v1 v2 v3) : ∀ (H : Heap) (locs : List Loc) (ls : Array Slot), va_P (dC, dI) vwCl (XW aX a0 a1 a2 a3 ct x y v0 v1 v2 v3) H → va_S A s.heap H locs → lv_has ls 13 [(0, .ref (aX 0)), (1, .int i1), (2, .int i2), (3, .int i3), (4, .int i4), (5, .int i5), (6, .long l6), (9, .int i9), (10, .int i10)] → W p l e rm_X0_change s m args below meth c H locs 0 0 (MQ below (va_Ql (fun (r : Int64) (u : V × VL × V × V × V × V) => Post r u.1 u.2.1 u.2.2.1 u.2.2.2.1 u.2.2.2.2.1 u.2.2.2.2.2) (fun (u : V × VL × V × V × V × V) t => WPos dC dI ct (XW aX a0 a1 a2 a3 ct u.1 u.2.1 u.2.2.1 u.2.2.2.1 u.2.2.2.2.1 u.2.2.2.2.2) A t) A) args s 0 0 A) (F0 m 220 ls [.int is0]) := by
  intro H locs ls hP hS hl
  have X0 := X
  obtain ⟨⟨hx, hb, hml, hr, hlk, hown, hts⟩, hA, hK, hN⟩ := X0
  unfold wp_X0_change_L220 at w
  refine lv_istore (lv' := [(8, .int is0), (0, .ref (aX 0)), (1, .int i1), (2, .int i2), (3, .int i3), (4, .int i4), (5, .int i5), (6, .long l6), (9, .int i9), (10, .int i10)]) hx hb dX0_change_220 hl (by decide) rfl (fun ls hl => ?_)
  refine lv_iinc (v := (i10 + 1)) (lv' := [(10, .int (i10 + 1)), (8, .int is0), (0, .ref (aX 0)), (1, .int i1), (2, .int i2), (3, .int i3), (4, .int i4), (5, .int i5), (6, .long l6), (9, .int i9)]) hx hb dX0_change_222 hl (k := 9) rfl rfl (by decide) rfl (fun ls hl => ?_)
  refine lv_goto (tgt := 127) hx hb dX0_change_225 (by decide) ?_
  exact hK127 _ _ _ _ _ _ _ _ _ _ _ _ _ _ _ w _ _ _ hP hS (lv_sub hl [2, 3, 4, 5, 6, 7, 8, 1, 9, 0] rfl)
set_option maxHeartbeats 4000000 in
set_option maxRecDepth 100000 in
theorem wk_X0_change_S127 {p : Program} {l : Launch} {e : Env} {s : State} {m : MethodId} {args : Array Value} {below : List Frame} {meth : Method} {c : Code} {dC : Nat → ClassId} {dI : Nat → Nat → Nat} {ct : Nat → ClassId} {A : Nat → Prop} {aX : Nat → Nat} {a0 : Nat → Nat} {a1 : Nat → Nat} {a2 : Nat → Nat} {a3 : Nat → Nat} {Post : Int64 → V → VL → V → V → V → V → Prop} {K92 : Int32 → Int32 → Int32 → Int32 → Int32 → Int64 → Int32 → Int32 → V → VL → V → V → V → V → Prop} {K127 : Int32 → Int32 → Int32 → Int32 → Int32 → Int64 → Int32 → Int32 → Int32 → V → VL → V → V → V → V → Prop}  (X : CxW p s m args meth c cX0_change 13 (some .long) RX0 dC dI ct A) (hD : ∀ (x : V) (y : VL) (v0 : V) (v1 : V) (v2 : V) (v3 : V), va_D A (XW aX a0 a1 a2 a3 ct x y v0 v1 v2 v3)) (hK92 : ∀ (i1 : Int32) (i2 : Int32) (i3 : Int32) (i4 : Int32) (i5 : Int32) (l6 : Int64) (i8 : Int32) (i9 : Int32) (x : V) (y : VL) (v0 : V) (v1 : V) (v2 : V) (v3 : V), K92 i1 i2 i3 i4 i5 l6 i8 i9 x y v0 v1 v2 v3 → ∀ (H : Heap) (locs : List Loc) (ls : Array Slot), va_P (dC, dI) vwCl (XW aX a0 a1 a2 a3 ct x y v0 v1 v2 v3) H → va_S A s.heap H locs → lv_has ls 13 [(0, .ref (aX 0)), (1, .int i1), (2, .int i2), (3, .int i3), (4, .int i4), (5, .int i5), (6, .long l6), (8, .int i8), (9, .int i9)] → W p l e rm_X0_change s m args below meth c H locs 0 0 (MQ below (va_Ql (fun (r : Int64) (u : V × VL × V × V × V × V) => Post r u.1 u.2.1 u.2.2.1 u.2.2.2.1 u.2.2.2.2.1 u.2.2.2.2.2) (fun (u : V × VL × V × V × V × V) t => WPos dC dI ct (XW aX a0 a1 a2 a3 ct u.1 u.2.1 u.2.2.1 u.2.2.2.1 u.2.2.2.2.1 u.2.2.2.2.2) A t) A) args s 0 0 A) (F0 m 92 ls [])) (hK127 : ∀ (i1 : Int32) (i2 : Int32) (i3 : Int32) (i4 : Int32) (i5 : Int32) (l6 : Int64) (i8 : Int32) (i9 : Int32) (i10 : Int32) (x : V) (y : VL) (v0 : V) (v1 : V) (v2 : V) (v3 : V), K127 i1 i2 i3 i4 i5 l6 i8 i9 i10 x y v0 v1 v2 v3 → ∀ (H : Heap) (locs : List Loc) (ls : Array Slot), va_P (dC, dI) vwCl (XW aX a0 a1 a2 a3 ct x y v0 v1 v2 v3) H → va_S A s.heap H locs → lv_has ls 13 [(0, .ref (aX 0)), (1, .int i1), (2, .int i2), (3, .int i3), (4, .int i4), (5, .int i5), (6, .long l6), (8, .int i8), (9, .int i9), (10, .int i10)] → W p l e rm_X0_change s m args below meth c H locs 0 0 (MQ below (va_Ql (fun (r : Int64) (u : V × VL × V × V × V × V) => Post r u.1 u.2.1 u.2.2.1 u.2.2.2.1 u.2.2.2.2.1 u.2.2.2.2.2) (fun (u : V × VL × V × V × V × V) t => WPos dC dI ct (XW aX a0 a1 a2 a3 ct u.1 u.2.1 u.2.2.1 u.2.2.2.1 u.2.2.2.2.1 u.2.2.2.2.2) A t) A) args s 0 0 A) (F0 m 127 ls [])) (i1 : Int32) (i2 : Int32) (i3 : Int32) (i4 : Int32) (i5 : Int32) (l6 : Int64) (i8 : Int32) (i9 : Int32) (i10 : Int32) (x : V) (y : VL) (v0 : V) (v1 : V) (v2 : V) (v3 : V) (w : wp_X0_change_S127  Post K92 K127 i1 i2 i3 i4 i5 l6 i8 i9 i10 x y v0 v1 v2 v3) : ∀ (H : Heap) (locs : List Loc) (ls : Array Slot), va_P (dC, dI) vwCl (XW aX a0 a1 a2 a3 ct x y v0 v1 v2 v3) H → va_S A s.heap H locs → lv_has ls 13 [(0, .ref (aX 0)), (1, .int i1), (2, .int i2), (3, .int i3), (4, .int i4), (5, .int i5), (6, .long l6), (8, .int i8), (9, .int i9), (10, .int i10)] → W p l e rm_X0_change s m args below meth c H locs 0 0 (MQ below (va_Ql (fun (r : Int64) (u : V × VL × V × V × V × V) => Post r u.1 u.2.1 u.2.2.1 u.2.2.2.1 u.2.2.2.2.1 u.2.2.2.2.2) (fun (u : V × VL × V × V × V × V) t => WPos dC dI ct (XW aX a0 a1 a2 a3 ct u.1 u.2.1 u.2.2.1 u.2.2.2.1 u.2.2.2.2.1 u.2.2.2.2.2) A t) A) args s 0 0 A) (F0 m 127 ls []) := by
  intro H locs ls hP hS hl
  have X0 := X
  obtain ⟨⟨hx, hb, hml, hr, hlk, hown, hts⟩, hA, hK, hN⟩ := X0
  unfold wp_X0_change_S127 at w
  refine lv_iload hx hb dX0_change_127 (lv_at hl 9 rfl) ?_
  refine lv_aload_n hx hb dX0_change_129 rfl (lv_at hl 0 rfl) ?_
  refine va_get (D := (dC, dI)) (ci := 0) (v := .ref (aX 7)) (C := RX0) (T := TX0) (N := 14) hx hb hts in_X0 hown hK hP 0 rfl rfl 11 (by decide) (hts _ q139) (fun _ h9 => h9) rfl dX0_change_130 ?_
  refine va_alen (v := 69) hx hb hK hP 7 1 rfl rfl rfl dX0_change_133 ?_
  refine lv_iload hx hb dX0_change_134 (lv_at hl 8 rfl) ?_
  refine lv_isub hx hb dX0_change_136 ?_
  refine lv_icmp_ge (tgt := 228) hx hb dX0_change_137 (by decide) (fun c => ?_) (fun c => ?_)
  · have w := And.left w c
    refine lv_iinc (v := (i9 + 1)) (lv' := [(9, .int (i9 + 1)), (0, .ref (aX 0)), (1, .int i1), (2, .int i2), (3, .int i3), (4, .int i4), (5, .int i5), (6, .long l6), (8, .int i8), (10, .int i10)]) hx hb dX0_change_228 hl (k := 8) rfl rfl (by decide) rfl (fun ls hl => ?_)
    refine lv_goto (tgt := 92) hx hb dX0_change_231 (by decide) ?_
    exact hK92 _ _ _ _ _ _ _ _ _ _ _ _ _ _ w _ _ _ hP hS (lv_sub hl [1, 2, 3, 4, 5, 6, 7, 8, 0] rfl)
  · have w := And.right w c
    refine lv_iload_n hx hb dX0_change_140 rfl (lv_at hl 3 rfl) ?_
    refine lv_i2l hx hb dX0_change_141 rfl ?_
    refine lv_aload_n hx hb dX0_change_142 rfl (lv_at hl 0 rfl) ?_
    refine va_get (D := (dC, dI)) (ci := 0) (v := .ref (aX 8)) (C := RX0) (T := TX0) (N := 14) hx hb hts in_X0 hown hK hP 0 rfl rfl 12 (by decide) (hts _ q140) (fun _ h9 => h9) rfl dX0_change_143 ?_
    refine lv_iconst (v := 0) hx hb dX0_change_146 (by decide) ?_
    refine lv_iload hx hb dX0_change_147 (lv_at hl 9 rfl) ?_
    refine lv_iconst (v := 3) hx hb dX0_change_149 (by decide) ?_
    refine lv_isub hx hb dX0_change_150 ?_
    refine va_mmax hx hb (hml.trans hl.1.symm) hown (hts _ q338) (hts _ q339) (hts _ q53) (hts _ q340) (Nat.le_of_ble_eq_true rfl) (Nat.le_of_ble_eq_true rfl) (Nat.zero_le _) (Nat.zero_le _) dX0_change_151 ?_
    obtain ⟨gi, w⟩ := w
    refine va_lald hx hb hK hP 8 1 rfl rfl gi dX0_change_154 ?_
    refine lv_lmul hx hb dX0_change_155 ?_
    refine lv_bipush (v := 10) hx hb dX0_change_156 (by decide) ?_
    refine lv_iload_n hx hb dX0_change_158 rfl (lv_at hl 3 rfl) ?_
    refine lv_isub hx hb dX0_change_159 ?_
    refine lv_i2l hx hb dX0_change_160 rfl ?_
    refine lv_aload_n hx hb dX0_change_161 rfl (lv_at hl 0 rfl) ?_
    refine va_get (D := (dC, dI)) (ci := 0) (v := .ref (aX 8)) (C := RX0) (T := TX0) (N := 14) hx hb hts in_X0 hown hK hP 0 rfl rfl 12 (by decide) (hts _ q140) (fun _ h9 => h9) rfl dX0_change_162 ?_
    refine lv_iload hx hb dX0_change_165 (lv_at hl 9 rfl) ?_
    refine lv_iconst (v := 1) hx hb dX0_change_167 (by decide) ?_
    refine lv_iadd hx hb dX0_change_168 ?_
    obtain ⟨gi, w⟩ := w
    refine va_lald hx hb hK hP 8 1 rfl rfl gi dX0_change_169 ?_
    refine lv_lmul hx hb dX0_change_170 ?_
    refine lv_ladd hx hb dX0_change_171 ?_
    refine lv_topl (fun n1 en1 => ?_)
    have w := w n1 en1
    refine lv_lstore (lv' := [(11, .long n1), (0, .ref (aX 0)), (1, .int i1), (2, .int i2), (3, .int i3), (4, .int i4), (5, .int i5), (6, .long l6), (8, .int i8), (9, .int i9), (10, .int i10)]) hx hb dX0_change_172 hl (by decide) rfl (fun ls hl => ?_)
    refine lv_aload_n hx hb dX0_change_174 rfl (lv_at hl 1 rfl) ?_
    refine va_get (D := (dC, dI)) (ci := 0) (v := .ref (aX 7)) (C := RX0) (T := TX0) (N := 14) hx hb hts in_X0 hown hK hP 0 rfl rfl 11 (by decide) (hts _ q139) (fun _ h9 => h9) rfl dX0_change_175 ?_
    refine lv_iload hx hb dX0_change_178 (lv_at hl 10 rfl) ?_
    refine lv_iload hx hb dX0_change_180 (lv_at hl 10 rfl) ?_
    refine lv_i2l hx hb dX0_change_182 rfl ?_
    refine lv_lload hx hb dX0_change_183 (lv_at hl 7 rfl) ?_
    refine lv_lmul hx hb dX0_change_185 ?_
    refine lv_lload hx hb dX0_change_186 (lv_at hl 0 rfl) ?_
    refine va_mmax_long hx hb (hml.trans hl.1.symm) hown (hts _ q383) (hts _ q384) (hts _ q53) (hts _ q385) (Nat.le_of_ble_eq_true rfl) (Nat.le_of_ble_eq_true rfl) (Nat.zero_le _) (Nat.zero_le _) dX0_change_188 ?_
    obtain ⟨gi, w⟩ := w
    refine va_last hx hb hK hP (hD _ _ _ _ _ _) hS 7 1 rfl rfl gi dX0_change_191 (fun H locs hP _ hS => ?_)
    have hP : va_P (dC, dI) vwCl (XW aX a0 a1 a2 a3 ct x (upL2 y 0 i10.toNatClampNeg (if n1 < (i10.toInt64 * l6) then (i10.toInt64 * l6) else n1)) v0 v1 v2 v3) H := XW_u_y_0 hP
    refine lv_iload hx hb dX0_change_192 (lv_at hl 10 rfl) ?_
    refine lv_iload_n hx hb dX0_change_194 rfl (lv_at hl 2 rfl) ?_
    refine lv_icmp_ne (tgt := 218) hx hb dX0_change_195 (by decide) (fun c => ?_) (fun c => ?_)
    · have w := And.right w c
      refine lv_iload hx hb dX0_change_218 (lv_at hl 8 rfl) ?_
      exact wk_X0_change_L220 X hD hK92 hK127 _ _ _ _ _ _ _ _ _ _ _ _ _ _ _ w _ _ _ hP hS (lv_sub hl [1, 2, 3, 4, 5, 6, 7, 9, 10] rfl)
    · have w := And.left w c
      refine lv_iload hx hb dX0_change_198 (lv_at hl 10 rfl) ?_
      refine lv_i2l hx hb dX0_change_200 rfl ?_
      refine lv_lload hx hb dX0_change_201 (lv_at hl 7 rfl) ?_
      refine lv_lmul hx hb dX0_change_203 ?_
      refine lv_lload hx hb dX0_change_204 (lv_at hl 0 rfl) ?_
      refine W.lcmp hx hb dX0_change_206 ?_
      refine lv_if_lt (tgt := 214) hx hb dX0_change_207 (by decide) (fun c => ?_) (fun c => ?_)
      · have w := And.left w c
        refine lv_iconst (v := 0) hx hb dX0_change_214 (by decide) ?_
        refine lv_goto (tgt := 220) hx hb dX0_change_215 (by decide) ?_
        exact wk_X0_change_L220 X hD hK92 hK127 _ _ _ _ _ _ _ _ _ _ _ _ _ _ _ w _ _ _ hP hS (lv_sub hl [1, 2, 3, 4, 5, 6, 7, 9, 10] rfl)
      · have w := And.right w c
        refine lv_iconst (v := 1) hx hb dX0_change_210 (by decide) ?_
        refine lv_goto (tgt := 220) hx hb dX0_change_211 (by decide) ?_
        exact wk_X0_change_L220 X hD hK92 hK127 _ _ _ _ _ _ _ _ _ _ _ _ _ _ _ w _ _ _ hP hS (lv_sub hl [1, 2, 3, 4, 5, 6, 7, 9, 10] rfl)
set_option maxHeartbeats 4000000 in
set_option maxRecDepth 100000 in
theorem wk_X0_change_L127 {p : Program} {l : Launch} {e : Env} {s : State} {m : MethodId} {args : Array Value} {below : List Frame} {meth : Method} {c : Code} {dC : Nat → ClassId} {dI : Nat → Nat → Nat} {ct : Nat → ClassId} {A : Nat → Prop} {aX : Nat → Nat} {a0 : Nat → Nat} {a1 : Nat → Nat} {a2 : Nat → Nat} {a3 : Nat → Nat} {Post : Int64 → V → VL → V → V → V → V → Prop} {K92 : Int32 → Int32 → Int32 → Int32 → Int32 → Int64 → Int32 → Int32 → V → VL → V → V → V → V → Prop}  (X : CxW p s m args meth c cX0_change 13 (some .long) RX0 dC dI ct A) (hD : ∀ (x : V) (y : VL) (v0 : V) (v1 : V) (v2 : V) (v3 : V), va_D A (XW aX a0 a1 a2 a3 ct x y v0 v1 v2 v3)) (hK92 : ∀ (i1 : Int32) (i2 : Int32) (i3 : Int32) (i4 : Int32) (i5 : Int32) (l6 : Int64) (i8 : Int32) (i9 : Int32) (x : V) (y : VL) (v0 : V) (v1 : V) (v2 : V) (v3 : V), K92 i1 i2 i3 i4 i5 l6 i8 i9 x y v0 v1 v2 v3 → ∀ (H : Heap) (locs : List Loc) (ls : Array Slot), va_P (dC, dI) vwCl (XW aX a0 a1 a2 a3 ct x y v0 v1 v2 v3) H → va_S A s.heap H locs → lv_has ls 13 [(0, .ref (aX 0)), (1, .int i1), (2, .int i2), (3, .int i3), (4, .int i4), (5, .int i5), (6, .long l6), (8, .int i8), (9, .int i9)] → W p l e rm_X0_change s m args below meth c H locs 0 0 (MQ below (va_Ql (fun (r : Int64) (u : V × VL × V × V × V × V) => Post r u.1 u.2.1 u.2.2.1 u.2.2.2.1 u.2.2.2.2.1 u.2.2.2.2.2) (fun (u : V × VL × V × V × V × V) t => WPos dC dI ct (XW aX a0 a1 a2 a3 ct u.1 u.2.1 u.2.2.1 u.2.2.2.1 u.2.2.2.2.1 u.2.2.2.2.2) A t) A) args s 0 0 A) (F0 m 92 ls [])) : ∀ (n : Nat) (i1 : Int32) (i2 : Int32) (i3 : Int32) (i4 : Int32) (i5 : Int32) (l6 : Int64) (i8 : Int32) (i9 : Int32) (i10 : Int32) (x : V) (y : VL) (v0 : V) (v1 : V) (v2 : V) (v3 : V), wp_X0_change_L127  Post K92 n i1 i2 i3 i4 i5 l6 i8 i9 i10 x y v0 v1 v2 v3 → ∀ (H : Heap) (locs : List Loc) (ls : Array Slot), va_P (dC, dI) vwCl (XW aX a0 a1 a2 a3 ct x y v0 v1 v2 v3) H → va_S A s.heap H locs → lv_has ls 13 [(0, .ref (aX 0)), (1, .int i1), (2, .int i2), (3, .int i3), (4, .int i4), (5, .int i5), (6, .long l6), (8, .int i8), (9, .int i9), (10, .int i10)] → W p l e rm_X0_change s m args below meth c H locs 0 0 (MQ below (va_Ql (fun (r : Int64) (u : V × VL × V × V × V × V) => Post r u.1 u.2.1 u.2.2.1 u.2.2.2.1 u.2.2.2.2.1 u.2.2.2.2.2) (fun (u : V × VL × V × V × V × V) t => WPos dC dI ct (XW aX a0 a1 a2 a3 ct u.1 u.2.1 u.2.2.1 u.2.2.2.1 u.2.2.2.2.1 u.2.2.2.2.2) A t) A) args s 0 0 A) (F0 m 127 ls []) := by
  intro n
  induction n with
  | zero => intro i1 i2 i3 i4 i5 l6 i8 i9 i10 x y v0 v1 v2 v3 w; exact False.elim w
  | succ n ih => intro i1 i2 i3 i4 i5 l6 i8 i9 i10 x y v0 v1 v2 v3 w H locs ls hP hS hl; exact wk_X0_change_S127 X hD hK92 ih i1 i2 i3 i4 i5 l6 i8 i9 i10 x y v0 v1 v2 v3 w H locs ls hP hS hl
set_option maxHeartbeats 4000000 in
set_option maxRecDepth 100000 in
theorem wk_X0_change_L282 {p : Program} {l : Launch} {e : Env} {s : State} {m : MethodId} {args : Array Value} {below : List Frame} {meth : Method} {c : Code} {dC : Nat → ClassId} {dI : Nat → Nat → Nat} {ct : Nat → ClassId} {A : Nat → Prop} {aX : Nat → Nat} {a0 : Nat → Nat} {a1 : Nat → Nat} {a2 : Nat → Nat} {a3 : Nat → Nat} {Post : Int64 → V → VL → V → V → V → V → Prop}   (X : CxW p s m args meth c cX0_change 13 (some .long) RX0 dC dI ct A) (hD : ∀ (x : V) (y : VL) (v0 : V) (v1 : V) (v2 : V) (v3 : V), va_D A (XW aX a0 a1 a2 a3 ct x y v0 v1 v2 v3))  (ls0 : Int64) (x : V) (y : VL) (v0 : V) (v1 : V) (v2 : V) (v3 : V) (w : wp_X0_change_L282  Post  ls0 x y v0 v1 v2 v3) : ∀ (H : Heap) (locs : List Loc) (ls : Array Slot), va_P (dC, dI) vwCl (XW aX a0 a1 a2 a3 ct x y v0 v1 v2 v3) H → va_S A s.heap H locs → lv_has ls 13 [] → W p l e rm_X0_change s m args below meth c H locs 0 0 (MQ below (va_Ql (fun (r : Int64) (u : V × VL × V × V × V × V) => Post r u.1 u.2.1 u.2.2.1 u.2.2.2.1 u.2.2.2.2.1 u.2.2.2.2.2) (fun (u : V × VL × V × V × V × V) t => WPos dC dI ct (XW aX a0 a1 a2 a3 ct u.1 u.2.1 u.2.2.1 u.2.2.2.1 u.2.2.2.2.1 u.2.2.2.2.2) A t) A) args s 0 0 A) (F0 m 282 ls [.long ls0]) := by
  intro H locs ls hP hS hl
  have X0 := X
  obtain ⟨⟨hx, hb, hml, hr, hlk, hown, hts⟩, hA, hK, hN⟩ := X0
  unfold wp_X0_change_L282 at w
  exact W.lret (v := ls0) hx hb hr (fun t ht hW => ⟨⟨ls0, (x, y, v0, v1, v2, v3), rfl, w, by rw [ht]; exact hP, va_K.moved hW.alike hK, (hD _ _ _ _ _ _)⟩, hS.F ht⟩) hS.2.2 dX0_change_282 hlk
set_option maxHeartbeats 4000000 in
set_option maxRecDepth 100000 in
theorem wk_X0_change_S92 {p : Program} {l : Launch} {e : Env} {s : State} {m : MethodId} {args : Array Value} {below : List Frame} {meth : Method} {c : Code} {dC : Nat → ClassId} {dI : Nat → Nat → Nat} {ct : Nat → ClassId} {A : Nat → Prop} {aX : Nat → Nat} {a0 : Nat → Nat} {a1 : Nat → Nat} {a2 : Nat → Nat} {a3 : Nat → Nat} {Post : Int64 → V → VL → V → V → V → V → Prop} {K92 : Int32 → Int32 → Int32 → Int32 → Int32 → Int64 → Int32 → Int32 → V → VL → V → V → V → V → Prop}  (X : CxW p s m args meth c cX0_change 13 (some .long) RX0 dC dI ct A) (hD : ∀ (x : V) (y : VL) (v0 : V) (v1 : V) (v2 : V) (v3 : V), va_D A (XW aX a0 a1 a2 a3 ct x y v0 v1 v2 v3)) (hK92 : ∀ (i1 : Int32) (i2 : Int32) (i3 : Int32) (i4 : Int32) (i5 : Int32) (l6 : Int64) (i8 : Int32) (i9 : Int32) (x : V) (y : VL) (v0 : V) (v1 : V) (v2 : V) (v3 : V), K92 i1 i2 i3 i4 i5 l6 i8 i9 x y v0 v1 v2 v3 → ∀ (H : Heap) (locs : List Loc) (ls : Array Slot), va_P (dC, dI) vwCl (XW aX a0 a1 a2 a3 ct x y v0 v1 v2 v3) H → va_S A s.heap H locs → lv_has ls 13 [(0, .ref (aX 0)), (1, .int i1), (2, .int i2), (3, .int i3), (4, .int i4), (5, .int i5), (6, .long l6), (8, .int i8), (9, .int i9)] → W p l e rm_X0_change s m args below meth c H locs 0 0 (MQ below (va_Ql (fun (r : Int64) (u : V × VL × V × V × V × V) => Post r u.1 u.2.1 u.2.2.1 u.2.2.2.1 u.2.2.2.2.1 u.2.2.2.2.2) (fun (u : V × VL × V × V × V × V) t => WPos dC dI ct (XW aX a0 a1 a2 a3 ct u.1 u.2.1 u.2.2.1 u.2.2.2.1 u.2.2.2.2.1 u.2.2.2.2.2) A t) A) args s 0 0 A) (F0 m 92 ls [])) (i1 : Int32) (i2 : Int32) (i3 : Int32) (i4 : Int32) (i5 : Int32) (l6 : Int64) (i8 : Int32) (i9 : Int32) (x : V) (y : VL) (v0 : V) (v1 : V) (v2 : V) (v3 : V) (w : wp_X0_change_S92  Post K92 i1 i2 i3 i4 i5 l6 i8 i9 x y v0 v1 v2 v3) : ∀ (H : Heap) (locs : List Loc) (ls : Array Slot), va_P (dC, dI) vwCl (XW aX a0 a1 a2 a3 ct x y v0 v1 v2 v3) H → va_S A s.heap H locs → lv_has ls 13 [(0, .ref (aX 0)), (1, .int i1), (2, .int i2), (3, .int i3), (4, .int i4), (5, .int i5), (6, .long l6), (8, .int i8), (9, .int i9)] → W p l e rm_X0_change s m args below meth c H locs 0 0 (MQ below (va_Ql (fun (r : Int64) (u : V × VL × V × V × V × V) => Post r u.1 u.2.1 u.2.2.1 u.2.2.2.1 u.2.2.2.2.1 u.2.2.2.2.2) (fun (u : V × VL × V × V × V × V) t => WPos dC dI ct (XW aX a0 a1 a2 a3 ct u.1 u.2.1 u.2.2.1 u.2.2.2.1 u.2.2.2.2.1 u.2.2.2.2.2) A t) A) args s 0 0 A) (F0 m 92 ls []) := by
  intro H locs ls hP hS hl
  have X0 := X
  obtain ⟨⟨hx, hb, hml, hr, hlk, hown, hts⟩, hA, hK, hN⟩ := X0
  unfold wp_X0_change_S92 at w
  refine lv_iload hx hb dX0_change_92 (lv_at hl 8 rfl) ?_
  refine lv_iload_n hx hb dX0_change_94 rfl (lv_at hl 2 rfl) ?_
  refine lv_icmp_gt (tgt := 234) hx hb dX0_change_95 (by decide) (fun c => ?_) (fun c => ?_)
  · have w := And.left w c
    refine lv_iload hx hb dX0_change_234 (lv_at hl 4 rfl) ?_
    refine lv_iconst (v := 1) hx hb dX0_change_236 (by decide) ?_
    refine lv_icmp_ne (tgt := 247) hx hb dX0_change_237 (by decide) (fun c => ?_) (fun c => ?_)
    · have w := And.right w c
      refine lv_aload_n hx hb dX0_change_247 rfl (lv_at hl 0 rfl) ?_
      refine va_get (D := (dC, dI)) (ci := 0) (v := .ref (aX 7)) (C := RX0) (T := TX0) (N := 14) hx hb hts in_X0 hown hK hP 0 rfl rfl 11 (by decide) (hts _ q139) (fun _ h9 => h9) rfl dX0_change_248 ?_
      refine lv_iload_n hx hb dX0_change_251 rfl (lv_at hl 1 rfl) ?_
      obtain ⟨gi, w⟩ := w
      refine va_lald hx hb hK hP 7 1 rfl rfl gi dX0_change_252 ?_
      refine lv_lload hx hb dX0_change_253 (lv_at hl 6 rfl) ?_
      refine vp_callSl (W.runS (As := [.long (y 0 i1.toNatClampNeg), .long l6]) (rest := []) ⟨hx, hb, hml, hown, hts⟩ (met_X0_divisor l 100 w) (va_cwS 2 hts (lw_S q386 q387 q48 q388) rfl rfl rfl hd_X0_divisor ⟨Nat.le_of_ble_eq_true rfl, Nat.le_of_ble_eq_true rfl⟩) pre_S rfl rfl hl.1 rfl (lv_room (Nat.le_of_ble_eq_true rfl)) dX0_change_255 ⟨Nat.le_refl _, Nat.le_refl _⟩) (fun r1 w => ?_)
      refine lv_lstore (lv' := [(9, .long r1), (0, .ref (aX 0)), (1, .int i1), (2, .int i2), (3, .int i3), (4, .int i4), (5, .int i5), (6, .long l6), (8, .int i8)]) hx hb dX0_change_258 hl (by decide) rfl (fun ls hl => ?_)
      refine lv_iload hx hb dX0_change_260 (lv_at hl 6 rfl) ?_
      refine lv_if_ne (tgt := 277) hx hb dX0_change_262 (by decide) (fun c => ?_) (fun c => ?_)
      · have w := And.right w c
        refine lv_lload hx hb dX0_change_277 (lv_at hl 7 rfl) ?_
        refine lv_lload hx hb dX0_change_279 (lv_at hl 0 rfl) ?_
        obtain ⟨g0, w⟩ := w
        refine lv_ldiv hx hb dX0_change_281 g0 ?_
        exact wk_X0_change_L282 X hD  _ _ _ _ _ _ _ w _ _ _ hP hS (lv_sub hl [] rfl)
      · have w := And.left w c
        refine lv_aload_n hx hb dX0_change_265 rfl (lv_at hl 1 rfl) ?_
        refine va_get (D := (dC, dI)) (ci := 0) (v := .ref (aX 7)) (C := RX0) (T := TX0) (N := 14) hx hb hts in_X0 hown hK hP 0 rfl rfl 11 (by decide) (hts _ q139) (fun _ h9 => h9) rfl dX0_change_266 ?_
        refine lv_iload_n hx hb dX0_change_269 rfl (lv_at hl 2 rfl) ?_
        obtain ⟨gi, w⟩ := w
        refine va_lald hx hb hK hP 7 1 rfl rfl gi dX0_change_270 ?_
        refine lv_lload hx hb dX0_change_271 (lv_at hl 0 rfl) ?_
        obtain ⟨g0, w⟩ := w
        refine lv_ldiv hx hb dX0_change_273 g0 ?_
        refine lv_goto (tgt := 282) hx hb dX0_change_274 (by decide) ?_
        exact wk_X0_change_L282 X hD  _ _ _ _ _ _ _ w _ _ _ hP hS (lv_sub hl [] rfl)
    · have w := And.left w c
      refine lv_iload hx hb dX0_change_240 (lv_at hl 7 rfl) ?_
      refine vp_callSi (W.runS (As := [.int i8]) (rest := []) ⟨hx, hb, hml, hown, hts⟩ (met_X0_asNumber l w) (va_cwS 1 hts (lw_S q341 q309 q48 q310) rfl rfl rfl hd_X0_asNumber ⟨Nat.le_of_ble_eq_true rfl, Nat.le_of_ble_eq_true rfl⟩) pre_S rfl rfl hl.1 rfl (lv_room (Nat.le_of_ble_eq_true rfl)) dX0_change_242 ⟨Nat.le_refl _, Nat.le_refl _⟩) (fun r2 w => ?_)
      refine lv_i2l hx hb dX0_change_245 rfl ?_
      exact W.lret (v := r2.toInt64) hx hb hr (fun t ht hW => ⟨⟨r2.toInt64, (x, y, v0, v1, v2, v3), rfl, w, by rw [ht]; exact hP, va_K.moved hW.alike hK, (hD _ _ _ _ _ _)⟩, hS.F ht⟩) hS.2.2 dX0_change_246 hlk
  · have w := And.right w c
    refine lv_lload hx hb dX0_change_98 (lv_at hl 6 rfl) ?_
    refine lv_ldc2 (v := 10) hx hb hown (hts _ q381) dX0_change_100 ?_
    refine lv_lmul hx hb dX0_change_103 ?_
    refine lv_lstore (lv' := [(6, .long (l6 * (10 : Int64))), (0, .ref (aX 0)), (1, .int i1), (2, .int i2), (3, .int i3), (4, .int i4), (5, .int i5), (8, .int i8), (9, .int i9)]) hx hb dX0_change_104 hl (by decide) rfl (fun ls hl => ?_)
    refine lv_aload_n hx hb dX0_change_106 rfl (lv_at hl 1 rfl) ?_
    refine va_get (D := (dC, dI)) (ci := 0) (v := .ref (aX 7)) (C := RX0) (T := TX0) (N := 14) hx hb hts in_X0 hown hK hP 0 rfl rfl 11 (by decide) (hts _ q139) (fun _ h9 => h9) rfl dX0_change_107 ?_
    refine lv_iconst (v := 0) hx hb dX0_change_110 (by decide) ?_
    refine lv_aload_n hx hb dX0_change_111 rfl (lv_at hl 1 rfl) ?_
    refine va_get (D := (dC, dI)) (ci := 0) (v := .ref (aX 8)) (C := RX0) (T := TX0) (N := 14) hx hb hts in_X0 hown hK hP 0 rfl rfl 12 (by decide) (hts _ q140) (fun _ h9 => h9) rfl dX0_change_112 ?_
    refine lv_iconst (v := 0) hx hb dX0_change_115 (by decide) ?_
    refine lv_aload_n hx hb dX0_change_116 rfl (lv_at hl 1 rfl) ?_
    refine va_get (D := (dC, dI)) (ci := 0) (v := .ref (aX 7)) (C := RX0) (T := TX0) (N := 14) hx hb hts in_X0 hown hK hP 0 rfl rfl 11 (by decide) (hts _ q139) (fun _ h9 => h9) rfl dX0_change_117 ?_
    refine va_alen (v := 69) hx hb hK hP 7 1 rfl rfl rfl dX0_change_120 ?_
    refine va_copyl hx hb (hml.trans hl.1.symm) hown (hts _ q382) (hts _ q235) (hts _ q234) (hts _ q52) hK hP (hD _ _ _ _ _ _) hS 7 8 1 1 rfl rfl rfl rfl rfl (by decide) (by decide) (by decide) (by decide) (by decide) (fun _ _ => rfl) (Nat.le_of_ble_eq_true rfl) (by decide +kernel) dX0_change_121 (fun H locs hP _ hS => ?_)
    have hP : va_P (dC, dI) vwCl (XW aX a0 a1 a2 a3 ct x (upRgL y 1 (va_cpy (y 0) (y 1) 0 0 69)) v0 v1 v2 v3) H := XW_r_y_1 hP
    refine lv_iconst (v := 0) hx hb dX0_change_124 (by decide) ?_
    refine lv_istore (lv' := [(10, .int (0 : Int32)), (6, .long (l6 * (10 : Int64))), (0, .ref (aX 0)), (1, .int i1), (2, .int i2), (3, .int i3), (4, .int i4), (5, .int i5), (8, .int i8), (9, .int i9)]) hx hb dX0_change_125 hl (by decide) rfl (fun ls hl => ?_)
    obtain ⟨n, w⟩ := w
    exact wk_X0_change_L127 X hD hK92 n _ _ _ _ _ _ _ _ _ _ _ _ _ _ _ w _ _ _ hP hS (lv_sub hl [2, 3, 4, 5, 6, 7, 1, 8, 9, 0] rfl)
set_option maxHeartbeats 4000000 in
set_option maxRecDepth 100000 in
theorem wk_X0_change_L92 {p : Program} {l : Launch} {e : Env} {s : State} {m : MethodId} {args : Array Value} {below : List Frame} {meth : Method} {c : Code} {dC : Nat → ClassId} {dI : Nat → Nat → Nat} {ct : Nat → ClassId} {A : Nat → Prop} {aX : Nat → Nat} {a0 : Nat → Nat} {a1 : Nat → Nat} {a2 : Nat → Nat} {a3 : Nat → Nat} {Post : Int64 → V → VL → V → V → V → V → Prop}   (X : CxW p s m args meth c cX0_change 13 (some .long) RX0 dC dI ct A) (hD : ∀ (x : V) (y : VL) (v0 : V) (v1 : V) (v2 : V) (v3 : V), va_D A (XW aX a0 a1 a2 a3 ct x y v0 v1 v2 v3))  : ∀ (n : Nat) (i1 : Int32) (i2 : Int32) (i3 : Int32) (i4 : Int32) (i5 : Int32) (l6 : Int64) (i8 : Int32) (i9 : Int32) (x : V) (y : VL) (v0 : V) (v1 : V) (v2 : V) (v3 : V), wp_X0_change_L92  Post  n i1 i2 i3 i4 i5 l6 i8 i9 x y v0 v1 v2 v3 → ∀ (H : Heap) (locs : List Loc) (ls : Array Slot), va_P (dC, dI) vwCl (XW aX a0 a1 a2 a3 ct x y v0 v1 v2 v3) H → va_S A s.heap H locs → lv_has ls 13 [(0, .ref (aX 0)), (1, .int i1), (2, .int i2), (3, .int i3), (4, .int i4), (5, .int i5), (6, .long l6), (8, .int i8), (9, .int i9)] → W p l e rm_X0_change s m args below meth c H locs 0 0 (MQ below (va_Ql (fun (r : Int64) (u : V × VL × V × V × V × V) => Post r u.1 u.2.1 u.2.2.1 u.2.2.2.1 u.2.2.2.2.1 u.2.2.2.2.2) (fun (u : V × VL × V × V × V × V) t => WPos dC dI ct (XW aX a0 a1 a2 a3 ct u.1 u.2.1 u.2.2.1 u.2.2.2.1 u.2.2.2.2.1 u.2.2.2.2.2) A t) A) args s 0 0 A) (F0 m 92 ls []) := by
  intro n
  induction n with
  | zero => intro i1 i2 i3 i4 i5 l6 i8 i9 x y v0 v1 v2 v3 w; exact False.elim w
  | succ n ih => intro i1 i2 i3 i4 i5 l6 i8 i9 x y v0 v1 v2 v3 w H locs ls hP hS hl; exact wk_X0_change_S92 X hD  ih i1 i2 i3 i4 i5 l6 i8 i9 x y v0 v1 v2 v3 w H locs ls hP hS hl
set_option maxHeartbeats 4000000 in
set_option maxRecDepth 100000 in
theorem wk_X0_change_S63 {p : Program} {l : Launch} {e : Env} {s : State} {m : MethodId} {args : Array Value} {below : List Frame} {meth : Method} {c : Code} {dC : Nat → ClassId} {dI : Nat → Nat → Nat} {ct : Nat → ClassId} {A : Nat → Prop} {aX : Nat → Nat} {a0 : Nat → Nat} {a1 : Nat → Nat} {a2 : Nat → Nat} {a3 : Nat → Nat} {Post : Int64 → V → VL → V → V → V → V → Prop} {K63 : Int32 → Int32 → Int32 → Int32 → Int32 → Int32 → V → VL → V → V → V → V → Prop}  (X : CxW p s m args meth c cX0_change 13 (some .long) RX0 dC dI ct A) (hD : ∀ (x : V) (y : VL) (v0 : V) (v1 : V) (v2 : V) (v3 : V), va_D A (XW aX a0 a1 a2 a3 ct x y v0 v1 v2 v3)) (hK63 : ∀ (i1 : Int32) (i2 : Int32) (i3 : Int32) (i4 : Int32) (i5 : Int32) (i9 : Int32) (x : V) (y : VL) (v0 : V) (v1 : V) (v2 : V) (v3 : V), K63 i1 i2 i3 i4 i5 i9 x y v0 v1 v2 v3 → ∀ (H : Heap) (locs : List Loc) (ls : Array Slot), va_P (dC, dI) vwCl (XW aX a0 a1 a2 a3 ct x y v0 v1 v2 v3) H → va_S A s.heap H locs → lv_has ls 13 [(0, .ref (aX 0)), (1, .int i1), (2, .int i2), (3, .int i3), (4, .int i4), (5, .int i5), (6, .long (1 : Int64)), (8, .int (1 : Int32)), (9, .int i9)] → W p l e rm_X0_change s m args below meth c H locs 0 0 (MQ below (va_Ql (fun (r : Int64) (u : V × VL × V × V × V × V) => Post r u.1 u.2.1 u.2.2.1 u.2.2.2.1 u.2.2.2.2.1 u.2.2.2.2.2) (fun (u : V × VL × V × V × V × V) t => WPos dC dI ct (XW aX a0 a1 a2 a3 ct u.1 u.2.1 u.2.2.1 u.2.2.2.1 u.2.2.2.2.1 u.2.2.2.2.2) A t) A) args s 0 0 A) (F0 m 63 ls [])) (i1 : Int32) (i2 : Int32) (i3 : Int32) (i4 : Int32) (i5 : Int32) (i9 : Int32) (x : V) (y : VL) (v0 : V) (v1 : V) (v2 : V) (v3 : V) (w : wp_X0_change_S63  Post K63 i1 i2 i3 i4 i5 i9 x y v0 v1 v2 v3) : ∀ (H : Heap) (locs : List Loc) (ls : Array Slot), va_P (dC, dI) vwCl (XW aX a0 a1 a2 a3 ct x y v0 v1 v2 v3) H → va_S A s.heap H locs → lv_has ls 13 [(0, .ref (aX 0)), (1, .int i1), (2, .int i2), (3, .int i3), (4, .int i4), (5, .int i5), (6, .long (1 : Int64)), (8, .int (1 : Int32)), (9, .int i9)] → W p l e rm_X0_change s m args below meth c H locs 0 0 (MQ below (va_Ql (fun (r : Int64) (u : V × VL × V × V × V × V) => Post r u.1 u.2.1 u.2.2.1 u.2.2.2.1 u.2.2.2.2.1 u.2.2.2.2.2) (fun (u : V × VL × V × V × V × V) t => WPos dC dI ct (XW aX a0 a1 a2 a3 ct u.1 u.2.1 u.2.2.1 u.2.2.2.1 u.2.2.2.2.1 u.2.2.2.2.2) A t) A) args s 0 0 A) (F0 m 63 ls []) := by
  intro H locs ls hP hS hl
  have X0 := X
  obtain ⟨⟨hx, hb, hml, hr, hlk, hown, hts⟩, hA, hK, hN⟩ := X0
  unfold wp_X0_change_S63 at w
  refine lv_iload hx hb dX0_change_63 (lv_at hl 8 rfl) ?_
  refine lv_aload_n hx hb dX0_change_65 rfl (lv_at hl 0 rfl) ?_
  refine va_get (D := (dC, dI)) (ci := 0) (v := .ref (aX 7)) (C := RX0) (T := TX0) (N := 14) hx hb hts in_X0 hown hK hP 0 rfl rfl 11 (by decide) (hts _ q139) (fun _ h9 => h9) rfl dX0_change_66 ?_
  refine va_alen (v := 69) hx hb hK hP 7 1 rfl rfl rfl dX0_change_69 ?_
  refine lv_icmp_ge (tgt := 89) hx hb dX0_change_70 (by decide) (fun c => ?_) (fun c => ?_)
  · have w := And.left w c
    refine lv_iconst (v := 1) hx hb dX0_change_89 (by decide) ?_
    refine lv_istore (lv' := [(9, .int (1 : Int32)), (0, .ref (aX 0)), (1, .int i1), (2, .int i2), (3, .int i3), (4, .int i4), (5, .int i5), (6, .long (1 : Int64)), (8, .int (1 : Int32))]) hx hb dX0_change_90 hl (by decide) rfl (fun ls hl => ?_)
    obtain ⟨n, w⟩ := w
    exact wk_X0_change_L92 X hD  n _ _ _ _ _ _ _ _ _ _ _ _ _ _ w _ _ _ hP hS (lv_sub hl [1, 2, 3, 4, 5, 6, 7, 8, 0] rfl)
  · have w := And.right w c
    refine lv_aload_n hx hb dX0_change_73 rfl (lv_at hl 0 rfl) ?_
    refine va_get (D := (dC, dI)) (ci := 0) (v := .ref (aX 7)) (C := RX0) (T := TX0) (N := 14) hx hb hts in_X0 hown hK hP 0 rfl rfl 11 (by decide) (hts _ q139) (fun _ h9 => h9) rfl dX0_change_74 ?_
    refine lv_iload hx hb dX0_change_77 (lv_at hl 8 rfl) ?_
    refine lv_iload hx hb dX0_change_79 (lv_at hl 8 rfl) ?_
    refine lv_i2l hx hb dX0_change_81 rfl ?_
    obtain ⟨gi, w⟩ := w
    refine va_last hx hb hK hP (hD _ _ _ _ _ _) hS 7 1 rfl rfl gi dX0_change_82 (fun H locs hP _ hS => ?_)
    have hP : va_P (dC, dI) vwCl (XW aX a0 a1 a2 a3 ct x (upL2 y 0 i9.toNatClampNeg i9.toInt64) v0 v1 v2 v3) H := XW_u_y_0 hP
    refine lv_iinc (v := (i9 + 1)) (lv' := [(9, .int (i9 + 1)), (0, .ref (aX 0)), (1, .int i1), (2, .int i2), (3, .int i3), (4, .int i4), (5, .int i5), (6, .long (1 : Int64)), (8, .int (1 : Int32))]) hx hb dX0_change_83 hl (k := 8) rfl rfl (by decide) rfl (fun ls hl => ?_)
    refine lv_goto (tgt := 63) hx hb dX0_change_86 (by decide) ?_
    exact hK63 _ _ _ _ _ _ _ _ _ _ _ _ w _ _ _ hP hS (lv_sub hl [1, 2, 3, 4, 5, 6, 7, 8, 0] rfl)
set_option maxHeartbeats 4000000 in
set_option maxRecDepth 100000 in
theorem wk_X0_change_L63 {p : Program} {l : Launch} {e : Env} {s : State} {m : MethodId} {args : Array Value} {below : List Frame} {meth : Method} {c : Code} {dC : Nat → ClassId} {dI : Nat → Nat → Nat} {ct : Nat → ClassId} {A : Nat → Prop} {aX : Nat → Nat} {a0 : Nat → Nat} {a1 : Nat → Nat} {a2 : Nat → Nat} {a3 : Nat → Nat} {Post : Int64 → V → VL → V → V → V → V → Prop}   (X : CxW p s m args meth c cX0_change 13 (some .long) RX0 dC dI ct A) (hD : ∀ (x : V) (y : VL) (v0 : V) (v1 : V) (v2 : V) (v3 : V), va_D A (XW aX a0 a1 a2 a3 ct x y v0 v1 v2 v3))  : ∀ (n : Nat) (i1 : Int32) (i2 : Int32) (i3 : Int32) (i4 : Int32) (i5 : Int32) (i9 : Int32) (x : V) (y : VL) (v0 : V) (v1 : V) (v2 : V) (v3 : V), wp_X0_change_L63  Post  n i1 i2 i3 i4 i5 i9 x y v0 v1 v2 v3 → ∀ (H : Heap) (locs : List Loc) (ls : Array Slot), va_P (dC, dI) vwCl (XW aX a0 a1 a2 a3 ct x y v0 v1 v2 v3) H → va_S A s.heap H locs → lv_has ls 13 [(0, .ref (aX 0)), (1, .int i1), (2, .int i2), (3, .int i3), (4, .int i4), (5, .int i5), (6, .long (1 : Int64)), (8, .int (1 : Int32)), (9, .int i9)] → W p l e rm_X0_change s m args below meth c H locs 0 0 (MQ below (va_Ql (fun (r : Int64) (u : V × VL × V × V × V × V) => Post r u.1 u.2.1 u.2.2.1 u.2.2.2.1 u.2.2.2.2.1 u.2.2.2.2.2) (fun (u : V × VL × V × V × V × V) t => WPos dC dI ct (XW aX a0 a1 a2 a3 ct u.1 u.2.1 u.2.2.1 u.2.2.2.1 u.2.2.2.2.1 u.2.2.2.2.2) A t) A) args s 0 0 A) (F0 m 63 ls []) := by
  intro n
  induction n with
  | zero => intro i1 i2 i3 i4 i5 i9 x y v0 v1 v2 v3 w; exact False.elim w
  | succ n ih => intro i1 i2 i3 i4 i5 i9 x y v0 v1 v2 v3 w H locs ls hP hS hl; exact wk_X0_change_S63 X hD  ih i1 i2 i3 i4 i5 i9 x y v0 v1 v2 v3 w H locs ls hP hS hl
set_option maxHeartbeats 4000000 in
set_option maxRecDepth 100000 in
theorem met_X0_change (l : Launch) (dC : Nat → ClassId) (dI : Nat → Nat → Nat) (ct : Nat → ClassId) (aX : Nat → Nat) (a0 : Nat → Nat) (a1 : Nat → Nat) (a2 : Nat → Nat) (a3 : Nat → Nat) (sz : Nat) {i1 : Int32} {i2 : Int32} {i3 : Int32} {i4 : Int32} {i5 : Int32} {x : V} {y : VL} {v0 : V} {v1 : V} {v2 : V} {v3 : V} {Post : Int64 → V → VL → V → V → V → V → Prop} (w : wp_X0_change i1 i2 i3 i4 i5 x y v0 v1 v2 v3 Post) : Met l yX0_change (ws_ yX0_change cX0_change 13 (some .long)) rm_X0_change (va_Pc [.ref (aX 0), .int i1, .int i2, .int i3, .int i4, .int i5] (fun U => WPre dC dI ct (XW aX a0 a1 a2 a3 ct x y v0 v1 v2 v3) sz U)) ((fun A => (va_Ql (fun (r : Int64) (u : V × VL × V × V × V × V) => Post r u.1 u.2.1 u.2.2.1 u.2.2.2.1 u.2.2.2.2.1 u.2.2.2.2.2) (fun (u : V × VL × V × V × V × V) t => WPos dC dI ct (XW aX a0 a1 a2 a3 ct u.1 u.2.1 u.2.2.1 u.2.2.2.1 u.2.2.2.2.1 u.2.2.2.2.2) A t) A)) (va_A (XW aX a0 a1 a2 a3 ct x y v0 v1 v2 v3) sz)) 0 0 (va_A (XW aX a0 a1 a2 a3 ct x y v0 v1 v2 v3) sz) := by
  refine open_W (fun A => (va_Ql (fun (r : Int64) (u : V × VL × V × V × V × V) => Post r u.1 u.2.1 u.2.2.1 u.2.2.2.1 u.2.2.2.2.1 u.2.2.2.2.2) (fun (u : V × VL × V × V × V × V) t => WPos dC dI ct (XW aX a0 a1 a2 a3 ct u.1 u.2.1 u.2.2.1 u.2.2.2.1 u.2.2.2.2.1 u.2.2.2.2.2) A t) A)) (by decide) (Nat.le_of_ble_eq_true rfl) ?_
  intro p e s m args below meth c ls A X hD0 hP hS hl
  have X0 := X
  obtain ⟨⟨hx, hb, hml, hr, hlk, hown, hts⟩, hA, hK, hN⟩ := X0
  have hD : ∀ (x' : V) (y' : VL) (v0' : V) (v1' : V) (v2' : V) (v3' : V), va_D A (XW aX a0 a1 a2 a3 ct x' y' v0' v1' v2' v3') := fun x' y' v0' v1' v2' v3' => va_D_addr hD0 rfl
  have hl : lv_has ls 13 [(0, .ref (aX 0)), (1, .int i1), (2, .int i2), (3, .int i3), (4, .int i4), (5, .int i5)] := hl
  unfold wp_X0_change at w
  have hS0 := hS
  refine lv_iload_n hx hb dX0_change_0 rfl (lv_at hl 1 rfl) ?_
  refine lv_iconst (v := 0) hx hb dX0_change_1 (by decide) ?_
  refine lv_bipush (v := 60) hx hb dX0_change_2 (by decide) ?_
  refine vp_callSi (W.runS (As := [.int i1, .int (0 : Int32), .int (60 : Int32)]) (rest := []) ⟨hx, hb, hml, hown, hts⟩ (met_X0_isIn l w) (va_cwS 3 hts (lw_S q180 q181 q48 q182) rfl rfl rfl hd_X0_isIn ⟨Nat.le_of_ble_eq_true rfl, Nat.le_of_ble_eq_true rfl⟩) pre_S rfl rfl hl.1 rfl (lv_room (Nat.le_of_ble_eq_true rfl)) dX0_change_4 ⟨Nat.le_refl _, Nat.le_refl _⟩) (fun r1 w => ?_)
  refine lv_if_eq (tgt := 50) hx hb dX0_change_7 (by decide) (fun c => ?_) (fun c => ?_)
  · have w := And.left w c
    exact wk_X0_change_L50 X hD  _ _ _ _ _ _ w _ _ _ hP hS (lv_sub hl [] rfl)
  · have w := And.right w c
    refine lv_iload_n hx hb dX0_change_10 rfl (lv_at hl 2 rfl) ?_
    refine lv_iconst (v := 0) hx hb dX0_change_11 (by decide) ?_
    refine lv_bipush (v := 8) hx hb dX0_change_12 (by decide) ?_
    refine vp_callSi (W.runS (As := [.int i2, .int (0 : Int32), .int (8 : Int32)]) (rest := []) ⟨hx, hb, hml, hown, hts⟩ (met_X0_isIn l w) (va_cwS 3 hts (lw_S q180 q181 q48 q182) rfl rfl rfl hd_X0_isIn ⟨Nat.le_of_ble_eq_true rfl, Nat.le_of_ble_eq_true rfl⟩) pre_S rfl rfl hl.1 rfl (lv_room (Nat.le_of_ble_eq_true rfl)) dX0_change_14 ⟨Nat.le_refl _, Nat.le_refl _⟩) (fun r2 w => ?_)
    refine lv_if_eq (tgt := 50) hx hb dX0_change_17 (by decide) (fun c => ?_) (fun c => ?_)
    · have w := And.left w c
      exact wk_X0_change_L50 X hD  _ _ _ _ _ _ w _ _ _ hP hS (lv_sub hl [] rfl)
    · have w := And.right w c
      refine lv_iload_n hx hb dX0_change_20 rfl (lv_at hl 3 rfl) ?_
      refine lv_iconst (v := 0) hx hb dX0_change_21 (by decide) ?_
      refine lv_bipush (v := 10) hx hb dX0_change_22 (by decide) ?_
      refine vp_callSi (W.runS (As := [.int i3, .int (0 : Int32), .int (10 : Int32)]) (rest := []) ⟨hx, hb, hml, hown, hts⟩ (met_X0_isIn l w) (va_cwS 3 hts (lw_S q180 q181 q48 q182) rfl rfl rfl hd_X0_isIn ⟨Nat.le_of_ble_eq_true rfl, Nat.le_of_ble_eq_true rfl⟩) pre_S rfl rfl hl.1 rfl (lv_room (Nat.le_of_ble_eq_true rfl)) dX0_change_24 ⟨Nat.le_refl _, Nat.le_refl _⟩) (fun r3 w => ?_)
      refine lv_if_eq (tgt := 50) hx hb dX0_change_27 (by decide) (fun c => ?_) (fun c => ?_)
      · have w := And.left w c
        exact wk_X0_change_L50 X hD  _ _ _ _ _ _ w _ _ _ hP hS (lv_sub hl [] rfl)
      · have w := And.right w c
        refine lv_iload hx hb dX0_change_30 (lv_at hl 4 rfl) ?_
        refine lv_iconst (v := 0) hx hb dX0_change_32 (by decide) ?_
        refine lv_iconst (v := 1) hx hb dX0_change_33 (by decide) ?_
        refine vp_callSi (W.runS (As := [.int i4, .int (0 : Int32), .int (1 : Int32)]) (rest := []) ⟨hx, hb, hml, hown, hts⟩ (met_X0_isIn l w) (va_cwS 3 hts (lw_S q180 q181 q48 q182) rfl rfl rfl hd_X0_isIn ⟨Nat.le_of_ble_eq_true rfl, Nat.le_of_ble_eq_true rfl⟩) pre_S rfl rfl hl.1 rfl (lv_room (Nat.le_of_ble_eq_true rfl)) dX0_change_34 ⟨Nat.le_refl _, Nat.le_refl _⟩) (fun r4 w => ?_)
        refine lv_if_eq (tgt := 50) hx hb dX0_change_37 (by decide) (fun c => ?_) (fun c => ?_)
        · have w := And.left w c
          exact wk_X0_change_L50 X hD  _ _ _ _ _ _ w _ _ _ hP hS (lv_sub hl [] rfl)
        · have w := And.right w c
          refine lv_iload hx hb dX0_change_40 (lv_at hl 5 rfl) ?_
          refine lv_iconst (v := 0) hx hb dX0_change_42 (by decide) ?_
          refine lv_iconst (v := 1) hx hb dX0_change_43 (by decide) ?_
          refine vp_callSi (W.runS (As := [.int i5, .int (0 : Int32), .int (1 : Int32)]) (rest := []) ⟨hx, hb, hml, hown, hts⟩ (met_X0_isIn l w) (va_cwS 3 hts (lw_S q180 q181 q48 q182) rfl rfl rfl hd_X0_isIn ⟨Nat.le_of_ble_eq_true rfl, Nat.le_of_ble_eq_true rfl⟩) pre_S rfl rfl hl.1 rfl (lv_room (Nat.le_of_ble_eq_true rfl)) dX0_change_44 ⟨Nat.le_refl _, Nat.le_refl _⟩) (fun r5 w => ?_)
          refine lv_if_ne (tgt := 54) hx hb dX0_change_47 (by decide) (fun c => ?_) (fun c => ?_)
          · have w := And.right w c
            refine lv_lconst (v := 1) hx hb dX0_change_54 (by decide) ?_
            refine lv_lstore (lv' := [(6, .long (1 : Int64)), (0, .ref (aX 0)), (1, .int i1), (2, .int i2), (3, .int i3), (4, .int i4), (5, .int i5)]) hx hb dX0_change_55 hl (by decide) rfl (fun ls hl => ?_)
            refine lv_iconst (v := 1) hx hb dX0_change_57 (by decide) ?_
            refine lv_istore (lv' := [(8, .int (1 : Int32)), (6, .long (1 : Int64)), (0, .ref (aX 0)), (1, .int i1), (2, .int i2), (3, .int i3), (4, .int i4), (5, .int i5)]) hx hb dX0_change_58 hl (by decide) rfl (fun ls hl => ?_)
            refine lv_iconst (v := 0) hx hb dX0_change_60 (by decide) ?_
            refine lv_istore (lv' := [(9, .int (0 : Int32)), (8, .int (1 : Int32)), (6, .long (1 : Int64)), (0, .ref (aX 0)), (1, .int i1), (2, .int i2), (3, .int i3), (4, .int i4), (5, .int i5)]) hx hb dX0_change_61 hl (by decide) rfl (fun ls hl => ?_)
            obtain ⟨n, w⟩ := w
            exact wk_X0_change_L63 X hD  n _ _ _ _ _ _ _ _ _ _ _ _ w _ _ _ hP hS (lv_sub hl [3, 4, 5, 6, 7, 8, 2, 1, 0] rfl)
          · have w := And.left w c
            exact wk_X0_change_L50 X hD  _ _ _ _ _ _ w _ _ _ hP hS (lv_sub hl [] rfl)
abbrev rm_X0_sample : Room := { frames := 101, cells := 0, slots := 0, locals := 2323 }
theorem hd_X0_sample : yX0_sample.cls = RX0 ∧ yX0_sample.cls ≠ "java/lang/invoke/MethodHandle" ∧ yX0_sample.cls ≠ "java/lang/invoke/VarHandle" ∧ (parseMethodDescriptor yX0_sample.desc).map (fun d => d.parameters.length) = some 5 := by decide +kernel
set_option maxHeartbeats 4000000 in
set_option maxRecDepth 100000 in
theorem wk_X0_sample_L48 {p : Program} {l : Launch} {e : Env} {s : State} {m : MethodId} {args : Array Value} {below : List Frame} {meth : Method} {c : Code} {dC : Nat → ClassId} {dI : Nat → Nat → Nat} {ct : Nat → ClassId} {A : Nat → Prop} {aX : Nat → Nat} {a0 : Nat → Nat} {a1 : Nat → Nat} {a2 : Nat → Nat} {a3 : Nat → Nat} {Post : Int64 → V → VL → V → V → V → V → Prop}   (X : CxW p s m args meth c cX0_sample 12 (some .long) RX0 dC dI ct A) (hD : ∀ (x : V) (y : VL) (v0 : V) (v1 : V) (v2 : V) (v3 : V), va_D A (XW aX a0 a1 a2 a3 ct x y v0 v1 v2 v3))  (x : V) (y : VL) (v0 : V) (v1 : V) (v2 : V) (v3 : V) (w : wp_X0_sample_L48  Post  x y v0 v1 v2 v3) : ∀ (H : Heap) (locs : List Loc) (ls : Array Slot), va_P (dC, dI) vwCl (XW aX a0 a1 a2 a3 ct x y v0 v1 v2 v3) H → va_S A s.heap H locs → lv_has ls 12 [] → W p l e rm_X0_sample s m args below meth c H locs 0 0 (MQ below (va_Ql (fun (r : Int64) (u : V × VL × V × V × V × V) => Post r u.1 u.2.1 u.2.2.1 u.2.2.2.1 u.2.2.2.2.1 u.2.2.2.2.2) (fun (u : V × VL × V × V × V × V) t => WPos dC dI ct (XW aX a0 a1 a2 a3 ct u.1 u.2.1 u.2.2.1 u.2.2.2.1 u.2.2.2.2.1 u.2.2.2.2.2) A t) A) args s 0 0 A) (F0 m 48 ls []) := by
  intro H locs ls hP hS hl
  have X0 := X
  obtain ⟨⟨hx, hb, hml, hr, hlk, hown, hts⟩, hA, hK, hN⟩ := X0
  unfold wp_X0_sample_L48 at w
  refine lv_ldc2 (v := -1000000000000000002) hx hb hown (hts _ q380) dX0_sample_48 ?_
  exact W.lret (v := (-1000000000000000002 : Int64)) hx hb hr (fun t ht hW => ⟨⟨(-1000000000000000002 : Int64), (x, y, v0, v1, v2, v3), rfl, w, by rw [ht]; exact hP, va_K.moved hW.alike hK, (hD _ _ _ _ _ _)⟩, hS.F ht⟩) hS.2.2 dX0_sample_51 hlk
set_option maxHeartbeats 4000000 in
set_option maxRecDepth 100000 in
theorem wk_X0_sample_L105 {p : Program} {l : Launch} {e : Env} {s : State} {m : MethodId} {args : Array Value} {below : List Frame} {meth : Method} {c : Code} {dC : Nat → ClassId} {dI : Nat → Nat → Nat} {ct : Nat → ClassId} {A : Nat → Prop} {aX : Nat → Nat} {a0 : Nat → Nat} {a1 : Nat → Nat} {a2 : Nat → Nat} {a3 : Nat → Nat} {Post : Int64 → V → VL → V → V → V → V → Prop}   (X : CxW p s m args meth c cX0_sample 12 (some .long) RX0 dC dI ct A) (hD : ∀ (x : V) (y : VL) (v0 : V) (v1 : V) (v2 : V) (v3 : V), va_D A (XW aX a0 a1 a2 a3 ct x y v0 v1 v2 v3))  (ls0 : Int64) (x : V) (y : VL) (v0 : V) (v1 : V) (v2 : V) (v3 : V) (w : wp_X0_sample_L105  Post  ls0 x y v0 v1 v2 v3) : ∀ (H : Heap) (locs : List Loc) (ls : Array Slot), va_P (dC, dI) vwCl (XW aX a0 a1 a2 a3 ct x y v0 v1 v2 v3) H → va_S A s.heap H locs → lv_has ls 12 [] → W p l e rm_X0_sample s m args below meth c H locs 0 0 (MQ below (va_Ql (fun (r : Int64) (u : V × VL × V × V × V × V) => Post r u.1 u.2.1 u.2.2.1 u.2.2.2.1 u.2.2.2.2.1 u.2.2.2.2.2) (fun (u : V × VL × V × V × V × V) t => WPos dC dI ct (XW aX a0 a1 a2 a3 ct u.1 u.2.1 u.2.2.1 u.2.2.2.1 u.2.2.2.2.1 u.2.2.2.2.2) A t) A) args s 0 0 A) (F0 m 105 ls [.long ls0]) := by
  intro H locs ls hP hS hl
  have X0 := X
  obtain ⟨⟨hx, hb, hml, hr, hlk, hown, hts⟩, hA, hK, hN⟩ := X0
  unfold wp_X0_sample_L105 at w
  exact W.lret (v := ls0) hx hb hr (fun t ht hW => ⟨⟨ls0, (x, y, v0, v1, v2, v3), rfl, w, by rw [ht]; exact hP, va_K.moved hW.alike hK, (hD _ _ _ _ _ _)⟩, hS.F ht⟩) hS.2.2 dX0_sample_105 hlk
set_option maxHeartbeats 4000000 in
set_option maxRecDepth 100000 in
theorem met_X0_sample (l : Launch) (dC : Nat → ClassId) (dI : Nat → Nat → Nat) (ct : Nat → ClassId) (aX : Nat → Nat) (a0 : Nat → Nat) (a1 : Nat → Nat) (a2 : Nat → Nat) (a3 : Nat → Nat) (sz : Nat) {i1 : Int32} {i2 : Int32} {i3 : Int32} {i4 : Int32} {i5 : Int32} {x : V} {y : VL} {v0 : V} {v1 : V} {v2 : V} {v3 : V} {Post : Int64 → V → VL → V → V → V → V → Prop} (w : wp_X0_sample i1 i2 i3 i4 i5 x y v0 v1 v2 v3 Post) : Met l yX0_sample (ws_ yX0_sample cX0_sample 12 (some .long)) rm_X0_sample (va_Pc [.ref (aX 0), .int i1, .int i2, .int i3, .int i4, .int i5] (fun U => WPre dC dI ct (XW aX a0 a1 a2 a3 ct x y v0 v1 v2 v3) sz U)) ((fun A => (va_Ql (fun (r : Int64) (u : V × VL × V × V × V × V) => Post r u.1 u.2.1 u.2.2.1 u.2.2.2.1 u.2.2.2.2.1 u.2.2.2.2.2) (fun (u : V × VL × V × V × V × V) t => WPos dC dI ct (XW aX a0 a1 a2 a3 ct u.1 u.2.1 u.2.2.1 u.2.2.2.1 u.2.2.2.2.1 u.2.2.2.2.2) A t) A)) (va_A (XW aX a0 a1 a2 a3 ct x y v0 v1 v2 v3) sz)) 0 0 (va_A (XW aX a0 a1 a2 a3 ct x y v0 v1 v2 v3) sz) := by
  refine open_W (fun A => (va_Ql (fun (r : Int64) (u : V × VL × V × V × V × V) => Post r u.1 u.2.1 u.2.2.1 u.2.2.2.1 u.2.2.2.2.1 u.2.2.2.2.2) (fun (u : V × VL × V × V × V × V) t => WPos dC dI ct (XW aX a0 a1 a2 a3 ct u.1 u.2.1 u.2.2.1 u.2.2.2.1 u.2.2.2.2.1 u.2.2.2.2.2) A t) A)) (by decide) (Nat.le_of_ble_eq_true rfl) ?_
  intro p e s m args below meth c ls A X hD0 hP hS hl
  have X0 := X
  obtain ⟨⟨hx, hb, hml, hr, hlk, hown, hts⟩, hA, hK, hN⟩ := X0
  have hD : ∀ (x' : V) (y' : VL) (v0' : V) (v1' : V) (v2' : V) (v3' : V), va_D A (XW aX a0 a1 a2 a3 ct x' y' v0' v1' v2' v3') := fun x' y' v0' v1' v2' v3' => va_D_addr hD0 rfl
  have hl : lv_has ls 12 [(0, .ref (aX 0)), (1, .int i1), (2, .int i2), (3, .int i3), (4, .int i4), (5, .int i5)] := hl
  unfold wp_X0_sample at w
  have hS0 := hS
  refine lv_iload_n hx hb dX0_sample_0 rfl (lv_at hl 1 rfl) ?_
  refine lv_iconst (v := 1) hx hb dX0_sample_1 (by decide) ?_
  refine lv_bipush (v := 30) hx hb dX0_sample_2 (by decide) ?_
  refine vp_callSi (W.runS (As := [.int i1, .int (1 : Int32), .int (30 : Int32)]) (rest := []) ⟨hx, hb, hml, hown, hts⟩ (met_X0_isIn l w) (va_cwS 3 hts (lw_S q180 q181 q48 q182) rfl rfl rfl hd_X0_isIn ⟨Nat.le_of_ble_eq_true rfl, Nat.le_of_ble_eq_true rfl⟩) pre_S rfl rfl hl.1 rfl (lv_room (Nat.le_of_ble_eq_true rfl)) dX0_sample_4 ⟨Nat.le_refl _, Nat.le_refl _⟩) (fun r1 w => ?_)
  refine lv_if_eq (tgt := 48) hx hb dX0_sample_7 (by decide) (fun c => ?_) (fun c => ?_)
  · have w := And.left w c
    exact wk_X0_sample_L48 X hD  _ _ _ _ _ _ w _ _ _ hP hS (lv_sub hl [] rfl)
  · have w := And.right w c
    refine lv_iload_n hx hb dX0_sample_10 rfl (lv_at hl 2 rfl) ?_
    refine lv_iconst (v := 0) hx hb dX0_sample_11 (by decide) ?_
    refine lv_iload_n hx hb dX0_sample_12 rfl (lv_at hl 1 rfl) ?_
    refine vp_callSi (W.runS (As := [.int i2, .int (0 : Int32), .int i1]) (rest := []) ⟨hx, hb, hml, hown, hts⟩ (met_X0_isIn l w) (va_cwS 3 hts (lw_S q180 q181 q48 q182) rfl rfl rfl hd_X0_isIn ⟨Nat.le_of_ble_eq_true rfl, Nat.le_of_ble_eq_true rfl⟩) pre_S rfl rfl hl.1 rfl (lv_room (Nat.le_of_ble_eq_true rfl)) dX0_sample_13 ⟨Nat.le_refl _, Nat.le_refl _⟩) (fun r2 w => ?_)
    refine lv_if_eq (tgt := 48) hx hb dX0_sample_16 (by decide) (fun c => ?_) (fun c => ?_)
    · have w := And.left w c
      exact wk_X0_sample_L48 X hD  _ _ _ _ _ _ w _ _ _ hP hS (lv_sub hl [] rfl)
    · have w := And.right w c
      refine lv_iload_n hx hb dX0_sample_19 rfl (lv_at hl 3 rfl) ?_
      refine lv_iconst (v := 0) hx hb dX0_sample_20 (by decide) ?_
      refine lv_iload_n hx hb dX0_sample_21 rfl (lv_at hl 1 rfl) ?_
      refine vp_callSi (W.runS (As := [.int i3, .int (0 : Int32), .int i1]) (rest := []) ⟨hx, hb, hml, hown, hts⟩ (met_X0_isIn l w) (va_cwS 3 hts (lw_S q180 q181 q48 q182) rfl rfl rfl hd_X0_isIn ⟨Nat.le_of_ble_eq_true rfl, Nat.le_of_ble_eq_true rfl⟩) pre_S rfl rfl hl.1 rfl (lv_room (Nat.le_of_ble_eq_true rfl)) dX0_sample_22 ⟨Nat.le_refl _, Nat.le_refl _⟩) (fun r3 w => ?_)
      refine lv_if_eq (tgt := 48) hx hb dX0_sample_25 (by decide) (fun c => ?_) (fun c => ?_)
      · have w := And.left w c
        exact wk_X0_sample_L48 X hD  _ _ _ _ _ _ w _ _ _ hP hS (lv_sub hl [] rfl)
      · have w := And.right w c
        refine lv_iload hx hb dX0_sample_28 (lv_at hl 4 rfl) ?_
        refine lv_iconst (v := 0) hx hb dX0_sample_30 (by decide) ?_
        refine lv_iload_n hx hb dX0_sample_31 rfl (lv_at hl 3 rfl) ?_
        refine vp_callSi (W.runS (As := [.int i4, .int (0 : Int32), .int i3]) (rest := []) ⟨hx, hb, hml, hown, hts⟩ (met_X0_isIn l w) (va_cwS 3 hts (lw_S q180 q181 q48 q182) rfl rfl rfl hd_X0_isIn ⟨Nat.le_of_ble_eq_true rfl, Nat.le_of_ble_eq_true rfl⟩) pre_S rfl rfl hl.1 rfl (lv_room (Nat.le_of_ble_eq_true rfl)) dX0_sample_32 ⟨Nat.le_refl _, Nat.le_refl _⟩) (fun r4 w => ?_)
        refine lv_if_eq (tgt := 48) hx hb dX0_sample_35 (by decide) (fun c => ?_) (fun c => ?_)
        · have w := And.left w c
          exact wk_X0_sample_L48 X hD  _ _ _ _ _ _ w _ _ _ hP hS (lv_sub hl [] rfl)
        · have w := And.right w c
          refine lv_iload hx hb dX0_sample_38 (lv_at hl 5 rfl) ?_
          refine lv_iconst (v := 0) hx hb dX0_sample_40 (by decide) ?_
          refine lv_iconst (v := 1) hx hb dX0_sample_41 (by decide) ?_
          refine vp_callSi (W.runS (As := [.int i5, .int (0 : Int32), .int (1 : Int32)]) (rest := []) ⟨hx, hb, hml, hown, hts⟩ (met_X0_isIn l w) (va_cwS 3 hts (lw_S q180 q181 q48 q182) rfl rfl rfl hd_X0_isIn ⟨Nat.le_of_ble_eq_true rfl, Nat.le_of_ble_eq_true rfl⟩) pre_S rfl rfl hl.1 rfl (lv_room (Nat.le_of_ble_eq_true rfl)) dX0_sample_42 ⟨Nat.le_refl _, Nat.le_refl _⟩) (fun r5 w => ?_)
          refine lv_if_ne (tgt := 52) hx hb dX0_sample_45 (by decide) (fun c => ?_) (fun c => ?_)
          · have w := And.right w c
            refine lv_iload_n hx hb dX0_sample_52 rfl (lv_at hl 2 rfl) ?_
            refine lv_iload hx hb dX0_sample_53 (lv_at hl 4 rfl) ?_
            refine vp_callSl (W.runS (As := [.int i2, .int i4]) (rest := []) ⟨hx, hb, hml, hown, hts⟩ (met_X0_choose l w) (va_cwS 2 hts (lw_S q393 q394 q48 q395) rfl rfl rfl hd_X0_choose ⟨Nat.le_of_ble_eq_true rfl, Nat.le_of_ble_eq_true rfl⟩) pre_S rfl rfl hl.1 rfl (lv_room (Nat.le_of_ble_eq_true rfl)) dX0_sample_55 ⟨Nat.le_refl _, Nat.le_refl _⟩) (fun r6 w => ?_)
            refine lv_iload_n hx hb dX0_sample_58 rfl (lv_at hl 1 rfl) ?_
            refine lv_iload_n hx hb dX0_sample_59 rfl (lv_at hl 2 rfl) ?_
            refine lv_isub hx hb dX0_sample_60 ?_
            refine lv_iload_n hx hb dX0_sample_61 rfl (lv_at hl 3 rfl) ?_
            refine lv_iload hx hb dX0_sample_62 (lv_at hl 4 rfl) ?_
            refine lv_isub hx hb dX0_sample_64 ?_
            refine vp_callSl (W.runS (As := [.int (i1 - i2), .int (i3 - i4)]) (rest := [.long r6]) ⟨hx, hb, hml, hown, hts⟩ (met_X0_choose l w) (va_cwS 2 hts (lw_S q393 q394 q48 q395) rfl rfl rfl hd_X0_choose ⟨Nat.le_of_ble_eq_true rfl, Nat.le_of_ble_eq_true rfl⟩) pre_S rfl rfl hl.1 rfl (lv_room (Nat.le_of_ble_eq_true rfl)) dX0_sample_65 ⟨Nat.le_refl _, Nat.le_refl _⟩) (fun r7 w => ?_)
            refine lv_lmul hx hb dX0_sample_68 ?_
            refine lv_lstore (lv' := [(6, .long (r6 * r7)), (0, .ref (aX 0)), (1, .int i1), (2, .int i2), (3, .int i3), (4, .int i4), (5, .int i5)]) hx hb dX0_sample_69 hl (by decide) rfl (fun ls hl => ?_)
            refine lv_iload_n hx hb dX0_sample_71 rfl (lv_at hl 2 rfl) ?_
            refine lv_iload_n hx hb dX0_sample_72 rfl (lv_at hl 4 rfl) ?_
            refine vp_callSl (W.runS (As := [.int i1, .int i3]) (rest := []) ⟨hx, hb, hml, hown, hts⟩ (met_X0_choose l w) (va_cwS 2 hts (lw_S q393 q394 q48 q395) rfl rfl rfl hd_X0_choose ⟨Nat.le_of_ble_eq_true rfl, Nat.le_of_ble_eq_true rfl⟩) pre_S rfl rfl hl.1 rfl (lv_room (Nat.le_of_ble_eq_true rfl)) dX0_sample_73 ⟨Nat.le_refl _, Nat.le_refl _⟩) (fun r8 w => ?_)
            refine lv_lstore (lv' := [(8, .long r8), (6, .long (r6 * r7)), (0, .ref (aX 0)), (1, .int i1), (2, .int i2), (3, .int i3), (4, .int i4), (5, .int i5)]) hx hb dX0_sample_76 hl (by decide) rfl (fun ls hl => ?_)
            refine lv_lload hx hb dX0_sample_78 (lv_at hl 1 rfl) ?_
            refine lv_lload hx hb dX0_sample_80 (lv_at hl 0 rfl) ?_
            refine vp_callSl (W.runS (As := [.long (r6 * r7), .long r8]) (rest := []) ⟨hx, hb, hml, hown, hts⟩ (met_X0_divisor l 100 w) (va_cwS 2 hts (lw_S q386 q387 q48 q388) rfl rfl rfl hd_X0_divisor ⟨Nat.le_of_ble_eq_true rfl, Nat.le_of_ble_eq_true rfl⟩) pre_S rfl rfl hl.1 rfl (lv_room (Nat.le_of_ble_eq_true rfl)) dX0_sample_82 ⟨Nat.le_refl _, Nat.le_refl _⟩) (fun r9 w => ?_)
            refine lv_lstore (lv' := [(10, .long r9), (8, .long r8), (6, .long (r6 * r7)), (0, .ref (aX 0)), (1, .int i1), (2, .int i2), (3, .int i3), (4, .int i4), (5, .int i5)]) hx hb dX0_sample_85 hl (by decide) rfl (fun ls hl => ?_)
            refine lv_iload hx hb dX0_sample_87 (lv_at hl 8 rfl) ?_
            refine lv_if_ne (tgt := 100) hx hb dX0_sample_89 (by decide) (fun c => ?_) (fun c => ?_)
            · have w := And.right w c
              refine lv_lload hx hb dX0_sample_100 (lv_at hl 1 rfl) ?_
              refine lv_lload hx hb dX0_sample_102 (lv_at hl 0 rfl) ?_
              obtain ⟨g0, w⟩ := w
              refine lv_ldiv hx hb dX0_sample_104 g0 ?_
              exact wk_X0_sample_L105 X hD  _ _ _ _ _ _ _ w _ _ _ hP hS (lv_sub hl [] rfl)
            · have w := And.left w c
              refine lv_lload hx hb dX0_sample_92 (lv_at hl 2 rfl) ?_
              refine lv_lload hx hb dX0_sample_94 (lv_at hl 0 rfl) ?_
              obtain ⟨g0, w⟩ := w
              refine lv_ldiv hx hb dX0_sample_96 g0 ?_
              refine lv_goto (tgt := 105) hx hb dX0_sample_97 (by decide) ?_
              exact wk_X0_sample_L105 X hD  _ _ _ _ _ _ _ w _ _ _ hP hS (lv_sub hl [] rfl)
          · have w := And.left w c
            exact wk_X0_sample_L48 X hD  _ _ _ _ _ _ w _ _ _ hP hS (lv_sub hl [] rfl)
abbrev rm_X0_seen : Room := { frames := 1, cells := 0, slots := 0, locals := 22 }
theorem hd_X0_seen : yX0_seen.cls = RX0 ∧ yX0_seen.cls ≠ "java/lang/invoke/MethodHandle" ∧ yX0_seen.cls ≠ "java/lang/invoke/VarHandle" ∧ (parseMethodDescriptor yX0_seen.desc).map (fun d => d.parameters.length) = some 3 := by decide +kernel
set_option maxHeartbeats 4000000 in
set_option maxRecDepth 100000 in
theorem wk_X0_seen_L30 {p : Program} {l : Launch} {e : Env} {s : State} {m : MethodId} {args : Array Value} {below : List Frame} {meth : Method} {c : Code} {dC : Nat → ClassId} {dI : Nat → Nat → Nat} {ct : Nat → ClassId} {A : Nat → Prop} {aX : Nat → Nat} {a0 : Nat → Nat} {a1 : Nat → Nat} {a2 : Nat → Nat} {a3 : Nat → Nat} {Post : Int32 → V → VL → V → V → V → V → Prop}   (X : CxW p s m args meth c cX0_seen 4 (some .int) RX0 dC dI ct A) (hD : ∀ (x : V) (y : VL) (v0 : V) (v1 : V) (v2 : V) (v3 : V), va_D A (XW aX a0 a1 a2 a3 ct x y v0 v1 v2 v3))  (x : V) (y : VL) (v0 : V) (v1 : V) (v2 : V) (v3 : V) (w : wp_X0_seen_L30  Post  x y v0 v1 v2 v3) : ∀ (H : Heap) (locs : List Loc) (ls : Array Slot), va_P (dC, dI) vwCl (XW aX a0 a1 a2 a3 ct x y v0 v1 v2 v3) H → va_S A s.heap H locs → lv_has ls 4 [] → W p l e rm_X0_seen s m args below meth c H locs 0 0 (MQ below (va_Qi (fun (r : Int32) (u : V × VL × V × V × V × V) => Post r u.1 u.2.1 u.2.2.1 u.2.2.2.1 u.2.2.2.2.1 u.2.2.2.2.2) (fun (u : V × VL × V × V × V × V) t => WPos dC dI ct (XW aX a0 a1 a2 a3 ct u.1 u.2.1 u.2.2.1 u.2.2.2.1 u.2.2.2.2.1 u.2.2.2.2.2) A t) A) args s 0 0 A) (F0 m 30 ls []) := by
  intro H locs ls hP hS hl
  have X0 := X
  obtain ⟨⟨hx, hb, hml, hr, hlk, hown, hts⟩, hA, hK, hN⟩ := X0
  unfold wp_X0_seen_L30 at w
  refine lv_bipush (v := -2) hx hb dX0_seen_30 (by decide) ?_
  exact W.iret (v := (-2 : Int32)) hx hb hr (fun t ht hW => ⟨⟨(-2 : Int32), (x, y, v0, v1, v2, v3), rfl, w, by rw [ht]; exact hP, va_K.moved hW.alike hK, (hD _ _ _ _ _ _)⟩, hS.F ht⟩) hS.2.2 dX0_seen_32 hlk
set_option maxHeartbeats 4000000 in
set_option maxRecDepth 100000 in
theorem met_X0_seen (l : Launch) (dC : Nat → ClassId) (dI : Nat → Nat → Nat) (ct : Nat → ClassId) (aX : Nat → Nat) (a0 : Nat → Nat) (a1 : Nat → Nat) (a2 : Nat → Nat) (a3 : Nat → Nat) (sz : Nat) {i1 : Int32} {i2 : Int32} {i3 : Int32} {x : V} {y : VL} {v0 : V} {v1 : V} {v2 : V} {v3 : V} {Post : Int32 → V → VL → V → V → V → V → Prop} (w : wp_X0_seen i1 i2 i3 x y v0 v1 v2 v3 Post) : Met l yX0_seen (ws_ yX0_seen cX0_seen 4 (some .int)) rm_X0_seen (va_Pc [.ref (aX 0), .int i1, .int i2, .int i3] (fun U => WPre dC dI ct (XW aX a0 a1 a2 a3 ct x y v0 v1 v2 v3) sz U)) ((fun A => (va_Qi (fun (r : Int32) (u : V × VL × V × V × V × V) => Post r u.1 u.2.1 u.2.2.1 u.2.2.2.1 u.2.2.2.2.1 u.2.2.2.2.2) (fun (u : V × VL × V × V × V × V) t => WPos dC dI ct (XW aX a0 a1 a2 a3 ct u.1 u.2.1 u.2.2.1 u.2.2.2.1 u.2.2.2.2.1 u.2.2.2.2.2) A t) A)) (va_A (XW aX a0 a1 a2 a3 ct x y v0 v1 v2 v3) sz)) 0 0 (va_A (XW aX a0 a1 a2 a3 ct x y v0 v1 v2 v3) sz) := by
  refine open_W (fun A => (va_Qi (fun (r : Int32) (u : V × VL × V × V × V × V) => Post r u.1 u.2.1 u.2.2.1 u.2.2.2.1 u.2.2.2.2.1 u.2.2.2.2.2) (fun (u : V × VL × V × V × V × V) t => WPos dC dI ct (XW aX a0 a1 a2 a3 ct u.1 u.2.1 u.2.2.1 u.2.2.2.1 u.2.2.2.2.1 u.2.2.2.2.2) A t) A)) (by decide) (Nat.le_of_ble_eq_true rfl) ?_
  intro p e s m args below meth c ls A X hD0 hP hS hl
  have X0 := X
  obtain ⟨⟨hx, hb, hml, hr, hlk, hown, hts⟩, hA, hK, hN⟩ := X0
  have hD : ∀ (x' : V) (y' : VL) (v0' : V) (v1' : V) (v2' : V) (v3' : V), va_D A (XW aX a0 a1 a2 a3 ct x' y' v0' v1' v2' v3') := fun x' y' v0' v1' v2' v3' => va_D_addr hD0 rfl
  have hl : lv_has ls 4 [(0, .ref (aX 0)), (1, .int i1), (2, .int i2), (3, .int i3)] := hl
  unfold wp_X0_seen at w
  have hS0 := hS
  refine lv_iload_n hx hb dX0_seen_0 rfl (lv_at hl 1 rfl) ?_
  refine lv_iconst (v := 0) hx hb dX0_seen_1 (by decide) ?_
  refine lv_sipush (v := 255) hx hb dX0_seen_2 (by decide) ?_
  refine vp_callSi (W.runS (As := [.int i1, .int (0 : Int32), .int (255 : Int32)]) (rest := []) ⟨hx, hb, hml, hown, hts⟩ (met_X0_isIn l w) (va_cwS 3 hts (lw_S q180 q181 q48 q182) rfl rfl rfl hd_X0_isIn ⟨Nat.le_of_ble_eq_true rfl, Nat.le_of_ble_eq_true rfl⟩) pre_S rfl rfl hl.1 rfl (lv_room (Nat.le_of_ble_eq_true rfl)) dX0_seen_5 ⟨Nat.le_refl _, Nat.le_refl _⟩) (fun r1 w => ?_)
  refine lv_if_eq (tgt := 30) hx hb dX0_seen_8 (by decide) (fun c => ?_) (fun c => ?_)
  · have w := And.left w c
    exact wk_X0_seen_L30 X hD  _ _ _ _ _ _ w _ _ _ hP hS (lv_sub hl [] rfl)
  · have w := And.right w c
    refine lv_iload_n hx hb dX0_seen_11 rfl (lv_at hl 2 rfl) ?_
    refine lv_iconst (v := 0) hx hb dX0_seen_12 (by decide) ?_
    refine lv_bipush (v := 8) hx hb dX0_seen_13 (by decide) ?_
    refine vp_callSi (W.runS (As := [.int i2, .int (0 : Int32), .int (8 : Int32)]) (rest := []) ⟨hx, hb, hml, hown, hts⟩ (met_X0_isIn l w) (va_cwS 3 hts (lw_S q180 q181 q48 q182) rfl rfl rfl hd_X0_isIn ⟨Nat.le_of_ble_eq_true rfl, Nat.le_of_ble_eq_true rfl⟩) pre_S rfl rfl hl.1 rfl (lv_room (Nat.le_of_ble_eq_true rfl)) dX0_seen_15 ⟨Nat.le_refl _, Nat.le_refl _⟩) (fun r2 w => ?_)
    refine lv_if_eq (tgt := 30) hx hb dX0_seen_18 (by decide) (fun c => ?_) (fun c => ?_)
    · have w := And.left w c
      exact wk_X0_seen_L30 X hD  _ _ _ _ _ _ w _ _ _ hP hS (lv_sub hl [] rfl)
    · have w := And.right w c
      refine lv_iload_n hx hb dX0_seen_21 rfl (lv_at hl 3 rfl) ?_
      refine lv_iconst (v := 0) hx hb dX0_seen_22 (by decide) ?_
      refine lv_iconst (v := 1) hx hb dX0_seen_23 (by decide) ?_
      refine vp_callSi (W.runS (As := [.int i3, .int (0 : Int32), .int (1 : Int32)]) (rest := []) ⟨hx, hb, hml, hown, hts⟩ (met_X0_isIn l w) (va_cwS 3 hts (lw_S q180 q181 q48 q182) rfl rfl rfl hd_X0_isIn ⟨Nat.le_of_ble_eq_true rfl, Nat.le_of_ble_eq_true rfl⟩) pre_S rfl rfl hl.1 rfl (lv_room (Nat.le_of_ble_eq_true rfl)) dX0_seen_24 ⟨Nat.le_refl _, Nat.le_refl _⟩) (fun r3 w => ?_)
      refine lv_if_ne (tgt := 33) hx hb dX0_seen_27 (by decide) (fun c => ?_) (fun c => ?_)
      · have w := And.right w c
        refine lv_aload_n hx hb dX0_seen_33 rfl (lv_at hl 0 rfl) ?_
        refine va_get (D := (dC, dI)) (ci := 0) (v := .ref (a0 0)) (C := RX0) (T := TX0) (N := 14) hx hb hts in_X0 hown hK hP 0 rfl rfl 0 (by decide) (hts _ q128) (fun _ h9 => h9) rfl dX0_seen_34 ?_
        refine va_getN (D := (dC, dI)) (ci := 1) (v := .int (v0 14 2)) (C := RX1) (T := TX1) (N := 13) hx hb hts in_X1 hown hK hP 9 rfl rfl 8 (by decide) (va_Nw.use rfl hN.2.2.2.2.2.2.2.2.1) (fun _ h9 => h9) rfl dX0_seen_37 ?_
        refine lv_bipush (v := 8) hx hb dX0_seen_40 (by decide) ?_
        refine lv_icmp_ne (tgt := 48) hx hb dX0_seen_42 (by decide) (fun c => ?_) (fun c => ?_)
        · have w := And.right w c
          refine lv_aload_n hx hb dX0_seen_48 rfl (lv_at hl 0 rfl) ?_
          refine va_get (D := (dC, dI)) (ci := 0) (v := .ref (a0 0)) (C := RX0) (T := TX0) (N := 14) hx hb hts in_X0 hown hK hP 0 rfl rfl 0 (by decide) (hts _ q128) (fun _ h9 => h9) rfl dX0_seen_49 ?_
          refine va_getN (D := (dC, dI)) (ci := 1) (v := .ref (a0 13)) (C := RX1) (T := TX1) (N := 13) hx hb hts in_X1 hown hK hP 9 rfl rfl 9 (by decide) (va_Nw.use rfl hN.2.2.2.2.2.2.2.2.2.1) (fun _ h9 => h9) rfl dX0_seen_52 ?_
          refine lv_aload_n hx hb dX0_seen_55 rfl (lv_at hl 0 rfl) ?_
          refine va_get (D := (dC, dI)) (ci := 0) (v := .ref (a0 0)) (C := RX0) (T := TX0) (N := 14) hx hb hts in_X0 hown hK hP 0 rfl rfl 0 (by decide) (hts _ q128) (fun _ h9 => h9) rfl dX0_seen_56 ?_
          refine va_getN (D := (dC, dI)) (ci := 1) (v := .int (v0 14 2)) (C := RX1) (T := TX1) (N := 13) hx hb hts in_X1 hown hK hP 9 rfl rfl 8 (by decide) (va_Nw.use rfl hN.2.2.2.2.2.2.2.2.1) (fun _ h9 => h9) rfl dX0_seen_59 ?_
          refine lv_iload_n hx hb dX0_seen_62 rfl (lv_at hl 1 rfl) ?_
          obtain ⟨gi, w⟩ := w
          refine va_iast hx hb hK hP (hD _ _ _ _ _ _) hS 22 0 rfl rfl gi dX0_seen_63 (fun H locs hP _ hS => ?_)
          have hP : va_P (dC, dI) vwCl (XW aX a0 a1 a2 a3 ct x y (up2 v0 11 (v0 14 2).toNatClampNeg i1) v1 v2 v3) H := XW_u_v0_11 hP
          refine lv_aload_n hx hb dX0_seen_64 rfl (lv_at hl 0 rfl) ?_
          refine va_get (D := (dC, dI)) (ci := 0) (v := .ref (a0 0)) (C := RX0) (T := TX0) (N := 14) hx hb hts in_X0 hown hK hP 0 rfl rfl 0 (by decide) (hts _ q128) (fun _ h9 => h9) rfl dX0_seen_65 ?_
          refine va_getN (D := (dC, dI)) (ci := 1) (v := .ref (a0 14)) (C := RX1) (T := TX1) (N := 13) hx hb hts in_X1 hown hK hP 9 rfl rfl 10 (by decide) (va_Nw.use rfl hN.2.2.2.2.2.2.2.2.2.2.1) (fun _ h9 => h9) rfl dX0_seen_68 ?_
          refine lv_aload_n hx hb dX0_seen_71 rfl (lv_at hl 0 rfl) ?_
          refine va_get (D := (dC, dI)) (ci := 0) (v := .ref (a0 0)) (C := RX0) (T := TX0) (N := 14) hx hb hts in_X0 hown hK hP 0 rfl rfl 0 (by decide) (hts _ q128) (fun _ h9 => h9) rfl dX0_seen_72 ?_
          refine va_getN (D := (dC, dI)) (ci := 1) (v := .int (v0 14 2)) (C := RX1) (T := TX1) (N := 13) hx hb hts in_X1 hown hK hP 9 rfl rfl 8 (by decide) (va_Nw.use rfl hN.2.2.2.2.2.2.2.2.1) (fun _ h9 => h9) rfl dX0_seen_75 ?_
          refine lv_iload_n hx hb dX0_seen_78 rfl (lv_at hl 2 rfl) ?_
          obtain ⟨gi, w⟩ := w
          refine va_iast hx hb hK hP (hD _ _ _ _ _ _) hS 23 0 rfl rfl gi dX0_seen_79 (fun H locs hP _ hS => ?_)
          have hP : va_P (dC, dI) vwCl (XW aX a0 a1 a2 a3 ct x y (up2 (up2 v0 11 (v0 14 2).toNatClampNeg i1) 12 (v0 14 2).toNatClampNeg i2) v1 v2 v3) H := XW_u_v0_12 hP
          refine lv_aload_n hx hb dX0_seen_80 rfl (lv_at hl 0 rfl) ?_
          refine va_get (D := (dC, dI)) (ci := 0) (v := .ref (a0 0)) (C := RX0) (T := TX0) (N := 14) hx hb hts in_X0 hown hK hP 0 rfl rfl 0 (by decide) (hts _ q128) (fun _ h9 => h9) rfl dX0_seen_81 ?_
          refine va_getN (D := (dC, dI)) (ci := 1) (v := .ref (a0 15)) (C := RX1) (T := TX1) (N := 13) hx hb hts in_X1 hown hK hP 9 rfl rfl 11 (by decide) (va_Nw.use rfl hN.2.2.2.2.2.2.2.2.2.2.2.1) (fun _ h9 => h9) rfl dX0_seen_84 ?_
          refine lv_aload_n hx hb dX0_seen_87 rfl (lv_at hl 0 rfl) ?_
          refine va_get (D := (dC, dI)) (ci := 0) (v := .ref (a0 0)) (C := RX0) (T := TX0) (N := 14) hx hb hts in_X0 hown hK hP 0 rfl rfl 0 (by decide) (hts _ q128) (fun _ h9 => h9) rfl dX0_seen_88 ?_
          refine va_getN (D := (dC, dI)) (ci := 1) (v := .int (v0 14 2)) (C := RX1) (T := TX1) (N := 13) hx hb hts in_X1 hown hK hP 9 rfl rfl 8 (by decide) (va_Nw.use rfl hN.2.2.2.2.2.2.2.2.1) (fun _ h9 => h9) rfl dX0_seen_91 ?_
          refine lv_iload_n hx hb dX0_seen_94 rfl (lv_at hl 3 rfl) ?_
          obtain ⟨gi, w⟩ := w
          refine va_iast hx hb hK hP (hD _ _ _ _ _ _) hS 24 0 rfl rfl gi dX0_seen_95 (fun H locs hP _ hS => ?_)
          have hP : va_P (dC, dI) vwCl (XW aX a0 a1 a2 a3 ct x y (up2 (up2 (up2 v0 11 (v0 14 2).toNatClampNeg i1) 12 (v0 14 2).toNatClampNeg i2) 13 (v0 14 2).toNatClampNeg i3) v1 v2 v3) H := XW_u_v0_13 hP
          refine lv_aload_n hx hb dX0_seen_96 rfl (lv_at hl 0 rfl) ?_
          refine va_get (D := (dC, dI)) (ci := 0) (v := .ref (a0 0)) (C := RX0) (T := TX0) (N := 14) hx hb hts in_X0 hown hK hP 0 rfl rfl 0 (by decide) (hts _ q128) (fun _ h9 => h9) rfl dX0_seen_97 ?_
          refine lv_dup hx hb dX0_seen_100 rfl ?_
          refine va_getN (D := (dC, dI)) (ci := 1) (v := .int (v0 14 2)) (C := RX1) (T := TX1) (N := 13) hx hb hts in_X1 hown hK hP 9 rfl rfl 8 (by decide) (va_Nw.use rfl hN.2.2.2.2.2.2.2.2.1) (fun _ h9 => h9) rfl dX0_seen_101 ?_
          refine lv_iconst (v := 1) hx hb dX0_seen_104 (by decide) ?_
          refine lv_iadd hx hb dX0_seen_105 ?_
          refine va_putN (D := (dC, dI)) (ci := 1) (v := .int ((v0 14 2) + (1 : Int32))) (ty := .int) (C := RX1) (T := TX1) (N := 13) hx hb hts in_X1 tyX1 tyX1_ok nmX1 hown hK hP (hD _ _ _ _ _ _) hS 9 rfl rfl 8 (by decide) (va_Nw.use rfl hN.2.2.2.2.2.2.2.2.1) (fun _ h9 => h9) rfl (by decide +kernel) rfl rfl (Nat.le_of_ble_eq_true rfl) dX0_seen_106 (fun H locs hP _ hS => ?_)
          have hP : va_P (dC, dI) vwCl (XW aX a0 a1 a2 a3 ct x y (up2 (up2 (up2 (up2 v0 11 (v0 14 2).toNatClampNeg i1) 12 (v0 14 2).toNatClampNeg i2) 13 (v0 14 2).toNatClampNeg i3) 14 2 ((v0 14 2) + (1 : Int32))) v1 v2 v3) H := XW_s_v0_2 hP
          refine lv_aload_n hx hb dX0_seen_109 rfl (lv_at hl 0 rfl) ?_
          refine va_get (D := (dC, dI)) (ci := 0) (v := .ref (a0 0)) (C := RX0) (T := TX0) (N := 14) hx hb hts in_X0 hown hK hP 0 rfl rfl 0 (by decide) (hts _ q128) (fun _ h9 => h9) rfl dX0_seen_110 ?_
          refine va_getN (D := (dC, dI)) (ci := 1) (v := .int ((v0 14 2) + (1 : Int32))) (C := RX1) (T := TX1) (N := 13) hx hb hts in_X1 hown hK hP 9 rfl rfl 8 (by decide) (va_Nw.use rfl hN.2.2.2.2.2.2.2.2.1) (fun _ h9 => h9) rfl dX0_seen_113 ?_
          exact W.iret (v := ((v0 14 2) + (1 : Int32))) hx hb hr (fun t ht hW => ⟨⟨((v0 14 2) + (1 : Int32)), (x, y, (up2 (up2 (up2 (up2 v0 11 (v0 14 2).toNatClampNeg i1) 12 (v0 14 2).toNatClampNeg i2) 13 (v0 14 2).toNatClampNeg i3) 14 2 ((v0 14 2) + (1 : Int32))), v1, v2, v3), rfl, w, by rw [ht]; exact hP, va_K.moved hW.alike hK, (hD _ _ _ _ _ _)⟩, hS.F ht⟩) hS.2.2 dX0_seen_116 hlk
        · have w := And.left w c
          refine lv_bipush (v := -4) hx hb dX0_seen_45 (by decide) ?_
          exact W.iret (v := (-4 : Int32)) hx hb hr (fun t ht hW => ⟨⟨(-4 : Int32), (x, y, v0, v1, v2, v3), rfl, w, by rw [ht]; exact hP, va_K.moved hW.alike hK, (hD _ _ _ _ _ _)⟩, hS.F ht⟩) hS.2.2 dX0_seen_47 hlk
      · have w := And.left w c
        exact wk_X0_seen_L30 X hD  _ _ _ _ _ _ w _ _ _ hP hS (lv_sub hl [] rfl)
abbrev rm_X0_forget : Room := { frames := 0, cells := 0, slots := 0, locals := 0 }
theorem hd_X0_forget : yX0_forget.cls = RX0 ∧ yX0_forget.cls ≠ "java/lang/invoke/MethodHandle" ∧ yX0_forget.cls ≠ "java/lang/invoke/VarHandle" ∧ (parseMethodDescriptor yX0_forget.desc).map (fun d => d.parameters.length) = some 0 := by decide +kernel
set_option maxHeartbeats 4000000 in
set_option maxRecDepth 100000 in
theorem met_X0_forget (l : Launch) (dC : Nat → ClassId) (dI : Nat → Nat → Nat) (ct : Nat → ClassId) (aX : Nat → Nat) (a0 : Nat → Nat) (a1 : Nat → Nat) (a2 : Nat → Nat) (a3 : Nat → Nat) (sz : Nat)  {x : V} {y : VL} {v0 : V} {v1 : V} {v2 : V} {v3 : V} {Post : Int32 → V → VL → V → V → V → V → Prop} (w : wp_X0_forget x y v0 v1 v2 v3 Post) : Met l yX0_forget (ws_ yX0_forget cX0_forget 2 (some .int)) rm_X0_forget (va_Pc [.ref (aX 0)] (fun U => WPre dC dI ct (XW aX a0 a1 a2 a3 ct x y v0 v1 v2 v3) sz U)) ((fun A => (va_Qi (fun (r : Int32) (u : V × VL × V × V × V × V) => Post r u.1 u.2.1 u.2.2.1 u.2.2.2.1 u.2.2.2.2.1 u.2.2.2.2.2) (fun (u : V × VL × V × V × V × V) t => WPos dC dI ct (XW aX a0 a1 a2 a3 ct u.1 u.2.1 u.2.2.1 u.2.2.2.1 u.2.2.2.2.1 u.2.2.2.2.2) A t) A)) (va_A (XW aX a0 a1 a2 a3 ct x y v0 v1 v2 v3) sz)) 0 0 (va_A (XW aX a0 a1 a2 a3 ct x y v0 v1 v2 v3) sz) := by
  refine open_W (fun A => (va_Qi (fun (r : Int32) (u : V × VL × V × V × V × V) => Post r u.1 u.2.1 u.2.2.1 u.2.2.2.1 u.2.2.2.2.1 u.2.2.2.2.2) (fun (u : V × VL × V × V × V × V) t => WPos dC dI ct (XW aX a0 a1 a2 a3 ct u.1 u.2.1 u.2.2.1 u.2.2.2.1 u.2.2.2.2.1 u.2.2.2.2.2) A t) A)) (by decide) (Nat.le_of_ble_eq_true rfl) ?_
  intro p e s m args below meth c ls A X hD0 hP hS hl
  have X0 := X
  obtain ⟨⟨hx, hb, hml, hr, hlk, hown, hts⟩, hA, hK, hN⟩ := X0
  have hD : ∀ (x' : V) (y' : VL) (v0' : V) (v1' : V) (v2' : V) (v3' : V), va_D A (XW aX a0 a1 a2 a3 ct x' y' v0' v1' v2' v3') := fun x' y' v0' v1' v2' v3' => va_D_addr hD0 rfl
  have hl : lv_has ls 2 [(0, .ref (aX 0))] := hl
  unfold wp_X0_forget at w
  have hS0 := hS
  refine lv_aload_n hx hb dX0_forget_0 rfl (lv_at hl 0 rfl) ?_
  refine va_get (D := (dC, dI)) (ci := 0) (v := .ref (a0 0)) (C := RX0) (T := TX0) (N := 14) hx hb hts in_X0 hown hK hP 0 rfl rfl 0 (by decide) (hts _ q128) (fun _ h9 => h9) rfl dX0_forget_1 ?_
  refine va_getN (D := (dC, dI)) (ci := 1) (v := .int (v0 14 2)) (C := RX1) (T := TX1) (N := 13) hx hb hts in_X1 hown hK hP 9 rfl rfl 8 (by decide) (va_Nw.use rfl hN.2.2.2.2.2.2.2.2.1) (fun _ h9 => h9) rfl dX0_forget_4 ?_
  refine lv_istore_n (lv' := [(1, .int (v0 14 2)), (0, .ref (aX 0))]) hx hb dX0_forget_7 rfl hl (by decide) rfl (fun ls hl => ?_)
  refine lv_aload_n hx hb dX0_forget_8 rfl (lv_at hl 1 rfl) ?_
  refine va_get (D := (dC, dI)) (ci := 0) (v := .ref (a0 0)) (C := RX0) (T := TX0) (N := 14) hx hb hts in_X0 hown hK hP 0 rfl rfl 0 (by decide) (hts _ q128) (fun _ h9 => h9) rfl dX0_forget_9 ?_
  refine lv_iconst (v := 0) hx hb dX0_forget_12 (by decide) ?_
  refine va_putN (D := (dC, dI)) (ci := 1) (v := .int (0 : Int32)) (ty := .int) (C := RX1) (T := TX1) (N := 13) hx hb hts in_X1 tyX1 tyX1_ok nmX1 hown hK hP (hD _ _ _ _ _ _) hS 9 rfl rfl 8 (by decide) (va_Nw.use rfl hN.2.2.2.2.2.2.2.2.1) (fun _ h9 => h9) rfl (by decide +kernel) rfl rfl (Nat.le_of_ble_eq_true rfl) dX0_forget_13 (fun H locs hP _ hS => ?_)
  have hP : va_P (dC, dI) vwCl (XW aX a0 a1 a2 a3 ct x y (up2 v0 14 2 (0 : Int32)) v1 v2 v3) H := XW_s_v0_2 hP
  refine lv_iload_n hx hb dX0_forget_16 rfl (lv_at hl 0 rfl) ?_
  exact W.iret (v := (v0 14 2)) hx hb hr (fun t ht hW => ⟨⟨(v0 14 2), (x, y, (up2 v0 14 2 (0 : Int32)), v1, v2, v3), rfl, w, by rw [ht]; exact hP, va_K.moved hW.alike hK, (hD _ _ _ _ _ _)⟩, hS.F ht⟩) hS.2.2 dX0_forget_17 hlk
abbrev rm_X0_canBe : Room := { frames := 1, cells := 0, slots := 0, locals := 20 }
theorem hd_X0_canBe : yX0_canBe.cls = RX0 ∧ yX0_canBe.cls ≠ "java/lang/invoke/MethodHandle" ∧ yX0_canBe.cls ≠ "java/lang/invoke/VarHandle" ∧ (parseMethodDescriptor yX0_canBe.desc).map (fun d => d.parameters.length) = some 2 := by decide +kernel
set_option maxHeartbeats 4000000 in
set_option maxRecDepth 100000 in
theorem wk_X0_canBe_L108 {p : Program} {l : Launch} {e : Env} {s : State} {m : MethodId} {args : Array Value} {below : List Frame} {meth : Method} {c : Code} {dC : Nat → ClassId} {dI : Nat → Nat → Nat} {ct : Nat → ClassId} {A : Nat → Prop} {aX : Nat → Nat} {a0 : Nat → Nat} {a1 : Nat → Nat} {a2 : Nat → Nat} {a3 : Nat → Nat} {Post : Int32 → V → VL → V → V → V → V → Prop} {K17 : Int32 → Int32 → Int32 → V → VL → V → V → V → V → Prop}  (X : CxW p s m args meth c cX0_canBe 6 (some .boolean) RX0 dC dI ct A) (hD : ∀ (x : V) (y : VL) (v0 : V) (v1 : V) (v2 : V) (v3 : V), va_D A (XW aX a0 a1 a2 a3 ct x y v0 v1 v2 v3)) (hK17 : ∀ (i1 : Int32) (i3 : Int32) (i4 : Int32) (x : V) (y : VL) (v0 : V) (v1 : V) (v2 : V) (v3 : V), K17 i1 i3 i4 x y v0 v1 v2 v3 → ∀ (H : Heap) (locs : List Loc) (ls : Array Slot), va_P (dC, dI) vwCl (XW aX a0 a1 a2 a3 ct x y v0 v1 v2 v3) H → va_S A s.heap H locs → lv_has ls 6 [(0, .ref (aX 0)), (1, .int i1), (3, .int i3), (4, .int i4)] → W p l e rm_X0_canBe s m args below meth c H locs 0 0 (MQ below (va_Qi (fun (r : Int32) (u : V × VL × V × V × V × V) => Post r u.1 u.2.1 u.2.2.1 u.2.2.2.1 u.2.2.2.2.1 u.2.2.2.2.2) (fun (u : V × VL × V × V × V × V) t => WPos dC dI ct (XW aX a0 a1 a2 a3 ct u.1 u.2.1 u.2.2.1 u.2.2.2.1 u.2.2.2.2.1 u.2.2.2.2.2) A t) A) args s 0 0 A) (F0 m 17 ls [])) (i1 : Int32) (i4 : Int32) (is0 : Int32) (x : V) (y : VL) (v0 : V) (v1 : V) (v2 : V) (v3 : V) (w : wp_X0_canBe_L108  Post K17 i1 i4 is0 x y v0 v1 v2 v3) : ∀ (H : Heap) (locs : List Loc) (ls : Array Slot), va_P (dC, dI) vwCl (XW aX a0 a1 a2 a3 ct x y v0 v1 v2 v3) H → va_S A s.heap H locs → lv_has ls 6 [(0, .ref (aX 0)), (1, .int i1), (4, .int i4)] → W p l e rm_X0_canBe s m args below meth c H locs 0 0 (MQ below (va_Qi (fun (r : Int32) (u : V × VL × V × V × V × V) => Post r u.1 u.2.1 u.2.2.1 u.2.2.2.1 u.2.2.2.2.1 u.2.2.2.2.2) (fun (u : V × VL × V × V × V × V) t => WPos dC dI ct (XW aX a0 a1 a2 a3 ct u.1 u.2.1 u.2.2.1 u.2.2.2.1 u.2.2.2.2.1 u.2.2.2.2.2) A t) A) args s 0 0 A) (F0 m 108 ls [.int is0]) := by
  intro H locs ls hP hS hl
  have X0 := X
  obtain ⟨⟨hx, hb, hml, hr, hlk, hown, hts⟩, hA, hK, hN⟩ := X0
  unfold wp_X0_canBe_L108 at w
  refine lv_istore_n (lv' := [(3, .int is0), (0, .ref (aX 0)), (1, .int i1), (4, .int i4)]) hx hb dX0_canBe_108 rfl hl (by decide) rfl (fun ls hl => ?_)
  refine lv_iinc (v := (i4 + 1)) (lv' := [(4, .int (i4 + 1)), (3, .int is0), (0, .ref (aX 0)), (1, .int i1)]) hx hb dX0_canBe_109 hl (k := 3) rfl rfl (by decide) rfl (fun ls hl => ?_)
  refine lv_goto (tgt := 17) hx hb dX0_canBe_112 (by decide) ?_
  exact hK17 _ _ _ _ _ _ _ _ _ w _ _ _ hP hS (lv_sub hl [2, 3, 1, 0] rfl)
set_option maxHeartbeats 4000000 in
set_option maxRecDepth 100000 in
theorem wk_X0_canBe_L115 {p : Program} {l : Launch} {e : Env} {s : State} {m : MethodId} {args : Array Value} {below : List Frame} {meth : Method} {c : Code} {dC : Nat → ClassId} {dI : Nat → Nat → Nat} {ct : Nat → ClassId} {A : Nat → Prop} {aX : Nat → Nat} {a0 : Nat → Nat} {a1 : Nat → Nat} {a2 : Nat → Nat} {a3 : Nat → Nat} {Post : Int32 → V → VL → V → V → V → V → Prop}   (X : CxW p s m args meth c cX0_canBe 6 (some .boolean) RX0 dC dI ct A) (hD : ∀ (x : V) (y : VL) (v0 : V) (v1 : V) (v2 : V) (v3 : V), va_D A (XW aX a0 a1 a2 a3 ct x y v0 v1 v2 v3))  (i3 : Int32) (x : V) (y : VL) (v0 : V) (v1 : V) (v2 : V) (v3 : V) (w : wp_X0_canBe_L115  Post  i3 x y v0 v1 v2 v3) : ∀ (H : Heap) (locs : List Loc) (ls : Array Slot), va_P (dC, dI) vwCl (XW aX a0 a1 a2 a3 ct x y v0 v1 v2 v3) H → va_S A s.heap H locs → lv_has ls 6 [(3, .int i3)] → W p l e rm_X0_canBe s m args below meth c H locs 0 0 (MQ below (va_Qi (fun (r : Int32) (u : V × VL × V × V × V × V) => Post r u.1 u.2.1 u.2.2.1 u.2.2.2.1 u.2.2.2.2.1 u.2.2.2.2.2) (fun (u : V × VL × V × V × V × V) t => WPos dC dI ct (XW aX a0 a1 a2 a3 ct u.1 u.2.1 u.2.2.1 u.2.2.2.1 u.2.2.2.2.1 u.2.2.2.2.2) A t) A) args s 0 0 A) (F0 m 115 ls []) := by
  intro H locs ls hP hS hl
  have X0 := X
  obtain ⟨⟨hx, hb, hml, hr, hlk, hown, hts⟩, hA, hK, hN⟩ := X0
  unfold wp_X0_canBe_L115 at w
  refine lv_iload_n hx hb dX0_canBe_115 rfl (lv_at hl 0 rfl) ?_
  obtain ⟨gn, w⟩ := w
  exact W.zret (v := i3) hx hb hr gn (fun t ht hW => ⟨⟨i3, (x, y, v0, v1, v2, v3), rfl, w, by rw [ht]; exact hP, va_K.moved hW.alike hK, (hD _ _ _ _ _ _)⟩, hS.F ht⟩) hS.2.2 dX0_canBe_116 hlk
set_option maxHeartbeats 4000000 in
set_option maxRecDepth 100000 in
theorem wk_X0_canBe_S17 {p : Program} {l : Launch} {e : Env} {s : State} {m : MethodId} {args : Array Value} {below : List Frame} {meth : Method} {c : Code} {dC : Nat → ClassId} {dI : Nat → Nat → Nat} {ct : Nat → ClassId} {A : Nat → Prop} {aX : Nat → Nat} {a0 : Nat → Nat} {a1 : Nat → Nat} {a2 : Nat → Nat} {a3 : Nat → Nat} {Post : Int32 → V → VL → V → V → V → V → Prop} {K17 : Int32 → Int32 → Int32 → V → VL → V → V → V → V → Prop}  (X : CxW p s m args meth c cX0_canBe 6 (some .boolean) RX0 dC dI ct A) (hD : ∀ (x : V) (y : VL) (v0 : V) (v1 : V) (v2 : V) (v3 : V), va_D A (XW aX a0 a1 a2 a3 ct x y v0 v1 v2 v3)) (hK17 : ∀ (i1 : Int32) (i3 : Int32) (i4 : Int32) (x : V) (y : VL) (v0 : V) (v1 : V) (v2 : V) (v3 : V), K17 i1 i3 i4 x y v0 v1 v2 v3 → ∀ (H : Heap) (locs : List Loc) (ls : Array Slot), va_P (dC, dI) vwCl (XW aX a0 a1 a2 a3 ct x y v0 v1 v2 v3) H → va_S A s.heap H locs → lv_has ls 6 [(0, .ref (aX 0)), (1, .int i1), (3, .int i3), (4, .int i4)] → W p l e rm_X0_canBe s m args below meth c H locs 0 0 (MQ below (va_Qi (fun (r : Int32) (u : V × VL × V × V × V × V) => Post r u.1 u.2.1 u.2.2.1 u.2.2.2.1 u.2.2.2.2.1 u.2.2.2.2.2) (fun (u : V × VL × V × V × V × V) t => WPos dC dI ct (XW aX a0 a1 a2 a3 ct u.1 u.2.1 u.2.2.1 u.2.2.2.1 u.2.2.2.2.1 u.2.2.2.2.2) A t) A) args s 0 0 A) (F0 m 17 ls [])) (i1 : Int32) (i3 : Int32) (i4 : Int32) (x : V) (y : VL) (v0 : V) (v1 : V) (v2 : V) (v3 : V) (w : wp_X0_canBe_S17  Post K17 i1 i3 i4 x y v0 v1 v2 v3) : ∀ (H : Heap) (locs : List Loc) (ls : Array Slot), va_P (dC, dI) vwCl (XW aX a0 a1 a2 a3 ct x y v0 v1 v2 v3) H → va_S A s.heap H locs → lv_has ls 6 [(0, .ref (aX 0)), (1, .int i1), (3, .int i3), (4, .int i4)] → W p l e rm_X0_canBe s m args below meth c H locs 0 0 (MQ below (va_Qi (fun (r : Int32) (u : V × VL × V × V × V × V) => Post r u.1 u.2.1 u.2.2.1 u.2.2.2.1 u.2.2.2.2.1 u.2.2.2.2.2) (fun (u : V × VL × V × V × V × V) t => WPos dC dI ct (XW aX a0 a1 a2 a3 ct u.1 u.2.1 u.2.2.1 u.2.2.2.1 u.2.2.2.2.1 u.2.2.2.2.2) A t) A) args s 0 0 A) (F0 m 17 ls []) := by
  intro H locs ls hP hS hl
  have X0 := X
  obtain ⟨⟨hx, hb, hml, hr, hlk, hown, hts⟩, hA, hK, hN⟩ := X0
  unfold wp_X0_canBe_S17 at w
  refine lv_iload hx hb dX0_canBe_17 (lv_at hl 3 rfl) ?_
  refine lv_aload_n hx hb dX0_canBe_19 rfl (lv_at hl 0 rfl) ?_
  refine va_get (D := (dC, dI)) (ci := 0) (v := .ref (a0 0)) (C := RX0) (T := TX0) (N := 14) hx hb hts in_X0 hown hK hP 0 rfl rfl 0 (by decide) (hts _ q128) (fun _ h9 => h9) rfl dX0_canBe_20 ?_
  refine va_getN (D := (dC, dI)) (ci := 1) (v := .int (v0 14 2)) (C := RX1) (T := TX1) (N := 13) hx hb hts in_X1 hown hK hP 9 rfl rfl 8 (by decide) (va_Nw.use rfl hN.2.2.2.2.2.2.2.2.1) (fun _ h9 => h9) rfl dX0_canBe_23 ?_
  refine lv_icmp_ge (tgt := 115) hx hb dX0_canBe_26 (by decide) (fun c => ?_) (fun c => ?_)
  · have w := And.left w c
    exact wk_X0_canBe_L115 X hD  _ _ _ _ _ _ _ w _ _ _ hP hS (lv_sub hl [2] rfl)
  · have w := And.right w c
    refine lv_iload_n hx hb dX0_canBe_29 rfl (lv_at hl 2 rfl) ?_
    refine lv_if_eq (tgt := 115) hx hb dX0_canBe_30 (by decide) (fun c => ?_) (fun c => ?_)
    · have w := And.left w c
      exact wk_X0_canBe_L115 X hD  _ _ _ _ _ _ _ w _ _ _ hP hS (lv_sub hl [2] rfl)
    · have w := And.right w c
      refine lv_aload_n hx hb dX0_canBe_33 rfl (lv_at hl 0 rfl) ?_
      refine va_get (D := (dC, dI)) (ci := 0) (v := .ref (a0 0)) (C := RX0) (T := TX0) (N := 14) hx hb hts in_X0 hown hK hP 0 rfl rfl 0 (by decide) (hts _ q128) (fun _ h9 => h9) rfl dX0_canBe_34 ?_
      refine va_getN (D := (dC, dI)) (ci := 1) (v := .ref (a0 13)) (C := RX1) (T := TX1) (N := 13) hx hb hts in_X1 hown hK hP 9 rfl rfl 9 (by decide) (va_Nw.use rfl hN.2.2.2.2.2.2.2.2.2.1) (fun _ h9 => h9) rfl dX0_canBe_37 ?_
      refine lv_iload hx hb dX0_canBe_40 (lv_at hl 3 rfl) ?_
      obtain ⟨gi, w⟩ := w
      refine va_iald hx hb hK hP 22 0 rfl rfl gi dX0_canBe_42 ?_
      refine lv_iload_n hx hb dX0_canBe_43 rfl (lv_at hl 1 rfl) ?_
      refine lv_iconst (v := -1) hx hb dX0_canBe_44 (by decide) ?_
      refine lv_ixor hx hb dX0_canBe_45 ?_
      refine lv_iand hx hb dX0_canBe_46 ?_
      refine vp_callSi (W.runS (As := [.int ((v0 11 i4.toNatClampNeg) &&& (i1 ^^^ (-1 : Int32)))]) (rest := []) ⟨hx, hb, hml, hown, hts⟩ (met_J2_bitCount l w) (va_cwS 1 hts (lw_S q349 q350 q54 q351) rfl rfl rfl hd_J2_bitCount ⟨Nat.le_of_ble_eq_true rfl, Nat.le_of_ble_eq_true rfl⟩) pre_S rfl rfl hl.1 rfl (lv_room (Nat.le_of_ble_eq_true rfl)) dX0_canBe_47 ⟨Nat.le_refl _, Nat.le_refl _⟩) (fun r1 w => ?_)
      refine lv_istore (lv' := [(5, .int r1), (0, .ref (aX 0)), (1, .int i1), (3, .int i3), (4, .int i4)]) hx hb dX0_canBe_50 hl (by decide) rfl (fun ls hl => ?_)
      refine lv_aload_n hx hb dX0_canBe_52 rfl (lv_at hl 1 rfl) ?_
      refine va_get (D := (dC, dI)) (ci := 0) (v := .ref (a0 0)) (C := RX0) (T := TX0) (N := 14) hx hb hts in_X0 hown hK hP 0 rfl rfl 0 (by decide) (hts _ q128) (fun _ h9 => h9) rfl dX0_canBe_53 ?_
      refine va_getN (D := (dC, dI)) (ci := 1) (v := .ref (a0 15)) (C := RX1) (T := TX1) (N := 13) hx hb hts in_X1 hown hK hP 9 rfl rfl 11 (by decide) (va_Nw.use rfl hN.2.2.2.2.2.2.2.2.2.2.2.1) (fun _ h9 => h9) rfl dX0_canBe_56 ?_
      refine lv_iload hx hb dX0_canBe_59 (lv_at hl 4 rfl) ?_
      obtain ⟨gi, w⟩ := w
      refine va_iald hx hb hK hP 24 0 rfl rfl gi dX0_canBe_61 ?_
      refine lv_if_ne (tgt := 88) hx hb dX0_canBe_62 (by decide) (fun c => ?_) (fun c => ?_)
      · have w := And.right w c
        refine lv_iload hx hb dX0_canBe_88 (lv_at hl 0 rfl) ?_
        refine lv_aload_n hx hb dX0_canBe_90 rfl (lv_at hl 1 rfl) ?_
        refine va_get (D := (dC, dI)) (ci := 0) (v := .ref (a0 0)) (C := RX0) (T := TX0) (N := 14) hx hb hts in_X0 hown hK hP 0 rfl rfl 0 (by decide) (hts _ q128) (fun _ h9 => h9) rfl dX0_canBe_91 ?_
        refine va_getN (D := (dC, dI)) (ci := 1) (v := .ref (a0 14)) (C := RX1) (T := TX1) (N := 13) hx hb hts in_X1 hown hK hP 9 rfl rfl 10 (by decide) (va_Nw.use rfl hN.2.2.2.2.2.2.2.2.2.2.1) (fun _ h9 => h9) rfl dX0_canBe_94 ?_
        refine lv_iload hx hb dX0_canBe_97 (lv_at hl 4 rfl) ?_
        obtain ⟨gi, w⟩ := w
        refine va_iald hx hb hK hP 23 0 rfl rfl gi dX0_canBe_99 ?_
        refine lv_icmp_lt (tgt := 107) hx hb dX0_canBe_100 (by decide) (fun c => ?_) (fun c => ?_)
        · have w := And.left w c
          refine lv_iconst (v := 0) hx hb dX0_canBe_107 (by decide) ?_
          exact wk_X0_canBe_L108 X hD hK17 _ _ _ _ _ _ _ _ _ w _ _ _ hP hS (lv_sub hl [1, 2, 4] rfl)
        · have w := And.right w c
          refine lv_iconst (v := 1) hx hb dX0_canBe_103 (by decide) ?_
          refine lv_goto (tgt := 108) hx hb dX0_canBe_104 (by decide) ?_
          exact wk_X0_canBe_L108 X hD hK17 _ _ _ _ _ _ _ _ _ w _ _ _ hP hS (lv_sub hl [1, 2, 4] rfl)
      · have w := And.left w c
        refine lv_iload hx hb dX0_canBe_65 (lv_at hl 0 rfl) ?_
        refine lv_aload_n hx hb dX0_canBe_67 rfl (lv_at hl 1 rfl) ?_
        refine va_get (D := (dC, dI)) (ci := 0) (v := .ref (a0 0)) (C := RX0) (T := TX0) (N := 14) hx hb hts in_X0 hown hK hP 0 rfl rfl 0 (by decide) (hts _ q128) (fun _ h9 => h9) rfl dX0_canBe_68 ?_
        refine va_getN (D := (dC, dI)) (ci := 1) (v := .ref (a0 14)) (C := RX1) (T := TX1) (N := 13) hx hb hts in_X1 hown hK hP 9 rfl rfl 10 (by decide) (va_Nw.use rfl hN.2.2.2.2.2.2.2.2.2.2.1) (fun _ h9 => h9) rfl dX0_canBe_71 ?_
        refine lv_iload hx hb dX0_canBe_74 (lv_at hl 4 rfl) ?_
        obtain ⟨gi, w⟩ := w
        refine va_iald hx hb hK hP 23 0 rfl rfl gi dX0_canBe_76 ?_
        refine lv_icmp_ne (tgt := 84) hx hb dX0_canBe_77 (by decide) (fun c => ?_) (fun c => ?_)
        · have w := And.right w c
          refine lv_iconst (v := 0) hx hb dX0_canBe_84 (by decide) ?_
          refine lv_goto (tgt := 108) hx hb dX0_canBe_85 (by decide) ?_
          exact wk_X0_canBe_L108 X hD hK17 _ _ _ _ _ _ _ _ _ w _ _ _ hP hS (lv_sub hl [1, 2, 4] rfl)
        · have w := And.left w c
          refine lv_iconst (v := 1) hx hb dX0_canBe_80 (by decide) ?_
          refine lv_goto (tgt := 108) hx hb dX0_canBe_81 (by decide) ?_
          exact wk_X0_canBe_L108 X hD hK17 _ _ _ _ _ _ _ _ _ w _ _ _ hP hS (lv_sub hl [1, 2, 4] rfl)
set_option maxHeartbeats 4000000 in
set_option maxRecDepth 100000 in
theorem wk_X0_canBe_L17 {p : Program} {l : Launch} {e : Env} {s : State} {m : MethodId} {args : Array Value} {below : List Frame} {meth : Method} {c : Code} {dC : Nat → ClassId} {dI : Nat → Nat → Nat} {ct : Nat → ClassId} {A : Nat → Prop} {aX : Nat → Nat} {a0 : Nat → Nat} {a1 : Nat → Nat} {a2 : Nat → Nat} {a3 : Nat → Nat} {Post : Int32 → V → VL → V → V → V → V → Prop}   (X : CxW p s m args meth c cX0_canBe 6 (some .boolean) RX0 dC dI ct A) (hD : ∀ (x : V) (y : VL) (v0 : V) (v1 : V) (v2 : V) (v3 : V), va_D A (XW aX a0 a1 a2 a3 ct x y v0 v1 v2 v3))  : ∀ (n : Nat) (i1 : Int32) (i3 : Int32) (i4 : Int32) (x : V) (y : VL) (v0 : V) (v1 : V) (v2 : V) (v3 : V), wp_X0_canBe_L17  Post  n i1 i3 i4 x y v0 v1 v2 v3 → ∀ (H : Heap) (locs : List Loc) (ls : Array Slot), va_P (dC, dI) vwCl (XW aX a0 a1 a2 a3 ct x y v0 v1 v2 v3) H → va_S A s.heap H locs → lv_has ls 6 [(0, .ref (aX 0)), (1, .int i1), (3, .int i3), (4, .int i4)] → W p l e rm_X0_canBe s m args below meth c H locs 0 0 (MQ below (va_Qi (fun (r : Int32) (u : V × VL × V × V × V × V) => Post r u.1 u.2.1 u.2.2.1 u.2.2.2.1 u.2.2.2.2.1 u.2.2.2.2.2) (fun (u : V × VL × V × V × V × V) t => WPos dC dI ct (XW aX a0 a1 a2 a3 ct u.1 u.2.1 u.2.2.1 u.2.2.2.1 u.2.2.2.2.1 u.2.2.2.2.2) A t) A) args s 0 0 A) (F0 m 17 ls []) := by
  intro n
  induction n with
  | zero => intro i1 i3 i4 x y v0 v1 v2 v3 w; exact False.elim w
  | succ n ih => intro i1 i3 i4 x y v0 v1 v2 v3 w H locs ls hP hS hl; exact wk_X0_canBe_S17 X hD  ih i1 i3 i4 x y v0 v1 v2 v3 w H locs ls hP hS hl
set_option maxHeartbeats 4000000 in
set_option maxRecDepth 100000 in
theorem wk_X0_canBe_L13 {p : Program} {l : Launch} {e : Env} {s : State} {m : MethodId} {args : Array Value} {below : List Frame} {meth : Method} {c : Code} {dC : Nat → ClassId} {dI : Nat → Nat → Nat} {ct : Nat → ClassId} {A : Nat → Prop} {aX : Nat → Nat} {a0 : Nat → Nat} {a1 : Nat → Nat} {a2 : Nat → Nat} {a3 : Nat → Nat} {Post : Int32 → V → VL → V → V → V → V → Prop}   (X : CxW p s m args meth c cX0_canBe 6 (some .boolean) RX0 dC dI ct A) (hD : ∀ (x : V) (y : VL) (v0 : V) (v1 : V) (v2 : V) (v3 : V), va_D A (XW aX a0 a1 a2 a3 ct x y v0 v1 v2 v3))  (i1 : Int32) (is0 : Int32) (x : V) (y : VL) (v0 : V) (v1 : V) (v2 : V) (v3 : V) (w : wp_X0_canBe_L13  Post  i1 is0 x y v0 v1 v2 v3) : ∀ (H : Heap) (locs : List Loc) (ls : Array Slot), va_P (dC, dI) vwCl (XW aX a0 a1 a2 a3 ct x y v0 v1 v2 v3) H → va_S A s.heap H locs → lv_has ls 6 [(0, .ref (aX 0)), (1, .int i1)] → W p l e rm_X0_canBe s m args below meth c H locs 0 0 (MQ below (va_Qi (fun (r : Int32) (u : V × VL × V × V × V × V) => Post r u.1 u.2.1 u.2.2.1 u.2.2.2.1 u.2.2.2.2.1 u.2.2.2.2.2) (fun (u : V × VL × V × V × V × V) t => WPos dC dI ct (XW aX a0 a1 a2 a3 ct u.1 u.2.1 u.2.2.1 u.2.2.2.1 u.2.2.2.2.1 u.2.2.2.2.2) A t) A) args s 0 0 A) (F0 m 13 ls [.int is0]) := by
  intro H locs ls hP hS hl
  have X0 := X
  obtain ⟨⟨hx, hb, hml, hr, hlk, hown, hts⟩, hA, hK, hN⟩ := X0
  unfold wp_X0_canBe_L13 at w
  refine lv_istore_n (lv' := [(3, .int is0), (0, .ref (aX 0)), (1, .int i1)]) hx hb dX0_canBe_13 rfl hl (by decide) rfl (fun ls hl => ?_)
  refine lv_iconst (v := 0) hx hb dX0_canBe_14 (by decide) ?_
  refine lv_istore (lv' := [(4, .int (0 : Int32)), (3, .int is0), (0, .ref (aX 0)), (1, .int i1)]) hx hb dX0_canBe_15 hl (by decide) rfl (fun ls hl => ?_)
  obtain ⟨n, w⟩ := w
  exact wk_X0_canBe_L17 X hD  n _ _ _ _ _ _ _ _ _ w _ _ _ hP hS (lv_sub hl [2, 3, 1, 0] rfl)
set_option maxHeartbeats 4000000 in
set_option maxRecDepth 100000 in
theorem met_X0_canBe (l : Launch) (dC : Nat → ClassId) (dI : Nat → Nat → Nat) (ct : Nat → ClassId) (aX : Nat → Nat) (a0 : Nat → Nat) (a1 : Nat → Nat) (a2 : Nat → Nat) (a3 : Nat → Nat) (sz : Nat) {i1 : Int32} {i2 : Int32} {x : V} {y : VL} {v0 : V} {v1 : V} {v2 : V} {v3 : V} {Post : Int32 → V → VL → V → V → V → V → Prop} (w : wp_X0_canBe i1 i2 x y v0 v1 v2 v3 Post) : Met l yX0_canBe (ws_ yX0_canBe cX0_canBe 6 (some .boolean)) rm_X0_canBe (va_Pc [.ref (aX 0), .int i1, .int i2] (fun U => WPre dC dI ct (XW aX a0 a1 a2 a3 ct x y v0 v1 v2 v3) sz U)) ((fun A => (va_Qi (fun (r : Int32) (u : V × VL × V × V × V × V) => Post r u.1 u.2.1 u.2.2.1 u.2.2.2.1 u.2.2.2.2.1 u.2.2.2.2.2) (fun (u : V × VL × V × V × V × V) t => WPos dC dI ct (XW aX a0 a1 a2 a3 ct u.1 u.2.1 u.2.2.1 u.2.2.2.1 u.2.2.2.2.1 u.2.2.2.2.2) A t) A)) (va_A (XW aX a0 a1 a2 a3 ct x y v0 v1 v2 v3) sz)) 0 0 (va_A (XW aX a0 a1 a2 a3 ct x y v0 v1 v2 v3) sz) := by
  refine open_W (fun A => (va_Qi (fun (r : Int32) (u : V × VL × V × V × V × V) => Post r u.1 u.2.1 u.2.2.1 u.2.2.2.1 u.2.2.2.2.1 u.2.2.2.2.2) (fun (u : V × VL × V × V × V × V) t => WPos dC dI ct (XW aX a0 a1 a2 a3 ct u.1 u.2.1 u.2.2.1 u.2.2.2.1 u.2.2.2.2.1 u.2.2.2.2.2) A t) A)) (by decide) (Nat.le_of_ble_eq_true rfl) ?_
  intro p e s m args below meth c ls A X hD0 hP hS hl
  have X0 := X
  obtain ⟨⟨hx, hb, hml, hr, hlk, hown, hts⟩, hA, hK, hN⟩ := X0
  have hD : ∀ (x' : V) (y' : VL) (v0' : V) (v1' : V) (v2' : V) (v3' : V), va_D A (XW aX a0 a1 a2 a3 ct x' y' v0' v1' v2' v3') := fun x' y' v0' v1' v2' v3' => va_D_addr hD0 rfl
  have hl : lv_has ls 6 [(0, .ref (aX 0)), (1, .int i1), (2, .int i2)] := hl
  unfold wp_X0_canBe at w
  have hS0 := hS
  refine lv_iload_n hx hb dX0_canBe_0 rfl (lv_at hl 1 rfl) ?_
  refine vp_callSi (W.runS (As := [.int i1]) (rest := []) ⟨hx, hb, hml, hown, hts⟩ (met_J2_bitCount l w) (va_cwS 1 hts (lw_S q349 q350 q54 q351) rfl rfl rfl hd_J2_bitCount ⟨Nat.le_of_ble_eq_true rfl, Nat.le_of_ble_eq_true rfl⟩) pre_S rfl rfl hl.1 rfl (lv_room (Nat.le_of_ble_eq_true rfl)) dX0_canBe_1 ⟨Nat.le_refl _, Nat.le_refl _⟩) (fun r1 w => ?_)
  refine lv_iload_n hx hb dX0_canBe_4 rfl (lv_at hl 2 rfl) ?_
  refine lv_icmp_gt (tgt := 12) hx hb dX0_canBe_5 (by decide) (fun c => ?_) (fun c => ?_)
  · have w := And.left w c
    refine lv_iconst (v := 0) hx hb dX0_canBe_12 (by decide) ?_
    exact wk_X0_canBe_L13 X hD  _ _ _ _ _ _ _ _ w _ _ _ hP hS (lv_sub hl [0, 1] rfl)
  · have w := And.right w c
    refine lv_iconst (v := 1) hx hb dX0_canBe_8 (by decide) ?_
    refine lv_goto (tgt := 13) hx hb dX0_canBe_9 (by decide) ?_
    exact wk_X0_canBe_L13 X hD  _ _ _ _ _ _ _ _ w _ _ _ hP hS (lv_sub hl [0, 1] rfl)
abbrev rm_X0_clerks : Room := { frames := 2, cells := 0, slots := 0, locals := 45 }
theorem hd_X0_clerks : yX0_clerks.cls = RX0 ∧ yX0_clerks.cls ≠ "java/lang/invoke/MethodHandle" ∧ yX0_clerks.cls ≠ "java/lang/invoke/VarHandle" ∧ (parseMethodDescriptor yX0_clerks.desc).map (fun d => d.parameters.length) = some 2 := by decide +kernel
set_option maxHeartbeats 4000000 in
set_option maxRecDepth 100000 in
theorem wk_X0_clerks_L46 {p : Program} {l : Launch} {e : Env} {s : State} {m : MethodId} {args : Array Value} {below : List Frame} {meth : Method} {c : Code} {dC : Nat → ClassId} {dI : Nat → Nat → Nat} {ct : Nat → ClassId} {A : Nat → Prop} {aX : Nat → Nat} {a0 : Nat → Nat} {a1 : Nat → Nat} {a2 : Nat → Nat} {a3 : Nat → Nat} {Post : Int32 → V → VL → V → V → V → V → Prop} {K17 : Int32 → Int32 → Int32 → Int32 → V → VL → V → V → V → V → Prop}  (X : CxW p s m args meth c cX0_clerks 5 (some .int) RX0 dC dI ct A) (hD : ∀ (x : V) (y : VL) (v0 : V) (v1 : V) (v2 : V) (v3 : V), va_D A (XW aX a0 a1 a2 a3 ct x y v0 v1 v2 v3)) (hK17 : ∀ (i1 : Int32) (i2 : Int32) (i3 : Int32) (i4 : Int32) (x : V) (y : VL) (v0 : V) (v1 : V) (v2 : V) (v3 : V), K17 i1 i2 i3 i4 x y v0 v1 v2 v3 → ∀ (H : Heap) (locs : List Loc) (ls : Array Slot), va_P (dC, dI) vwCl (XW aX a0 a1 a2 a3 ct x y v0 v1 v2 v3) H → va_S A s.heap H locs → lv_has ls 5 [(0, .ref (aX 0)), (1, .int i1), (2, .int i2), (3, .int i3), (4, .int i4)] → W p l e rm_X0_clerks s m args below meth c H locs 0 0 (MQ below (va_Qi (fun (r : Int32) (u : V × VL × V × V × V × V) => Post r u.1 u.2.1 u.2.2.1 u.2.2.2.1 u.2.2.2.2.1 u.2.2.2.2.2) (fun (u : V × VL × V × V × V × V) t => WPos dC dI ct (XW aX a0 a1 a2 a3 ct u.1 u.2.1 u.2.2.1 u.2.2.2.1 u.2.2.2.2.1 u.2.2.2.2.2) A t) A) args s 0 0 A) (F0 m 17 ls [])) (i1 : Int32) (i2 : Int32) (i3 : Int32) (i4 : Int32) (x : V) (y : VL) (v0 : V) (v1 : V) (v2 : V) (v3 : V) (w : wp_X0_clerks_L46  Post K17 i1 i2 i3 i4 x y v0 v1 v2 v3) : ∀ (H : Heap) (locs : List Loc) (ls : Array Slot), va_P (dC, dI) vwCl (XW aX a0 a1 a2 a3 ct x y v0 v1 v2 v3) H → va_S A s.heap H locs → lv_has ls 5 [(0, .ref (aX 0)), (1, .int i1), (2, .int i2), (3, .int i3), (4, .int i4)] → W p l e rm_X0_clerks s m args below meth c H locs 0 0 (MQ below (va_Qi (fun (r : Int32) (u : V × VL × V × V × V × V) => Post r u.1 u.2.1 u.2.2.1 u.2.2.2.1 u.2.2.2.2.1 u.2.2.2.2.2) (fun (u : V × VL × V × V × V × V) t => WPos dC dI ct (XW aX a0 a1 a2 a3 ct u.1 u.2.1 u.2.2.1 u.2.2.2.1 u.2.2.2.2.1 u.2.2.2.2.2) A t) A) args s 0 0 A) (F0 m 46 ls []) := by
  intro H locs ls hP hS hl
  have X0 := X
  obtain ⟨⟨hx, hb, hml, hr, hlk, hown, hts⟩, hA, hK, hN⟩ := X0
  unfold wp_X0_clerks_L46 at w
  refine lv_iinc (v := (i4 + 1)) (lv' := [(4, .int (i4 + 1)), (0, .ref (aX 0)), (1, .int i1), (2, .int i2), (3, .int i3)]) hx hb dX0_clerks_46 hl (k := 4) rfl rfl (by decide) rfl (fun ls hl => ?_)
  refine lv_goto (tgt := 17) hx hb dX0_clerks_49 (by decide) ?_
  exact hK17 _ _ _ _ _ _ _ _ _ _ w _ _ _ hP hS (lv_sub hl [1, 2, 3, 4, 0] rfl)
set_option maxHeartbeats 4000000 in
set_option maxRecDepth 100000 in
theorem wk_X0_clerks_L63 {p : Program} {l : Launch} {e : Env} {s : State} {m : MethodId} {args : Array Value} {below : List Frame} {meth : Method} {c : Code} {dC : Nat → ClassId} {dI : Nat → Nat → Nat} {ct : Nat → ClassId} {A : Nat → Prop} {aX : Nat → Nat} {a0 : Nat → Nat} {a1 : Nat → Nat} {a2 : Nat → Nat} {a3 : Nat → Nat} {Post : Int32 → V → VL → V → V → V → V → Prop}   (X : CxW p s m args meth c cX0_clerks 5 (some .int) RX0 dC dI ct A) (hD : ∀ (x : V) (y : VL) (v0 : V) (v1 : V) (v2 : V) (v3 : V), va_D A (XW aX a0 a1 a2 a3 ct x y v0 v1 v2 v3))  (is0 : Int32) (x : V) (y : VL) (v0 : V) (v1 : V) (v2 : V) (v3 : V) (w : wp_X0_clerks_L63  Post  is0 x y v0 v1 v2 v3) : ∀ (H : Heap) (locs : List Loc) (ls : Array Slot), va_P (dC, dI) vwCl (XW aX a0 a1 a2 a3 ct x y v0 v1 v2 v3) H → va_S A s.heap H locs → lv_has ls 5 [] → W p l e rm_X0_clerks s m args below meth c H locs 0 0 (MQ below (va_Qi (fun (r : Int32) (u : V × VL × V × V × V × V) => Post r u.1 u.2.1 u.2.2.1 u.2.2.2.1 u.2.2.2.2.1 u.2.2.2.2.2) (fun (u : V × VL × V × V × V × V) t => WPos dC dI ct (XW aX a0 a1 a2 a3 ct u.1 u.2.1 u.2.2.1 u.2.2.2.1 u.2.2.2.2.1 u.2.2.2.2.2) A t) A) args s 0 0 A) (F0 m 63 ls [.int is0]) := by
  intro H locs ls hP hS hl
  have X0 := X
  obtain ⟨⟨hx, hb, hml, hr, hlk, hown, hts⟩, hA, hK, hN⟩ := X0
  unfold wp_X0_clerks_L63 at w
  exact W.iret (v := is0) hx hb hr (fun t ht hW => ⟨⟨is0, (x, y, v0, v1, v2, v3), rfl, w, by rw [ht]; exact hP, va_K.moved hW.alike hK, (hD _ _ _ _ _ _)⟩, hS.F ht⟩) hS.2.2 dX0_clerks_63 hlk
set_option maxHeartbeats 4000000 in
set_option maxRecDepth 100000 in
theorem wk_X0_clerks_S17 {p : Program} {l : Launch} {e : Env} {s : State} {m : MethodId} {args : Array Value} {below : List Frame} {meth : Method} {c : Code} {dC : Nat → ClassId} {dI : Nat → Nat → Nat} {ct : Nat → ClassId} {A : Nat → Prop} {aX : Nat → Nat} {a0 : Nat → Nat} {a1 : Nat → Nat} {a2 : Nat → Nat} {a3 : Nat → Nat} {Post : Int32 → V → VL → V → V → V → V → Prop} {K17 : Int32 → Int32 → Int32 → Int32 → V → VL → V → V → V → V → Prop}  (X : CxW p s m args meth c cX0_clerks 5 (some .int) RX0 dC dI ct A) (hD : ∀ (x : V) (y : VL) (v0 : V) (v1 : V) (v2 : V) (v3 : V), va_D A (XW aX a0 a1 a2 a3 ct x y v0 v1 v2 v3)) (hK17 : ∀ (i1 : Int32) (i2 : Int32) (i3 : Int32) (i4 : Int32) (x : V) (y : VL) (v0 : V) (v1 : V) (v2 : V) (v3 : V), K17 i1 i2 i3 i4 x y v0 v1 v2 v3 → ∀ (H : Heap) (locs : List Loc) (ls : Array Slot), va_P (dC, dI) vwCl (XW aX a0 a1 a2 a3 ct x y v0 v1 v2 v3) H → va_S A s.heap H locs → lv_has ls 5 [(0, .ref (aX 0)), (1, .int i1), (2, .int i2), (3, .int i3), (4, .int i4)] → W p l e rm_X0_clerks s m args below meth c H locs 0 0 (MQ below (va_Qi (fun (r : Int32) (u : V × VL × V × V × V × V) => Post r u.1 u.2.1 u.2.2.1 u.2.2.2.1 u.2.2.2.2.1 u.2.2.2.2.2) (fun (u : V × VL × V × V × V × V) t => WPos dC dI ct (XW aX a0 a1 a2 a3 ct u.1 u.2.1 u.2.2.1 u.2.2.2.1 u.2.2.2.2.1 u.2.2.2.2.2) A t) A) args s 0 0 A) (F0 m 17 ls [])) (i1 : Int32) (i2 : Int32) (i3 : Int32) (i4 : Int32) (x : V) (y : VL) (v0 : V) (v1 : V) (v2 : V) (v3 : V) (w : wp_X0_clerks_S17  Post K17 i1 i2 i3 i4 x y v0 v1 v2 v3) : ∀ (H : Heap) (locs : List Loc) (ls : Array Slot), va_P (dC, dI) vwCl (XW aX a0 a1 a2 a3 ct x y v0 v1 v2 v3) H → va_S A s.heap H locs → lv_has ls 5 [(0, .ref (aX 0)), (1, .int i1), (2, .int i2), (3, .int i3), (4, .int i4)] → W p l e rm_X0_clerks s m args below meth c H locs 0 0 (MQ below (va_Qi (fun (r : Int32) (u : V × VL × V × V × V × V) => Post r u.1 u.2.1 u.2.2.1 u.2.2.2.1 u.2.2.2.2.1 u.2.2.2.2.2) (fun (u : V × VL × V × V × V × V) t => WPos dC dI ct (XW aX a0 a1 a2 a3 ct u.1 u.2.1 u.2.2.1 u.2.2.2.1 u.2.2.2.2.1 u.2.2.2.2.2) A t) A) args s 0 0 A) (F0 m 17 ls []) := by
  intro H locs ls hP hS hl
  have X0 := X
  obtain ⟨⟨hx, hb, hml, hr, hlk, hown, hts⟩, hA, hK, hN⟩ := X0
  unfold wp_X0_clerks_S17 at w
  refine lv_iload hx hb dX0_clerks_17 (lv_at hl 4 rfl) ?_
  refine lv_sipush (v := 256) hx hb dX0_clerks_19 (by decide) ?_
  refine lv_icmp_ge (tgt := 52) hx hb dX0_clerks_22 (by decide) (fun c => ?_) (fun c => ?_)
  · have w := And.left w c
    refine lv_iload_n hx hb dX0_clerks_52 rfl (lv_at hl 2 rfl) ?_
    refine lv_iconst (v := -1) hx hb dX0_clerks_53 (by decide) ?_
    refine lv_icmp_ne (tgt := 61) hx hb dX0_clerks_54 (by decide) (fun c => ?_) (fun c => ?_)
    · have w := And.right w c
      refine lv_bipush (v := -6) hx hb dX0_clerks_61 (by decide) ?_
      exact wk_X0_clerks_L63 X hD  _ _ _ _ _ _ _ w _ _ _ hP hS (lv_sub hl [] rfl)
    · have w := And.left w c
      refine lv_iload_n hx hb dX0_clerks_57 rfl (lv_at hl 3 rfl) ?_
      refine lv_goto (tgt := 63) hx hb dX0_clerks_58 (by decide) ?_
      exact wk_X0_clerks_L63 X hD  _ _ _ _ _ _ _ w _ _ _ hP hS (lv_sub hl [] rfl)
  · have w := And.right w c
    refine lv_aload_n hx hb dX0_clerks_25 rfl (lv_at hl 0 rfl) ?_
    refine lv_iload hx hb dX0_clerks_26 (lv_at hl 4 rfl) ?_
    refine lv_iload_n hx hb dX0_clerks_28 rfl (lv_at hl 1 rfl) ?_
    refine va_calli (va_runV (As := [.int i4, .int i1]) (rest := []) ⟨hx, hb, hml, hown, hts⟩ (met_X0_canBe l dC dI ct aX a0 a1 a2 a3 _ w) (cwV 2 hts (lw_V q408 q410 qs7 q48 q411) rfl rfl rfl hd_X0_canBe ⟨Nat.le_of_ble_eq_true rfl, Nat.le_of_ble_eq_true rfl⟩) (pre_V hK hP (hD _ _ _ _ _ _) hN (va_recv hK hP (ci := 0) (q0 := 0) rfl rfl)) rfl rfl hl.1 rfl (lv_room (Nat.le_of_ble_eq_true rfl)) dX0_clerks_29 ⟨Nat.le_refl _, Nat.le_refl _⟩) hS (fun q _ h => x_free (hD _ _ _ _ _ _) hS hA q h) (x_free (hD _ _ _ _ _ _) hS hA) (fun r1 u t H locs ht hvm w hB hz hk hS => ?_)
    obtain ⟨x_1, y_1, v0_1, v1_1, v2_1, v3_1⟩ := u
    dsimp only at w
    have hP : va_P (dC, dI) vwCl (XW aX a0 a1 a2 a3 ct x_1 y_1 v0_1 v1_1 v2_1 v3_1) H := post_P hB ht
    refine lv_if_eq (tgt := 46) hx hb dX0_clerks_32 (by decide) (fun c => ?_) (fun c => ?_)
    · have w := And.left w c
      exact wk_X0_clerks_L46 X hD hK17 _ _ _ _ _ _ _ _ _ _ w _ _ _ hP hS (lv_sub hl [0, 1, 2, 3, 4] rfl)
    · have w := And.right w c
      refine lv_iload_n hx hb dX0_clerks_35 rfl (lv_at hl 3 rfl) ?_
      refine lv_iload_n hx hb dX0_clerks_36 rfl (lv_at hl 2 rfl) ?_
      refine lv_icmp_ne (tgt := 43) hx hb dX0_clerks_37 (by decide) (fun c => ?_) (fun c => ?_)
      · have w := And.right w c
        refine lv_iinc (v := (i3 + 1)) (lv' := [(3, .int (i3 + 1)), (0, .ref (aX 0)), (1, .int i1), (2, .int i2), (4, .int i4)]) hx hb dX0_clerks_43 hl (k := 3) rfl rfl (by decide) rfl (fun ls hl => ?_)
        exact wk_X0_clerks_L46 X hD hK17 _ _ _ _ _ _ _ _ _ _ w _ _ _ hP hS (lv_sub hl [1, 2, 3, 0, 4] rfl)
      · have w := And.left w c
        refine lv_iload hx hb dX0_clerks_40 (lv_at hl 4 rfl) ?_
        exact W.iret (v := i4) hx hb hr (fun t ht hW => ⟨⟨i4, (x_1, y_1, v0_1, v1_1, v2_1, v3_1), rfl, w, by rw [ht]; exact hP, va_K.moved hW.alike hK, (hD _ _ _ _ _ _)⟩, hS.F ht⟩) hS.2.2 dX0_clerks_42 hlk
set_option maxHeartbeats 4000000 in
set_option maxRecDepth 100000 in
theorem wk_X0_clerks_L17 {p : Program} {l : Launch} {e : Env} {s : State} {m : MethodId} {args : Array Value} {below : List Frame} {meth : Method} {c : Code} {dC : Nat → ClassId} {dI : Nat → Nat → Nat} {ct : Nat → ClassId} {A : Nat → Prop} {aX : Nat → Nat} {a0 : Nat → Nat} {a1 : Nat → Nat} {a2 : Nat → Nat} {a3 : Nat → Nat} {Post : Int32 → V → VL → V → V → V → V → Prop}   (X : CxW p s m args meth c cX0_clerks 5 (some .int) RX0 dC dI ct A) (hD : ∀ (x : V) (y : VL) (v0 : V) (v1 : V) (v2 : V) (v3 : V), va_D A (XW aX a0 a1 a2 a3 ct x y v0 v1 v2 v3))  : ∀ (n : Nat) (i1 : Int32) (i2 : Int32) (i3 : Int32) (i4 : Int32) (x : V) (y : VL) (v0 : V) (v1 : V) (v2 : V) (v3 : V), wp_X0_clerks_L17  Post  n i1 i2 i3 i4 x y v0 v1 v2 v3 → ∀ (H : Heap) (locs : List Loc) (ls : Array Slot), va_P (dC, dI) vwCl (XW aX a0 a1 a2 a3 ct x y v0 v1 v2 v3) H → va_S A s.heap H locs → lv_has ls 5 [(0, .ref (aX 0)), (1, .int i1), (2, .int i2), (3, .int i3), (4, .int i4)] → W p l e rm_X0_clerks s m args below meth c H locs 0 0 (MQ below (va_Qi (fun (r : Int32) (u : V × VL × V × V × V × V) => Post r u.1 u.2.1 u.2.2.1 u.2.2.2.1 u.2.2.2.2.1 u.2.2.2.2.2) (fun (u : V × VL × V × V × V × V) t => WPos dC dI ct (XW aX a0 a1 a2 a3 ct u.1 u.2.1 u.2.2.1 u.2.2.2.1 u.2.2.2.2.1 u.2.2.2.2.2) A t) A) args s 0 0 A) (F0 m 17 ls []) := by
  intro n
  induction n with
  | zero => intro i1 i2 i3 i4 x y v0 v1 v2 v3 w; exact False.elim w
  | succ n ih => intro i1 i2 i3 i4 x y v0 v1 v2 v3 w H locs ls hP hS hl; exact wk_X0_clerks_S17 X hD  ih i1 i2 i3 i4 x y v0 v1 v2 v3 w H locs ls hP hS hl
set_option maxHeartbeats 4000000 in
set_option maxRecDepth 100000 in
theorem met_X0_clerks (l : Launch) (dC : Nat → ClassId) (dI : Nat → Nat → Nat) (ct : Nat → ClassId) (aX : Nat → Nat) (a0 : Nat → Nat) (a1 : Nat → Nat) (a2 : Nat → Nat) (a3 : Nat → Nat) (sz : Nat) {i1 : Int32} {i2 : Int32} {x : V} {y : VL} {v0 : V} {v1 : V} {v2 : V} {v3 : V} {Post : Int32 → V → VL → V → V → V → V → Prop} (w : wp_X0_clerks i1 i2 x y v0 v1 v2 v3 Post) : Met l yX0_clerks (ws_ yX0_clerks cX0_clerks 5 (some .int)) rm_X0_clerks (va_Pc [.ref (aX 0), .int i1, .int i2] (fun U => WPre dC dI ct (XW aX a0 a1 a2 a3 ct x y v0 v1 v2 v3) sz U)) ((fun A => (va_Qi (fun (r : Int32) (u : V × VL × V × V × V × V) => Post r u.1 u.2.1 u.2.2.1 u.2.2.2.1 u.2.2.2.2.1 u.2.2.2.2.2) (fun (u : V × VL × V × V × V × V) t => WPos dC dI ct (XW aX a0 a1 a2 a3 ct u.1 u.2.1 u.2.2.1 u.2.2.2.1 u.2.2.2.2.1 u.2.2.2.2.2) A t) A)) (va_A (XW aX a0 a1 a2 a3 ct x y v0 v1 v2 v3) sz)) 0 0 (va_A (XW aX a0 a1 a2 a3 ct x y v0 v1 v2 v3) sz) := by
  refine open_W (fun A => (va_Qi (fun (r : Int32) (u : V × VL × V × V × V × V) => Post r u.1 u.2.1 u.2.2.1 u.2.2.2.1 u.2.2.2.2.1 u.2.2.2.2.2) (fun (u : V × VL × V × V × V × V) t => WPos dC dI ct (XW aX a0 a1 a2 a3 ct u.1 u.2.1 u.2.2.1 u.2.2.2.1 u.2.2.2.2.1 u.2.2.2.2.2) A t) A)) (by decide) (Nat.le_of_ble_eq_true rfl) ?_
  intro p e s m args below meth c ls A X hD0 hP hS hl
  have X0 := X
  obtain ⟨⟨hx, hb, hml, hr, hlk, hown, hts⟩, hA, hK, hN⟩ := X0
  have hD : ∀ (x' : V) (y' : VL) (v0' : V) (v1' : V) (v2' : V) (v3' : V), va_D A (XW aX a0 a1 a2 a3 ct x' y' v0' v1' v2' v3') := fun x' y' v0' v1' v2' v3' => va_D_addr hD0 rfl
  have hl : lv_has ls 5 [(0, .ref (aX 0)), (1, .int i1), (2, .int i2)] := hl
  unfold wp_X0_clerks at w
  have hS0 := hS
  refine lv_iload_n hx hb dX0_clerks_0 rfl (lv_at hl 1 rfl) ?_
  refine lv_iconst (v := 0) hx hb dX0_clerks_1 (by decide) ?_
  refine lv_iconst (v := 3) hx hb dX0_clerks_2 (by decide) ?_
  refine vp_callSi (W.runS (As := [.int i1, .int (0 : Int32), .int (3 : Int32)]) (rest := []) ⟨hx, hb, hml, hown, hts⟩ (met_X0_isIn l w) (va_cwS 3 hts (lw_S q180 q181 q48 q182) rfl rfl rfl hd_X0_isIn ⟨Nat.le_of_ble_eq_true rfl, Nat.le_of_ble_eq_true rfl⟩) pre_S rfl rfl hl.1 rfl (lv_room (Nat.le_of_ble_eq_true rfl)) dX0_clerks_3 ⟨Nat.le_refl _, Nat.le_refl _⟩) (fun r1 w => ?_)
  refine lv_if_ne (tgt := 12) hx hb dX0_clerks_6 (by decide) (fun c => ?_) (fun c => ?_)
  · have w := And.right w c
    refine lv_iconst (v := 0) hx hb dX0_clerks_12 (by decide) ?_
    refine lv_istore_n (lv' := [(3, .int (0 : Int32)), (0, .ref (aX 0)), (1, .int i1), (2, .int i2)]) hx hb dX0_clerks_13 rfl hl (by decide) rfl (fun ls hl => ?_)
    refine lv_iconst (v := 0) hx hb dX0_clerks_14 (by decide) ?_
    refine lv_istore (lv' := [(4, .int (0 : Int32)), (3, .int (0 : Int32)), (0, .ref (aX 0)), (1, .int i1), (2, .int i2)]) hx hb dX0_clerks_15 hl (by decide) rfl (fun ls hl => ?_)
    obtain ⟨n, w⟩ := w
    exact wk_X0_clerks_L17 X hD  n _ _ _ _ _ _ _ _ _ _ w _ _ _ hP hS (lv_sub hl [2, 3, 4, 1, 0] rfl)
  · have w := And.left w c
    refine lv_bipush (v := -2) hx hb dX0_clerks_9 (by decide) ?_
    exact W.iret (v := (-2 : Int32)) hx hb hr (fun t ht hW => ⟨⟨(-2 : Int32), (x, y, v0, v1, v2, v3), rfl, w, by rw [ht]; exact hP, va_K.moved hW.alike hK, (hD _ _ _ _ _ _)⟩, hS.F ht⟩) hS.2.2 dX0_clerks_11 hlk
abbrev rm_X0_count : Room := { frames := 2, cells := 0, slots := 0, locals := 45 }
theorem hd_X0_count : yX0_count.cls = RX0 ∧ yX0_count.cls ≠ "java/lang/invoke/MethodHandle" ∧ yX0_count.cls ≠ "java/lang/invoke/VarHandle" ∧ (parseMethodDescriptor yX0_count.desc).map (fun d => d.parameters.length) = some 2 := by decide +kernel
set_option maxHeartbeats 4000000 in
set_option maxRecDepth 100000 in
theorem wk_X0_count_L18 {p : Program} {l : Launch} {e : Env} {s : State} {m : MethodId} {args : Array Value} {below : List Frame} {meth : Method} {c : Code} {dC : Nat → ClassId} {dI : Nat → Nat → Nat} {ct : Nat → ClassId} {A : Nat → Prop} {aX : Nat → Nat} {a0 : Nat → Nat} {a1 : Nat → Nat} {a2 : Nat → Nat} {a3 : Nat → Nat} {Post : Int32 → V → VL → V → V → V → V → Prop}   (X : CxW p s m args meth c cX0_count 8 (some .int) RX0 dC dI ct A) (hD : ∀ (x : V) (y : VL) (v0 : V) (v1 : V) (v2 : V) (v3 : V), va_D A (XW aX a0 a1 a2 a3 ct x y v0 v1 v2 v3))  (x : V) (y : VL) (v0 : V) (v1 : V) (v2 : V) (v3 : V) (w : wp_X0_count_L18  Post  x y v0 v1 v2 v3) : ∀ (H : Heap) (locs : List Loc) (ls : Array Slot), va_P (dC, dI) vwCl (XW aX a0 a1 a2 a3 ct x y v0 v1 v2 v3) H → va_S A s.heap H locs → lv_has ls 8 [] → W p l e rm_X0_count s m args below meth c H locs 0 0 (MQ below (va_Qi (fun (r : Int32) (u : V × VL × V × V × V × V) => Post r u.1 u.2.1 u.2.2.1 u.2.2.2.1 u.2.2.2.2.1 u.2.2.2.2.2) (fun (u : V × VL × V × V × V × V) t => WPos dC dI ct (XW aX a0 a1 a2 a3 ct u.1 u.2.1 u.2.2.1 u.2.2.2.1 u.2.2.2.2.1 u.2.2.2.2.2) A t) A) args s 0 0 A) (F0 m 18 ls []) := by
  intro H locs ls hP hS hl
  have X0 := X
  obtain ⟨⟨hx, hb, hml, hr, hlk, hown, hts⟩, hA, hK, hN⟩ := X0
  unfold wp_X0_count_L18 at w
  refine lv_bipush (v := -2) hx hb dX0_count_18 (by decide) ?_
  exact W.iret (v := (-2 : Int32)) hx hb hr (fun t ht hW => ⟨⟨(-2 : Int32), (x, y, v0, v1, v2, v3), rfl, w, by rw [ht]; exact hP, va_K.moved hW.alike hK, (hD _ _ _ _ _ _)⟩, hS.F ht⟩) hS.2.2 dX0_count_20 hlk
set_option maxHeartbeats 4000000 in
set_option maxRecDepth 100000 in
theorem wk_X0_count_L88 {p : Program} {l : Launch} {e : Env} {s : State} {m : MethodId} {args : Array Value} {below : List Frame} {meth : Method} {c : Code} {dC : Nat → ClassId} {dI : Nat → Nat → Nat} {ct : Nat → ClassId} {A : Nat → Prop} {aX : Nat → Nat} {a0 : Nat → Nat} {a1 : Nat → Nat} {a2 : Nat → Nat} {a3 : Nat → Nat} {Post : Int32 → V → VL → V → V → V → V → Prop} {K34 : Int32 → Int32 → Int32 → Int32 → V → VL → V → V → V → V → Prop}  (X : CxW p s m args meth c cX0_count 8 (some .int) RX0 dC dI ct A) (hD : ∀ (x : V) (y : VL) (v0 : V) (v1 : V) (v2 : V) (v3 : V), va_D A (XW aX a0 a1 a2 a3 ct x y v0 v1 v2 v3)) (hK34 : ∀ (i1 : Int32) (i2 : Int32) (i3 : Int32) (i4 : Int32) (x : V) (y : VL) (v0 : V) (v1 : V) (v2 : V) (v3 : V), K34 i1 i2 i3 i4 x y v0 v1 v2 v3 → ∀ (H : Heap) (locs : List Loc) (ls : Array Slot), va_P (dC, dI) vwCl (XW aX a0 a1 a2 a3 ct x y v0 v1 v2 v3) H → va_S A s.heap H locs → lv_has ls 8 [(0, .ref (aX 0)), (1, .int i1), (2, .int i2), (3, .int i3), (4, .int i4)] → W p l e rm_X0_count s m args below meth c H locs 0 0 (MQ below (va_Qi (fun (r : Int32) (u : V × VL × V × V × V × V) => Post r u.1 u.2.1 u.2.2.1 u.2.2.2.1 u.2.2.2.2.1 u.2.2.2.2.2) (fun (u : V × VL × V × V × V × V) t => WPos dC dI ct (XW aX a0 a1 a2 a3 ct u.1 u.2.1 u.2.2.1 u.2.2.2.1 u.2.2.2.2.1 u.2.2.2.2.2) A t) A) args s 0 0 A) (F0 m 34 ls [])) (i1 : Int32) (i2 : Int32) (i3 : Int32) (i4 : Int32) (x : V) (y : VL) (v0 : V) (v1 : V) (v2 : V) (v3 : V) (w : wp_X0_count_L88  Post K34 i1 i2 i3 i4 x y v0 v1 v2 v3) : ∀ (H : Heap) (locs : List Loc) (ls : Array Slot), va_P (dC, dI) vwCl (XW aX a0 a1 a2 a3 ct x y v0 v1 v2 v3) H → va_S A s.heap H locs → lv_has ls 8 [(0, .ref (aX 0)), (1, .int i1), (2, .int i2), (3, .int i3), (4, .int i4)] → W p l e rm_X0_count s m args below meth c H locs 0 0 (MQ below (va_Qi (fun (r : Int32) (u : V × VL × V × V × V × V) => Post r u.1 u.2.1 u.2.2.1 u.2.2.2.1 u.2.2.2.2.1 u.2.2.2.2.2) (fun (u : V × VL × V × V × V × V) t => WPos dC dI ct (XW aX a0 a1 a2 a3 ct u.1 u.2.1 u.2.2.1 u.2.2.2.1 u.2.2.2.2.1 u.2.2.2.2.2) A t) A) args s 0 0 A) (F0 m 88 ls []) := by
  intro H locs ls hP hS hl
  have X0 := X
  obtain ⟨⟨hx, hb, hml, hr, hlk, hown, hts⟩, hA, hK, hN⟩ := X0
  unfold wp_X0_count_L88 at w
  refine lv_iinc (v := (i4 + 1)) (lv' := [(4, .int (i4 + 1)), (0, .ref (aX 0)), (1, .int i1), (2, .int i2), (3, .int i3)]) hx hb dX0_count_88 hl (k := 4) rfl rfl (by decide) rfl (fun ls hl => ?_)
  refine lv_goto (tgt := 34) hx hb dX0_count_91 (by decide) ?_
  exact hK34 _ _ _ _ _ _ _ _ _ _ w _ _ _ hP hS (lv_sub hl [1, 2, 3, 4, 0] rfl)
set_option maxHeartbeats 4000000 in
set_option maxRecDepth 100000 in
theorem wk_X0_count_S58 {p : Program} {l : Launch} {e : Env} {s : State} {m : MethodId} {args : Array Value} {below : List Frame} {meth : Method} {c : Code} {dC : Nat → ClassId} {dI : Nat → Nat → Nat} {ct : Nat → ClassId} {A : Nat → Prop} {aX : Nat → Nat} {a0 : Nat → Nat} {a1 : Nat → Nat} {a2 : Nat → Nat} {a3 : Nat → Nat} {Post : Int32 → V → VL → V → V → V → V → Prop} {K34 : Int32 → Int32 → Int32 → Int32 → V → VL → V → V → V → V → Prop} {K58 : Int32 → Int32 → Int32 → Int32 → Int32 → V → VL → V → V → V → V → Prop}  (X : CxW p s m args meth c cX0_count 8 (some .int) RX0 dC dI ct A) (hD : ∀ (x : V) (y : VL) (v0 : V) (v1 : V) (v2 : V) (v3 : V), va_D A (XW aX a0 a1 a2 a3 ct x y v0 v1 v2 v3)) (hK34 : ∀ (i1 : Int32) (i2 : Int32) (i3 : Int32) (i4 : Int32) (x : V) (y : VL) (v0 : V) (v1 : V) (v2 : V) (v3 : V), K34 i1 i2 i3 i4 x y v0 v1 v2 v3 → ∀ (H : Heap) (locs : List Loc) (ls : Array Slot), va_P (dC, dI) vwCl (XW aX a0 a1 a2 a3 ct x y v0 v1 v2 v3) H → va_S A s.heap H locs → lv_has ls 8 [(0, .ref (aX 0)), (1, .int i1), (2, .int i2), (3, .int i3), (4, .int i4)] → W p l e rm_X0_count s m args below meth c H locs 0 0 (MQ below (va_Qi (fun (r : Int32) (u : V × VL × V × V × V × V) => Post r u.1 u.2.1 u.2.2.1 u.2.2.2.1 u.2.2.2.2.1 u.2.2.2.2.2) (fun (u : V × VL × V × V × V × V) t => WPos dC dI ct (XW aX a0 a1 a2 a3 ct u.1 u.2.1 u.2.2.1 u.2.2.2.1 u.2.2.2.2.1 u.2.2.2.2.2) A t) A) args s 0 0 A) (F0 m 34 ls [])) (hK58 : ∀ (i1 : Int32) (i2 : Int32) (i3 : Int32) (i4 : Int32) (i5 : Int32) (x : V) (y : VL) (v0 : V) (v1 : V) (v2 : V) (v3 : V), K58 i1 i2 i3 i4 i5 x y v0 v1 v2 v3 → ∀ (H : Heap) (locs : List Loc) (ls : Array Slot), va_P (dC, dI) vwCl (XW aX a0 a1 a2 a3 ct x y v0 v1 v2 v3) H → va_S A s.heap H locs → lv_has ls 8 [(0, .ref (aX 0)), (1, .int i1), (2, .int i2), (3, .int i3), (4, .int i4), (5, .int i5)] → W p l e rm_X0_count s m args below meth c H locs 0 0 (MQ below (va_Qi (fun (r : Int32) (u : V × VL × V × V × V × V) => Post r u.1 u.2.1 u.2.2.1 u.2.2.2.1 u.2.2.2.2.1 u.2.2.2.2.2) (fun (u : V × VL × V × V × V × V) t => WPos dC dI ct (XW aX a0 a1 a2 a3 ct u.1 u.2.1 u.2.2.1 u.2.2.2.1 u.2.2.2.2.1 u.2.2.2.2.2) A t) A) args s 0 0 A) (F0 m 58 ls [])) (i1 : Int32) (i2 : Int32) (i3 : Int32) (i4 : Int32) (i5 : Int32) (x : V) (y : VL) (v0 : V) (v1 : V) (v2 : V) (v3 : V) (w : wp_X0_count_S58  Post K34 K58 i1 i2 i3 i4 i5 x y v0 v1 v2 v3) : ∀ (H : Heap) (locs : List Loc) (ls : Array Slot), va_P (dC, dI) vwCl (XW aX a0 a1 a2 a3 ct x y v0 v1 v2 v3) H → va_S A s.heap H locs → lv_has ls 8 [(0, .ref (aX 0)), (1, .int i1), (2, .int i2), (3, .int i3), (4, .int i4), (5, .int i5)] → W p l e rm_X0_count s m args below meth c H locs 0 0 (MQ below (va_Qi (fun (r : Int32) (u : V × VL × V × V × V × V) => Post r u.1 u.2.1 u.2.2.1 u.2.2.2.1 u.2.2.2.2.1 u.2.2.2.2.2) (fun (u : V × VL × V × V × V × V) t => WPos dC dI ct (XW aX a0 a1 a2 a3 ct u.1 u.2.1 u.2.2.1 u.2.2.2.1 u.2.2.2.2.1 u.2.2.2.2.2) A t) A) args s 0 0 A) (F0 m 58 ls []) := by
  intro H locs ls hP hS hl
  have X0 := X
  obtain ⟨⟨hx, hb, hml, hr, hlk, hown, hts⟩, hA, hK, hN⟩ := X0
  unfold wp_X0_count_S58 at w
  refine lv_iload hx hb dX0_count_58 (lv_at hl 5 rfl) ?_
  refine lv_bipush (v := 8) hx hb dX0_count_60 (by decide) ?_
  refine lv_icmp_ge (tgt := 88) hx hb dX0_count_62 (by decide) (fun c => ?_) (fun c => ?_)
  · have w := And.left w c
    exact wk_X0_count_L88 X hD hK34 _ _ _ _ _ _ _ _ _ _ w _ _ _ hP hS (lv_sub hl [0, 1, 2, 3, 4] rfl)
  · have w := And.right w c
    refine lv_aload_n hx hb dX0_count_65 rfl (lv_at hl 0 rfl) ?_
    refine va_get (D := (dC, dI)) (ci := 0) (v := .ref (aX 6)) (C := RX0) (T := TX0) (N := 14) hx hb hts in_X0 hown hK hP 0 rfl rfl 13 (by decide) (hts _ q141) (fun _ h9 => h9) rfl dX0_count_66 ?_
    refine lv_iload hx hb dX0_count_69 (lv_at hl 5 rfl) ?_
    refine lv_dup2_11 hx hb dX0_count_71 rfl rfl ?_
    obtain ⟨gi, w⟩ := w
    refine va_iald hx hb hK hP 6 0 rfl rfl gi dX0_count_72 ?_
    refine lv_iload hx hb dX0_count_73 (lv_at hl 4 rfl) ?_
    refine lv_iload hx hb dX0_count_75 (lv_at hl 5 rfl) ?_
    refine lv_ishr hx hb dX0_count_77 ?_
    refine lv_iconst (v := 1) hx hb dX0_count_78 (by decide) ?_
    refine lv_iand hx hb dX0_count_79 ?_
    refine lv_iadd hx hb dX0_count_80 ?_
    obtain ⟨gi, w⟩ := w
    refine va_iast hx hb hK hP (hD _ _ _ _ _ _) hS 6 0 rfl rfl gi dX0_count_81 (fun H locs hP _ hS => ?_)
    have hP : va_P (dC, dI) vwCl (XW aX a0 a1 a2 a3 ct (up2 x 4 i5.toNatClampNeg ((x 4 i5.toNatClampNeg) + ((i4 >>> (i5 &&& 31)) &&& (1 : Int32)))) y v0 v1 v2 v3) H := XW_u_x_4 hP
    refine lv_iinc (v := (i5 + 1)) (lv' := [(5, .int (i5 + 1)), (0, .ref (aX 0)), (1, .int i1), (2, .int i2), (3, .int i3), (4, .int i4)]) hx hb dX0_count_82 hl (k := 5) rfl rfl (by decide) rfl (fun ls hl => ?_)
    refine lv_goto (tgt := 58) hx hb dX0_count_85 (by decide) ?_
    exact hK58 _ _ _ _ _ _ _ _ _ _ _ w _ _ _ hP hS (lv_sub hl [1, 2, 3, 4, 5, 0] rfl)
set_option maxHeartbeats 4000000 in
set_option maxRecDepth 100000 in
theorem wk_X0_count_L58 {p : Program} {l : Launch} {e : Env} {s : State} {m : MethodId} {args : Array Value} {below : List Frame} {meth : Method} {c : Code} {dC : Nat → ClassId} {dI : Nat → Nat → Nat} {ct : Nat → ClassId} {A : Nat → Prop} {aX : Nat → Nat} {a0 : Nat → Nat} {a1 : Nat → Nat} {a2 : Nat → Nat} {a3 : Nat → Nat} {Post : Int32 → V → VL → V → V → V → V → Prop} {K34 : Int32 → Int32 → Int32 → Int32 → V → VL → V → V → V → V → Prop}  (X : CxW p s m args meth c cX0_count 8 (some .int) RX0 dC dI ct A) (hD : ∀ (x : V) (y : VL) (v0 : V) (v1 : V) (v2 : V) (v3 : V), va_D A (XW aX a0 a1 a2 a3 ct x y v0 v1 v2 v3)) (hK34 : ∀ (i1 : Int32) (i2 : Int32) (i3 : Int32) (i4 : Int32) (x : V) (y : VL) (v0 : V) (v1 : V) (v2 : V) (v3 : V), K34 i1 i2 i3 i4 x y v0 v1 v2 v3 → ∀ (H : Heap) (locs : List Loc) (ls : Array Slot), va_P (dC, dI) vwCl (XW aX a0 a1 a2 a3 ct x y v0 v1 v2 v3) H → va_S A s.heap H locs → lv_has ls 8 [(0, .ref (aX 0)), (1, .int i1), (2, .int i2), (3, .int i3), (4, .int i4)] → W p l e rm_X0_count s m args below meth c H locs 0 0 (MQ below (va_Qi (fun (r : Int32) (u : V × VL × V × V × V × V) => Post r u.1 u.2.1 u.2.2.1 u.2.2.2.1 u.2.2.2.2.1 u.2.2.2.2.2) (fun (u : V × VL × V × V × V × V) t => WPos dC dI ct (XW aX a0 a1 a2 a3 ct u.1 u.2.1 u.2.2.1 u.2.2.2.1 u.2.2.2.2.1 u.2.2.2.2.2) A t) A) args s 0 0 A) (F0 m 34 ls [])) : ∀ (n : Nat) (i1 : Int32) (i2 : Int32) (i3 : Int32) (i4 : Int32) (i5 : Int32) (x : V) (y : VL) (v0 : V) (v1 : V) (v2 : V) (v3 : V), wp_X0_count_L58  Post K34 n i1 i2 i3 i4 i5 x y v0 v1 v2 v3 → ∀ (H : Heap) (locs : List Loc) (ls : Array Slot), va_P (dC, dI) vwCl (XW aX a0 a1 a2 a3 ct x y v0 v1 v2 v3) H → va_S A s.heap H locs → lv_has ls 8 [(0, .ref (aX 0)), (1, .int i1), (2, .int i2), (3, .int i3), (4, .int i4), (5, .int i5)] → W p l e rm_X0_count s m args below meth c H locs 0 0 (MQ below (va_Qi (fun (r : Int32) (u : V × VL × V × V × V × V) => Post r u.1 u.2.1 u.2.2.1 u.2.2.2.1 u.2.2.2.2.1 u.2.2.2.2.2) (fun (u : V × VL × V × V × V × V) t => WPos dC dI ct (XW aX a0 a1 a2 a3 ct u.1 u.2.1 u.2.2.1 u.2.2.2.1 u.2.2.2.2.1 u.2.2.2.2.2) A t) A) args s 0 0 A) (F0 m 58 ls []) := by
  intro n
  induction n with
  | zero => intro i1 i2 i3 i4 i5 x y v0 v1 v2 v3 w; exact False.elim w
  | succ n ih => intro i1 i2 i3 i4 i5 x y v0 v1 v2 v3 w H locs ls hP hS hl; exact wk_X0_count_S58 X hD hK34 ih i1 i2 i3 i4 i5 x y v0 v1 v2 v3 w H locs ls hP hS hl
set_option maxHeartbeats 4000000 in
set_option maxRecDepth 100000 in
theorem wk_X0_count_L151 {p : Program} {l : Launch} {e : Env} {s : State} {m : MethodId} {args : Array Value} {below : List Frame} {meth : Method} {c : Code} {dC : Nat → ClassId} {dI : Nat → Nat → Nat} {ct : Nat → ClassId} {A : Nat → Prop} {aX : Nat → Nat} {a0 : Nat → Nat} {a1 : Nat → Nat} {a2 : Nat → Nat} {a3 : Nat → Nat} {Post : Int32 → V → VL → V → V → V → V → Prop} {K105 : Int32 → Int32 → Int32 → Int32 → Int32 → V → VL → V → V → V → V → Prop}  (X : CxW p s m args meth c cX0_count 8 (some .int) RX0 dC dI ct A) (hD : ∀ (x : V) (y : VL) (v0 : V) (v1 : V) (v2 : V) (v3 : V), va_D A (XW aX a0 a1 a2 a3 ct x y v0 v1 v2 v3)) (hK105 : ∀ (i2 : Int32) (i3 : Int32) (i4 : Int32) (i5 : Int32) (i6 : Int32) (x : V) (y : VL) (v0 : V) (v1 : V) (v2 : V) (v3 : V), K105 i2 i3 i4 i5 i6 x y v0 v1 v2 v3 → ∀ (H : Heap) (locs : List Loc) (ls : Array Slot), va_P (dC, dI) vwCl (XW aX a0 a1 a2 a3 ct x y v0 v1 v2 v3) H → va_S A s.heap H locs → lv_has ls 8 [(0, .ref (aX 0)), (2, .int i2), (3, .int i3), (4, .int i4), (5, .int i5), (6, .int i6)] → W p l e rm_X0_count s m args below meth c H locs 0 0 (MQ below (va_Qi (fun (r : Int32) (u : V × VL × V × V × V × V) => Post r u.1 u.2.1 u.2.2.1 u.2.2.2.1 u.2.2.2.2.1 u.2.2.2.2.2) (fun (u : V × VL × V × V × V × V) t => WPos dC dI ct (XW aX a0 a1 a2 a3 ct u.1 u.2.1 u.2.2.1 u.2.2.2.1 u.2.2.2.2.1 u.2.2.2.2.2) A t) A) args s 0 0 A) (F0 m 105 ls [])) (i2 : Int32) (i3 : Int32) (i5 : Int32) (i6 : Int32) (i7 : Int32) (is0 : Int32) (x : V) (y : VL) (v0 : V) (v1 : V) (v2 : V) (v3 : V) (w : wp_X0_count_L151  Post K105 i2 i3 i5 i6 i7 is0 x y v0 v1 v2 v3) : ∀ (H : Heap) (locs : List Loc) (ls : Array Slot), va_P (dC, dI) vwCl (XW aX a0 a1 a2 a3 ct x y v0 v1 v2 v3) H → va_S A s.heap H locs → lv_has ls 8 [(0, .ref (aX 0)), (2, .int i2), (3, .int i3), (5, .int i5), (6, .int i6), (7, .int i7)] → W p l e rm_X0_count s m args below meth c H locs 0 0 (MQ below (va_Qi (fun (r : Int32) (u : V × VL × V × V × V × V) => Post r u.1 u.2.1 u.2.2.1 u.2.2.2.1 u.2.2.2.2.1 u.2.2.2.2.2) (fun (u : V × VL × V × V × V × V) t => WPos dC dI ct (XW aX a0 a1 a2 a3 ct u.1 u.2.1 u.2.2.1 u.2.2.2.1 u.2.2.2.2.1 u.2.2.2.2.2) A t) A) args s 0 0 A) (F0 m 151 ls [.int is0]) := by
  intro H locs ls hP hS hl
  have X0 := X
  obtain ⟨⟨hx, hb, hml, hr, hlk, hown, hts⟩, hA, hK, hN⟩ := X0
  unfold wp_X0_count_L151 at w
  refine lv_istore (lv' := [(4, .int is0), (0, .ref (aX 0)), (2, .int i2), (3, .int i3), (5, .int i5), (6, .int i6), (7, .int i7)]) hx hb dX0_count_151 hl (by decide) rfl (fun ls hl => ?_)
  refine lv_iload hx hb dX0_count_153 (lv_at hl 4 rfl) ?_
  refine lv_iload hx hb dX0_count_155 (lv_at hl 6 rfl) ?_
  refine va_mmin hx hb (hml.trans hl.1.symm) hown (hts _ q417) (hts _ q290) (hts _ q53) (hts _ q291) (Nat.le_of_ble_eq_true rfl) (Nat.le_of_ble_eq_true rfl) (Nat.zero_le _) (Nat.zero_le _) dX0_count_157 ?_
  refine lv_istore (lv' := [(5, .int (if i7 < i5 then i7 else i5)), (4, .int is0), (0, .ref (aX 0)), (2, .int i2), (3, .int i3), (6, .int i6), (7, .int i7)]) hx hb dX0_count_160 hl (by decide) rfl (fun ls hl => ?_)
  refine lv_iinc (v := (i6 + 1)) (lv' := [(6, .int (i6 + 1)), (5, .int (if i7 < i5 then i7 else i5)), (4, .int is0), (0, .ref (aX 0)), (2, .int i2), (3, .int i3), (7, .int i7)]) hx hb dX0_count_162 hl (k := 5) rfl rfl (by decide) rfl (fun ls hl => ?_)
  refine lv_goto (tgt := 105) hx hb dX0_count_165 (by decide) ?_
  exact hK105 _ _ _ _ _ _ _ _ _ _ _ w _ _ _ hP hS (lv_sub hl [3, 4, 5, 2, 1, 0] rfl)
set_option maxHeartbeats 4000000 in
set_option maxRecDepth 100000 in
theorem wk_X0_count_L184 {p : Program} {l : Launch} {e : Env} {s : State} {m : MethodId} {args : Array Value} {below : List Frame} {meth : Method} {c : Code} {dC : Nat → ClassId} {dI : Nat → Nat → Nat} {ct : Nat → ClassId} {A : Nat → Prop} {aX : Nat → Nat} {a0 : Nat → Nat} {a1 : Nat → Nat} {a2 : Nat → Nat} {a3 : Nat → Nat} {Post : Int32 → V → VL → V → V → V → V → Prop}   (X : CxW p s m args meth c cX0_count 8 (some .int) RX0 dC dI ct A) (hD : ∀ (x : V) (y : VL) (v0 : V) (v1 : V) (v2 : V) (v3 : V), va_D A (XW aX a0 a1 a2 a3 ct x y v0 v1 v2 v3))  (is0 : Int32) (x : V) (y : VL) (v0 : V) (v1 : V) (v2 : V) (v3 : V) (w : wp_X0_count_L184  Post  is0 x y v0 v1 v2 v3) : ∀ (H : Heap) (locs : List Loc) (ls : Array Slot), va_P (dC, dI) vwCl (XW aX a0 a1 a2 a3 ct x y v0 v1 v2 v3) H → va_S A s.heap H locs → lv_has ls 8 [] → W p l e rm_X0_count s m args below meth c H locs 0 0 (MQ below (va_Qi (fun (r : Int32) (u : V × VL × V × V × V × V) => Post r u.1 u.2.1 u.2.2.1 u.2.2.2.1 u.2.2.2.2.1 u.2.2.2.2.2) (fun (u : V × VL × V × V × V × V) t => WPos dC dI ct (XW aX a0 a1 a2 a3 ct u.1 u.2.1 u.2.2.1 u.2.2.2.1 u.2.2.2.2.1 u.2.2.2.2.2) A t) A) args s 0 0 A) (F0 m 184 ls [.int is0]) := by
  intro H locs ls hP hS hl
  have X0 := X
  obtain ⟨⟨hx, hb, hml, hr, hlk, hown, hts⟩, hA, hK, hN⟩ := X0
  unfold wp_X0_count_L184 at w
  exact W.iret (v := is0) hx hb hr (fun t ht hW => ⟨⟨is0, (x, y, v0, v1, v2, v3), rfl, w, by rw [ht]; exact hP, va_K.moved hW.alike hK, (hD _ _ _ _ _ _)⟩, hS.F ht⟩) hS.2.2 dX0_count_184 hlk
set_option maxHeartbeats 4000000 in
set_option maxRecDepth 100000 in
theorem wk_X0_count_L177 {p : Program} {l : Launch} {e : Env} {s : State} {m : MethodId} {args : Array Value} {below : List Frame} {meth : Method} {c : Code} {dC : Nat → ClassId} {dI : Nat → Nat → Nat} {ct : Nat → ClassId} {A : Nat → Prop} {aX : Nat → Nat} {a0 : Nat → Nat} {a1 : Nat → Nat} {a2 : Nat → Nat} {a3 : Nat → Nat} {Post : Int32 → V → VL → V → V → V → V → Prop}   (X : CxW p s m args meth c cX0_count 8 (some .int) RX0 dC dI ct A) (hD : ∀ (x : V) (y : VL) (v0 : V) (v1 : V) (v2 : V) (v3 : V), va_D A (XW aX a0 a1 a2 a3 ct x y v0 v1 v2 v3))  (i4 : Int32) (x : V) (y : VL) (v0 : V) (v1 : V) (v2 : V) (v3 : V) (w : wp_X0_count_L177  Post  i4 x y v0 v1 v2 v3) : ∀ (H : Heap) (locs : List Loc) (ls : Array Slot), va_P (dC, dI) vwCl (XW aX a0 a1 a2 a3 ct x y v0 v1 v2 v3) H → va_S A s.heap H locs → lv_has ls 8 [(4, .int i4)] → W p l e rm_X0_count s m args below meth c H locs 0 0 (MQ below (va_Qi (fun (r : Int32) (u : V × VL × V × V × V × V) => Post r u.1 u.2.1 u.2.2.1 u.2.2.2.1 u.2.2.2.2.1 u.2.2.2.2.2) (fun (u : V × VL × V × V × V × V) t => WPos dC dI ct (XW aX a0 a1 a2 a3 ct u.1 u.2.1 u.2.2.1 u.2.2.2.1 u.2.2.2.2.1 u.2.2.2.2.2) A t) A) args s 0 0 A) (F0 m 177 ls []) := by
  intro H locs ls hP hS hl
  have X0 := X
  obtain ⟨⟨hx, hb, hml, hr, hlk, hown, hts⟩, hA, hK, hN⟩ := X0
  unfold wp_X0_count_L177 at w
  refine lv_iload hx hb dX0_count_177 (lv_at hl 0 rfl) ?_
  refine lv_goto (tgt := 184) hx hb dX0_count_179 (by decide) ?_
  exact wk_X0_count_L184 X hD  _ _ _ _ _ _ _ w _ _ _ hP hS (lv_sub hl [] rfl)
set_option maxHeartbeats 4000000 in
set_option maxRecDepth 100000 in
theorem wk_X0_count_L168 {p : Program} {l : Launch} {e : Env} {s : State} {m : MethodId} {args : Array Value} {below : List Frame} {meth : Method} {c : Code} {dC : Nat → ClassId} {dI : Nat → Nat → Nat} {ct : Nat → ClassId} {A : Nat → Prop} {aX : Nat → Nat} {a0 : Nat → Nat} {a1 : Nat → Nat} {a2 : Nat → Nat} {a3 : Nat → Nat} {Post : Int32 → V → VL → V → V → V → V → Prop}   (X : CxW p s m args meth c cX0_count 8 (some .int) RX0 dC dI ct A) (hD : ∀ (x : V) (y : VL) (v0 : V) (v1 : V) (v2 : V) (v3 : V), va_D A (XW aX a0 a1 a2 a3 ct x y v0 v1 v2 v3))  (i2 : Int32) (i4 : Int32) (i5 : Int32) (x : V) (y : VL) (v0 : V) (v1 : V) (v2 : V) (v3 : V) (w : wp_X0_count_L168  Post  i2 i4 i5 x y v0 v1 v2 v3) : ∀ (H : Heap) (locs : List Loc) (ls : Array Slot), va_P (dC, dI) vwCl (XW aX a0 a1 a2 a3 ct x y v0 v1 v2 v3) H → va_S A s.heap H locs → lv_has ls 8 [(2, .int i2), (4, .int i4), (5, .int i5)] → W p l e rm_X0_count s m args below meth c H locs 0 0 (MQ below (va_Qi (fun (r : Int32) (u : V × VL × V × V × V × V) => Post r u.1 u.2.1 u.2.2.1 u.2.2.2.1 u.2.2.2.2.1 u.2.2.2.2.2) (fun (u : V × VL × V × V × V × V) t => WPos dC dI ct (XW aX a0 a1 a2 a3 ct u.1 u.2.1 u.2.2.1 u.2.2.2.1 u.2.2.2.2.1 u.2.2.2.2.2) A t) A) args s 0 0 A) (F0 m 168 ls []) := by
  intro H locs ls hP hS hl
  have X0 := X
  obtain ⟨⟨hx, hb, hml, hr, hlk, hown, hts⟩, hA, hK, hN⟩ := X0
  unfold wp_X0_count_L168 at w
  refine lv_iload hx hb dX0_count_168 (lv_at hl 1 rfl) ?_
  refine lv_if_lt (tgt := 177) hx hb dX0_count_170 (by decide) (fun c => ?_) (fun c => ?_)
  · have w := And.left w c
    exact wk_X0_count_L177 X hD  _ _ _ _ _ _ _ w _ _ _ hP hS (lv_sub hl [1] rfl)
  · have w := And.right w c
    refine lv_iload_n hx hb dX0_count_173 rfl (lv_at hl 0 rfl) ?_
    refine lv_if_ne (tgt := 182) hx hb dX0_count_174 (by decide) (fun c => ?_) (fun c => ?_)
    · have w := And.right w c
      refine lv_iload hx hb dX0_count_182 (lv_at hl 2 rfl) ?_
      exact wk_X0_count_L184 X hD  _ _ _ _ _ _ _ w _ _ _ hP hS (lv_sub hl [] rfl)
    · have w := And.left w c
      exact wk_X0_count_L177 X hD  _ _ _ _ _ _ _ w _ _ _ hP hS (lv_sub hl [1] rfl)
set_option maxHeartbeats 4000000 in
set_option maxRecDepth 100000 in
theorem wk_X0_count_S105 {p : Program} {l : Launch} {e : Env} {s : State} {m : MethodId} {args : Array Value} {below : List Frame} {meth : Method} {c : Code} {dC : Nat → ClassId} {dI : Nat → Nat → Nat} {ct : Nat → ClassId} {A : Nat → Prop} {aX : Nat → Nat} {a0 : Nat → Nat} {a1 : Nat → Nat} {a2 : Nat → Nat} {a3 : Nat → Nat} {Post : Int32 → V → VL → V → V → V → V → Prop} {K105 : Int32 → Int32 → Int32 → Int32 → Int32 → V → VL → V → V → V → V → Prop}  (X : CxW p s m args meth c cX0_count 8 (some .int) RX0 dC dI ct A) (hD : ∀ (x : V) (y : VL) (v0 : V) (v1 : V) (v2 : V) (v3 : V), va_D A (XW aX a0 a1 a2 a3 ct x y v0 v1 v2 v3)) (hK105 : ∀ (i2 : Int32) (i3 : Int32) (i4 : Int32) (i5 : Int32) (i6 : Int32) (x : V) (y : VL) (v0 : V) (v1 : V) (v2 : V) (v3 : V), K105 i2 i3 i4 i5 i6 x y v0 v1 v2 v3 → ∀ (H : Heap) (locs : List Loc) (ls : Array Slot), va_P (dC, dI) vwCl (XW aX a0 a1 a2 a3 ct x y v0 v1 v2 v3) H → va_S A s.heap H locs → lv_has ls 8 [(0, .ref (aX 0)), (2, .int i2), (3, .int i3), (4, .int i4), (5, .int i5), (6, .int i6)] → W p l e rm_X0_count s m args below meth c H locs 0 0 (MQ below (va_Qi (fun (r : Int32) (u : V × VL × V × V × V × V) => Post r u.1 u.2.1 u.2.2.1 u.2.2.2.1 u.2.2.2.2.1 u.2.2.2.2.2) (fun (u : V × VL × V × V × V × V) t => WPos dC dI ct (XW aX a0 a1 a2 a3 ct u.1 u.2.1 u.2.2.1 u.2.2.2.1 u.2.2.2.2.1 u.2.2.2.2.2) A t) A) args s 0 0 A) (F0 m 105 ls [])) (i2 : Int32) (i3 : Int32) (i4 : Int32) (i5 : Int32) (i6 : Int32) (x : V) (y : VL) (v0 : V) (v1 : V) (v2 : V) (v3 : V) (w : wp_X0_count_S105  Post K105 i2 i3 i4 i5 i6 x y v0 v1 v2 v3) : ∀ (H : Heap) (locs : List Loc) (ls : Array Slot), va_P (dC, dI) vwCl (XW aX a0 a1 a2 a3 ct x y v0 v1 v2 v3) H → va_S A s.heap H locs → lv_has ls 8 [(0, .ref (aX 0)), (2, .int i2), (3, .int i3), (4, .int i4), (5, .int i5), (6, .int i6)] → W p l e rm_X0_count s m args below meth c H locs 0 0 (MQ below (va_Qi (fun (r : Int32) (u : V × VL × V × V × V × V) => Post r u.1 u.2.1 u.2.2.1 u.2.2.2.1 u.2.2.2.2.1 u.2.2.2.2.2) (fun (u : V × VL × V × V × V × V) t => WPos dC dI ct (XW aX a0 a1 a2 a3 ct u.1 u.2.1 u.2.2.1 u.2.2.2.1 u.2.2.2.2.1 u.2.2.2.2.2) A t) A) args s 0 0 A) (F0 m 105 ls []) := by
  intro H locs ls hP hS hl
  have X0 := X
  obtain ⟨⟨hx, hb, hml, hr, hlk, hown, hts⟩, hA, hK, hN⟩ := X0
  unfold wp_X0_count_S105 at w
  refine lv_iload hx hb dX0_count_105 (lv_at hl 5 rfl) ?_
  refine lv_bipush (v := 8) hx hb dX0_count_107 (by decide) ?_
  refine lv_icmp_ge (tgt := 168) hx hb dX0_count_109 (by decide) (fun c => ?_) (fun c => ?_)
  · have w := And.left w c
    exact wk_X0_count_L168 X hD  _ _ _ _ _ _ _ _ _ w _ _ _ hP hS (lv_sub hl [1, 3, 4] rfl)
  · have w := And.right w c
    refine lv_iload_n hx hb dX0_count_112 rfl (lv_at hl 2 rfl) ?_
    refine lv_if_le (tgt := 168) hx hb dX0_count_113 (by decide) (fun c => ?_) (fun c => ?_)
    · have w := And.left w c
      exact wk_X0_count_L168 X hD  _ _ _ _ _ _ _ _ _ w _ _ _ hP hS (lv_sub hl [1, 3, 4] rfl)
    · have w := And.right w c
      refine lv_aload_n hx hb dX0_count_116 rfl (lv_at hl 0 rfl) ?_
      refine va_get (D := (dC, dI)) (ci := 0) (v := .ref (aX 6)) (C := RX0) (T := TX0) (N := 14) hx hb hts in_X0 hown hK hP 0 rfl rfl 13 (by decide) (hts _ q141) (fun _ h9 => h9) rfl dX0_count_117 ?_
      refine lv_iload hx hb dX0_count_120 (lv_at hl 5 rfl) ?_
      obtain ⟨gi, w⟩ := w
      refine va_iald hx hb hK hP 6 0 rfl rfl gi dX0_count_122 ?_
      refine lv_iload_n hx hb dX0_count_123 rfl (lv_at hl 2 rfl) ?_
      refine lv_aload_n hx hb dX0_count_124 rfl (lv_at hl 0 rfl) ?_
      refine va_get (D := (dC, dI)) (ci := 0) (v := .ref (aX 6)) (C := RX0) (T := TX0) (N := 14) hx hb hts in_X0 hown hK hP 0 rfl rfl 13 (by decide) (hts _ q141) (fun _ h9 => h9) rfl dX0_count_125 ?_
      refine lv_iload hx hb dX0_count_128 (lv_at hl 5 rfl) ?_
      obtain ⟨gi, w⟩ := w
      refine va_iald hx hb hK hP 6 0 rfl rfl gi dX0_count_130 ?_
      refine lv_isub hx hb dX0_count_131 ?_
      refine va_mmax hx hb (hml.trans hl.1.symm) hown (hts _ q338) (hts _ q339) (hts _ q53) (hts _ q340) (Nat.le_of_ble_eq_true rfl) (Nat.le_of_ble_eq_true rfl) (Nat.zero_le _) (Nat.zero_le _) dX0_count_132 ?_
      refine lv_topi (fun n1 en1 => ?_)
      have w := w n1 en1
      refine lv_istore (lv' := [(7, .int n1), (0, .ref (aX 0)), (2, .int i2), (3, .int i3), (4, .int i4), (5, .int i5), (6, .int i6)]) hx hb dX0_count_135 hl (by decide) rfl (fun ls hl => ?_)
      refine lv_iload hx hb dX0_count_137 (lv_at hl 0 rfl) ?_
      refine lv_iload hx hb dX0_count_139 (lv_at hl 5 rfl) ?_
      refine lv_icmp_ge (tgt := 149) hx hb dX0_count_141 (by decide) (fun c => ?_) (fun c => ?_)
      · have w := And.left w c
        refine lv_iload hx hb dX0_count_149 (lv_at hl 4 rfl) ?_
        exact wk_X0_count_L151 X hD hK105 _ _ _ _ _ _ _ _ _ _ _ _ w _ _ _ hP hS (lv_sub hl [1, 2, 3, 5, 6, 0] rfl)
      · have w := And.right w c
        refine lv_iload hx hb dX0_count_144 (lv_at hl 6 rfl) ?_
        refine lv_goto (tgt := 151) hx hb dX0_count_146 (by decide) ?_
        exact wk_X0_count_L151 X hD hK105 _ _ _ _ _ _ _ _ _ _ _ _ w _ _ _ hP hS (lv_sub hl [1, 2, 3, 5, 6, 0] rfl)
set_option maxHeartbeats 4000000 in
set_option maxRecDepth 100000 in
theorem wk_X0_count_L105 {p : Program} {l : Launch} {e : Env} {s : State} {m : MethodId} {args : Array Value} {below : List Frame} {meth : Method} {c : Code} {dC : Nat → ClassId} {dI : Nat → Nat → Nat} {ct : Nat → ClassId} {A : Nat → Prop} {aX : Nat → Nat} {a0 : Nat → Nat} {a1 : Nat → Nat} {a2 : Nat → Nat} {a3 : Nat → Nat} {Post : Int32 → V → VL → V → V → V → V → Prop}   (X : CxW p s m args meth c cX0_count 8 (some .int) RX0 dC dI ct A) (hD : ∀ (x : V) (y : VL) (v0 : V) (v1 : V) (v2 : V) (v3 : V), va_D A (XW aX a0 a1 a2 a3 ct x y v0 v1 v2 v3))  : ∀ (n : Nat) (i2 : Int32) (i3 : Int32) (i4 : Int32) (i5 : Int32) (i6 : Int32) (x : V) (y : VL) (v0 : V) (v1 : V) (v2 : V) (v3 : V), wp_X0_count_L105  Post  n i2 i3 i4 i5 i6 x y v0 v1 v2 v3 → ∀ (H : Heap) (locs : List Loc) (ls : Array Slot), va_P (dC, dI) vwCl (XW aX a0 a1 a2 a3 ct x y v0 v1 v2 v3) H → va_S A s.heap H locs → lv_has ls 8 [(0, .ref (aX 0)), (2, .int i2), (3, .int i3), (4, .int i4), (5, .int i5), (6, .int i6)] → W p l e rm_X0_count s m args below meth c H locs 0 0 (MQ below (va_Qi (fun (r : Int32) (u : V × VL × V × V × V × V) => Post r u.1 u.2.1 u.2.2.1 u.2.2.2.1 u.2.2.2.2.1 u.2.2.2.2.2) (fun (u : V × VL × V × V × V × V) t => WPos dC dI ct (XW aX a0 a1 a2 a3 ct u.1 u.2.1 u.2.2.1 u.2.2.2.1 u.2.2.2.2.1 u.2.2.2.2.2) A t) A) args s 0 0 A) (F0 m 105 ls []) := by
  intro n
  induction n with
  | zero => intro i2 i3 i4 i5 i6 x y v0 v1 v2 v3 w; exact False.elim w
  | succ n ih => intro i2 i3 i4 i5 i6 x y v0 v1 v2 v3 w H locs ls hP hS hl; exact wk_X0_count_S105 X hD  ih i2 i3 i4 i5 i6 x y v0 v1 v2 v3 w H locs ls hP hS hl
set_option maxHeartbeats 4000000 in
set_option maxRecDepth 100000 in
theorem wk_X0_count_S34 {p : Program} {l : Launch} {e : Env} {s : State} {m : MethodId} {args : Array Value} {below : List Frame} {meth : Method} {c : Code} {dC : Nat → ClassId} {dI : Nat → Nat → Nat} {ct : Nat → ClassId} {A : Nat → Prop} {aX : Nat → Nat} {a0 : Nat → Nat} {a1 : Nat → Nat} {a2 : Nat → Nat} {a3 : Nat → Nat} {Post : Int32 → V → VL → V → V → V → V → Prop} {K34 : Int32 → Int32 → Int32 → Int32 → V → VL → V → V → V → V → Prop}  (X : CxW p s m args meth c cX0_count 8 (some .int) RX0 dC dI ct A) (hD : ∀ (x : V) (y : VL) (v0 : V) (v1 : V) (v2 : V) (v3 : V), va_D A (XW aX a0 a1 a2 a3 ct x y v0 v1 v2 v3)) (hK34 : ∀ (i1 : Int32) (i2 : Int32) (i3 : Int32) (i4 : Int32) (x : V) (y : VL) (v0 : V) (v1 : V) (v2 : V) (v3 : V), K34 i1 i2 i3 i4 x y v0 v1 v2 v3 → ∀ (H : Heap) (locs : List Loc) (ls : Array Slot), va_P (dC, dI) vwCl (XW aX a0 a1 a2 a3 ct x y v0 v1 v2 v3) H → va_S A s.heap H locs → lv_has ls 8 [(0, .ref (aX 0)), (1, .int i1), (2, .int i2), (3, .int i3), (4, .int i4)] → W p l e rm_X0_count s m args below meth c H locs 0 0 (MQ below (va_Qi (fun (r : Int32) (u : V × VL × V × V × V × V) => Post r u.1 u.2.1 u.2.2.1 u.2.2.2.1 u.2.2.2.2.1 u.2.2.2.2.2) (fun (u : V × VL × V × V × V × V) t => WPos dC dI ct (XW aX a0 a1 a2 a3 ct u.1 u.2.1 u.2.2.1 u.2.2.2.1 u.2.2.2.2.1 u.2.2.2.2.2) A t) A) args s 0 0 A) (F0 m 34 ls [])) (i1 : Int32) (i2 : Int32) (i3 : Int32) (i4 : Int32) (x : V) (y : VL) (v0 : V) (v1 : V) (v2 : V) (v3 : V) (w : wp_X0_count_S34  Post K34 i1 i2 i3 i4 x y v0 v1 v2 v3) : ∀ (H : Heap) (locs : List Loc) (ls : Array Slot), va_P (dC, dI) vwCl (XW aX a0 a1 a2 a3 ct x y v0 v1 v2 v3) H → va_S A s.heap H locs → lv_has ls 8 [(0, .ref (aX 0)), (1, .int i1), (2, .int i2), (3, .int i3), (4, .int i4)] → W p l e rm_X0_count s m args below meth c H locs 0 0 (MQ below (va_Qi (fun (r : Int32) (u : V × VL × V × V × V × V) => Post r u.1 u.2.1 u.2.2.1 u.2.2.2.1 u.2.2.2.2.1 u.2.2.2.2.2) (fun (u : V × VL × V × V × V × V) t => WPos dC dI ct (XW aX a0 a1 a2 a3 ct u.1 u.2.1 u.2.2.1 u.2.2.2.1 u.2.2.2.2.1 u.2.2.2.2.2) A t) A) args s 0 0 A) (F0 m 34 ls []) := by
  intro H locs ls hP hS hl
  have X0 := X
  obtain ⟨⟨hx, hb, hml, hr, hlk, hown, hts⟩, hA, hK, hN⟩ := X0
  unfold wp_X0_count_S34 at w
  refine lv_iload hx hb dX0_count_34 (lv_at hl 4 rfl) ?_
  refine lv_sipush (v := 256) hx hb dX0_count_36 (by decide) ?_
  refine lv_icmp_ge (tgt := 94) hx hb dX0_count_39 (by decide) (fun c => ?_) (fun c => ?_)
  · have w := And.left w c
    refine lv_bipush (v := -6) hx hb dX0_count_94 (by decide) ?_
    refine lv_istore (lv' := [(4, .int (-6 : Int32)), (0, .ref (aX 0)), (1, .int i1), (2, .int i2), (3, .int i3)]) hx hb dX0_count_96 hl (by decide) rfl (fun ls hl => ?_)
    refine lv_ldc (v := 1000000000) hx hb hown (hts _ q416) dX0_count_98 ?_
    refine lv_istore (lv' := [(5, .int (1000000000 : Int32)), (4, .int (-6 : Int32)), (0, .ref (aX 0)), (1, .int i1), (2, .int i2), (3, .int i3)]) hx hb dX0_count_100 hl (by decide) rfl (fun ls hl => ?_)
    refine lv_iconst (v := 0) hx hb dX0_count_102 (by decide) ?_
    refine lv_istore (lv' := [(6, .int (0 : Int32)), (5, .int (1000000000 : Int32)), (4, .int (-6 : Int32)), (0, .ref (aX 0)), (1, .int i1), (2, .int i2), (3, .int i3)]) hx hb dX0_count_103 hl (by decide) rfl (fun ls hl => ?_)
    obtain ⟨n, w⟩ := w
    exact wk_X0_count_L105 X hD  n _ _ _ _ _ _ _ _ _ _ _ w _ _ _ hP hS (lv_sub hl [3, 5, 6, 2, 1, 0] rfl)
  · have w := And.right w c
    refine lv_aload_n hx hb dX0_count_42 rfl (lv_at hl 0 rfl) ?_
    refine lv_iload hx hb dX0_count_43 (lv_at hl 4 rfl) ?_
    refine lv_iload_n hx hb dX0_count_45 rfl (lv_at hl 1 rfl) ?_
    refine va_calli (va_runV (As := [.int i4, .int i1]) (rest := []) ⟨hx, hb, hml, hown, hts⟩ (met_X0_canBe l dC dI ct aX a0 a1 a2 a3 _ w) (cwV 2 hts (lw_V q408 q410 qs7 q48 q411) rfl rfl rfl hd_X0_canBe ⟨Nat.le_of_ble_eq_true rfl, Nat.le_of_ble_eq_true rfl⟩) (pre_V hK hP (hD _ _ _ _ _ _) hN (va_recv hK hP (ci := 0) (q0 := 0) rfl rfl)) rfl rfl hl.1 rfl (lv_room (Nat.le_of_ble_eq_true rfl)) dX0_count_46 ⟨Nat.le_refl _, Nat.le_refl _⟩) hS (fun q _ h => x_free (hD _ _ _ _ _ _) hS hA q h) (x_free (hD _ _ _ _ _ _) hS hA) (fun r1 u t H locs ht hvm w hB hz hk hS => ?_)
    obtain ⟨x_1, y_1, v0_1, v1_1, v2_1, v3_1⟩ := u
    dsimp only at w
    have hP : va_P (dC, dI) vwCl (XW aX a0 a1 a2 a3 ct x_1 y_1 v0_1 v1_1 v2_1 v3_1) H := post_P hB ht
    refine lv_if_eq (tgt := 88) hx hb dX0_count_49 (by decide) (fun c => ?_) (fun c => ?_)
    · have w := And.left w c
      exact wk_X0_count_L88 X hD hK34 _ _ _ _ _ _ _ _ _ _ w _ _ _ hP hS (lv_sub hl [0, 1, 2, 3, 4] rfl)
    · have w := And.right w c
      refine lv_iinc (v := (i3 + 1)) (lv' := [(3, .int (i3 + 1)), (0, .ref (aX 0)), (1, .int i1), (2, .int i2), (4, .int i4)]) hx hb dX0_count_52 hl (k := 3) rfl rfl (by decide) rfl (fun ls hl => ?_)
      refine lv_iconst (v := 0) hx hb dX0_count_55 (by decide) ?_
      refine lv_istore (lv' := [(5, .int (0 : Int32)), (3, .int (i3 + 1)), (0, .ref (aX 0)), (1, .int i1), (2, .int i2), (4, .int i4)]) hx hb dX0_count_56 hl (by decide) rfl (fun ls hl => ?_)
      obtain ⟨n, w⟩ := w
      exact wk_X0_count_L58 X hD hK34 n _ _ _ _ _ _ _ _ _ _ _ w _ _ _ hP hS (lv_sub hl [2, 3, 4, 1, 5, 0] rfl)
set_option maxHeartbeats 4000000 in
set_option maxRecDepth 100000 in
theorem wk_X0_count_L34 {p : Program} {l : Launch} {e : Env} {s : State} {m : MethodId} {args : Array Value} {below : List Frame} {meth : Method} {c : Code} {dC : Nat → ClassId} {dI : Nat → Nat → Nat} {ct : Nat → ClassId} {A : Nat → Prop} {aX : Nat → Nat} {a0 : Nat → Nat} {a1 : Nat → Nat} {a2 : Nat → Nat} {a3 : Nat → Nat} {Post : Int32 → V → VL → V → V → V → V → Prop}   (X : CxW p s m args meth c cX0_count 8 (some .int) RX0 dC dI ct A) (hD : ∀ (x : V) (y : VL) (v0 : V) (v1 : V) (v2 : V) (v3 : V), va_D A (XW aX a0 a1 a2 a3 ct x y v0 v1 v2 v3))  : ∀ (n : Nat) (i1 : Int32) (i2 : Int32) (i3 : Int32) (i4 : Int32) (x : V) (y : VL) (v0 : V) (v1 : V) (v2 : V) (v3 : V), wp_X0_count_L34  Post  n i1 i2 i3 i4 x y v0 v1 v2 v3 → ∀ (H : Heap) (locs : List Loc) (ls : Array Slot), va_P (dC, dI) vwCl (XW aX a0 a1 a2 a3 ct x y v0 v1 v2 v3) H → va_S A s.heap H locs → lv_has ls 8 [(0, .ref (aX 0)), (1, .int i1), (2, .int i2), (3, .int i3), (4, .int i4)] → W p l e rm_X0_count s m args below meth c H locs 0 0 (MQ below (va_Qi (fun (r : Int32) (u : V × VL × V × V × V × V) => Post r u.1 u.2.1 u.2.2.1 u.2.2.2.1 u.2.2.2.2.1 u.2.2.2.2.2) (fun (u : V × VL × V × V × V × V) t => WPos dC dI ct (XW aX a0 a1 a2 a3 ct u.1 u.2.1 u.2.2.1 u.2.2.2.1 u.2.2.2.2.1 u.2.2.2.2.2) A t) A) args s 0 0 A) (F0 m 34 ls []) := by
  intro n
  induction n with
  | zero => intro i1 i2 i3 i4 x y v0 v1 v2 v3 w; exact False.elim w
  | succ n ih => intro i1 i2 i3 i4 x y v0 v1 v2 v3 w H locs ls hP hS hl; exact wk_X0_count_S34 X hD  ih i1 i2 i3 i4 x y v0 v1 v2 v3 w H locs ls hP hS hl
set_option maxHeartbeats 4000000 in
set_option maxRecDepth 100000 in
theorem met_X0_count (l : Launch) (dC : Nat → ClassId) (dI : Nat → Nat → Nat) (ct : Nat → ClassId) (aX : Nat → Nat) (a0 : Nat → Nat) (a1 : Nat → Nat) (a2 : Nat → Nat) (a3 : Nat → Nat) (sz : Nat) {i1 : Int32} {i2 : Int32} {x : V} {y : VL} {v0 : V} {v1 : V} {v2 : V} {v3 : V} {Post : Int32 → V → VL → V → V → V → V → Prop} (w : wp_X0_count i1 i2 x y v0 v1 v2 v3 Post) : Met l yX0_count (ws_ yX0_count cX0_count 8 (some .int)) rm_X0_count (va_Pc [.ref (aX 0), .int i1, .int i2] (fun U => WPre dC dI ct (XW aX a0 a1 a2 a3 ct x y v0 v1 v2 v3) sz U)) ((fun A => (va_Qi (fun (r : Int32) (u : V × VL × V × V × V × V) => Post r u.1 u.2.1 u.2.2.1 u.2.2.2.1 u.2.2.2.2.1 u.2.2.2.2.2) (fun (u : V × VL × V × V × V × V) t => WPos dC dI ct (XW aX a0 a1 a2 a3 ct u.1 u.2.1 u.2.2.1 u.2.2.2.1 u.2.2.2.2.1 u.2.2.2.2.2) A t) A)) (va_A (XW aX a0 a1 a2 a3 ct x y v0 v1 v2 v3) sz)) 0 0 (va_A (XW aX a0 a1 a2 a3 ct x y v0 v1 v2 v3) sz) := by
  refine open_W (fun A => (va_Qi (fun (r : Int32) (u : V × VL × V × V × V × V) => Post r u.1 u.2.1 u.2.2.1 u.2.2.2.1 u.2.2.2.2.1 u.2.2.2.2.2) (fun (u : V × VL × V × V × V × V) t => WPos dC dI ct (XW aX a0 a1 a2 a3 ct u.1 u.2.1 u.2.2.1 u.2.2.2.1 u.2.2.2.2.1 u.2.2.2.2.2) A t) A)) (by decide) (Nat.le_of_ble_eq_true rfl) ?_
  intro p e s m args below meth c ls A X hD0 hP hS hl
  have X0 := X
  obtain ⟨⟨hx, hb, hml, hr, hlk, hown, hts⟩, hA, hK, hN⟩ := X0
  have hD : ∀ (x' : V) (y' : VL) (v0' : V) (v1' : V) (v2' : V) (v3' : V), va_D A (XW aX a0 a1 a2 a3 ct x' y' v0' v1' v2' v3') := fun x' y' v0' v1' v2' v3' => va_D_addr hD0 rfl
  have hl : lv_has ls 8 [(0, .ref (aX 0)), (1, .int i1), (2, .int i2)] := hl
  unfold wp_X0_count at w
  have hS0 := hS
  refine lv_iload_n hx hb dX0_count_0 rfl (lv_at hl 1 rfl) ?_
  refine lv_iconst (v := 0) hx hb dX0_count_1 (by decide) ?_
  refine lv_iconst (v := 3) hx hb dX0_count_2 (by decide) ?_
  refine vp_callSi (W.runS (As := [.int i1, .int (0 : Int32), .int (3 : Int32)]) (rest := []) ⟨hx, hb, hml, hown, hts⟩ (met_X0_isIn l w) (va_cwS 3 hts (lw_S q180 q181 q48 q182) rfl rfl rfl hd_X0_isIn ⟨Nat.le_of_ble_eq_true rfl, Nat.le_of_ble_eq_true rfl⟩) pre_S rfl rfl hl.1 rfl (lv_room (Nat.le_of_ble_eq_true rfl)) dX0_count_3 ⟨Nat.le_refl _, Nat.le_refl _⟩) (fun r1 w => ?_)
  refine lv_if_eq (tgt := 18) hx hb dX0_count_6 (by decide) (fun c => ?_) (fun c => ?_)
  · have w := And.left w c
    exact wk_X0_count_L18 X hD  _ _ _ _ _ _ w _ _ _ hP hS (lv_sub hl [] rfl)
  · have w := And.right w c
    refine lv_iload_n hx hb dX0_count_9 rfl (lv_at hl 2 rfl) ?_
    refine lv_iconst (v := 0) hx hb dX0_count_10 (by decide) ?_
    refine lv_iconst (v := 1) hx hb dX0_count_11 (by decide) ?_
    refine vp_callSi (W.runS (As := [.int i2, .int (0 : Int32), .int (1 : Int32)]) (rest := []) ⟨hx, hb, hml, hown, hts⟩ (met_X0_isIn l w) (va_cwS 3 hts (lw_S q180 q181 q48 q182) rfl rfl rfl hd_X0_isIn ⟨Nat.le_of_ble_eq_true rfl, Nat.le_of_ble_eq_true rfl⟩) pre_S rfl rfl hl.1 rfl (lv_room (Nat.le_of_ble_eq_true rfl)) dX0_count_12 ⟨Nat.le_refl _, Nat.le_refl _⟩) (fun r2 w => ?_)
    refine lv_if_ne (tgt := 21) hx hb dX0_count_15 (by decide) (fun c => ?_) (fun c => ?_)
    · have w := And.right w c
      refine lv_aload_n hx hb dX0_count_21 rfl (lv_at hl 0 rfl) ?_
      refine va_get (D := (dC, dI)) (ci := 0) (v := .ref (aX 6)) (C := RX0) (T := TX0) (N := 14) hx hb hts in_X0 hown hK hP 0 rfl rfl 13 (by decide) (hts _ q141) (fun _ h9 => h9) rfl dX0_count_22 ?_
      refine lv_iconst (v := 0) hx hb dX0_count_25 (by decide) ?_
      have hPc : va_P (dC, dI) vwCl [(aX 6, .inl (ct 0, 8, .inl (x 4)))] _ := x_one hP 6 rfl
      have hDc : va_D A [(aX 6, .inl (ct 0, 8, .inl (x 4)))] := x_oneD (hD x y v0 v1 v2 v3) 6 rfl
      refine va_callv (va_runS (As := [.ref (aX 6), .int (0 : Int32)]) (rest := []) ⟨hx, hb, hml, hown, hts⟩ (met_J0_fill l dC dI ct (aX 6) 8 _ w) (va_cwS 2 hts (lw_S q337 q72 q50 q73) rfl rfl rfl hd_J0_fill ⟨Nat.le_of_ble_eq_true rfl, Nat.le_of_ble_eq_true rfl⟩) (pre_WS hK hPc hDc hN) rfl rfl hl.1 rfl (lv_room (Nat.le_of_ble_eq_true rfl)) dX0_count_26 ⟨Nat.le_refl _, Nat.le_refl _⟩) hS (fun q _ h => x_free hDc hS hA q h) (x_free hDc hS hA) (fun f3 t H locs ht hvm w hB hz hk hS => ?_)
      have hP := x_oneJ (p := 6) hP (hD _ _ _ _ _ _) rfl hk (post_P hB ht)
      have hP : va_P (dC, dI) vwCl (XW aX a0 a1 a2 a3 ct (upRg x 4 f3) y v0 v1 v2 v3) H := XW_r_x_4 hP
      refine lv_iconst (v := 0) hx hb dX0_count_29 (by decide) ?_
      refine lv_istore_n (lv' := [(3, .int (0 : Int32)), (0, .ref (aX 0)), (1, .int i1), (2, .int i2)]) hx hb dX0_count_30 rfl hl (by decide) rfl (fun ls hl => ?_)
      refine lv_iconst (v := 0) hx hb dX0_count_31 (by decide) ?_
      refine lv_istore (lv' := [(4, .int (0 : Int32)), (3, .int (0 : Int32)), (0, .ref (aX 0)), (1, .int i1), (2, .int i2)]) hx hb dX0_count_32 hl (by decide) rfl (fun ls hl => ?_)
      obtain ⟨n, w⟩ := w
      exact wk_X0_count_L34 X hD  n _ _ _ _ _ _ _ _ _ _ w _ _ _ hP hS (lv_sub hl [2, 3, 4, 1, 0] rfl)
    · have w := And.left w c
      exact wk_X0_count_L18 X hD  _ _ _ _ _ _ w _ _ _ hP hS (lv_sub hl [] rfl)
abbrev rm_X0_year : Room := { frames := 4, cells := 0, slots := 0, locals := 142 }
theorem hd_X0_year : yX0_year.cls = RX0 ∧ yX0_year.cls ≠ "java/lang/invoke/MethodHandle" ∧ yX0_year.cls ≠ "java/lang/invoke/VarHandle" ∧ (parseMethodDescriptor yX0_year.desc).map (fun d => d.parameters.length) = some 3 := by decide +kernel
set_option maxHeartbeats 4000000 in
set_option maxRecDepth 100000 in
theorem wk_X0_year_L30 {p : Program} {l : Launch} {e : Env} {s : State} {m : MethodId} {args : Array Value} {below : List Frame} {meth : Method} {c : Code} {dC : Nat → ClassId} {dI : Nat → Nat → Nat} {ct : Nat → ClassId} {A : Nat → Prop} {aX : Nat → Nat} {a0 : Nat → Nat} {a1 : Nat → Nat} {a2 : Nat → Nat} {a3 : Nat → Nat} {Post : Int32 → V → VL → V → V → V → V → Prop}   (X : CxW p s m args meth c cX0_year 10 (some .int) RX0 dC dI ct A) (hD : ∀ (x : V) (y : VL) (v0 : V) (v1 : V) (v2 : V) (v3 : V), va_D A (XW aX a0 a1 a2 a3 ct x y v0 v1 v2 v3))  (x : V) (y : VL) (v0 : V) (v1 : V) (v2 : V) (v3 : V) (w : wp_X0_year_L30  Post  x y v0 v1 v2 v3) : ∀ (H : Heap) (locs : List Loc) (ls : Array Slot), va_P (dC, dI) vwCl (XW aX a0 a1 a2 a3 ct x y v0 v1 v2 v3) H → va_S A s.heap H locs → lv_has ls 10 [] → W p l e rm_X0_year s m args below meth c H locs 0 0 (MQ below (va_Qi (fun (r : Int32) (u : V × VL × V × V × V × V) => Post r u.1 u.2.1 u.2.2.1 u.2.2.2.1 u.2.2.2.2.1 u.2.2.2.2.2) (fun (u : V × VL × V × V × V × V) t => WPos dC dI ct (XW aX a0 a1 a2 a3 ct u.1 u.2.1 u.2.2.1 u.2.2.2.1 u.2.2.2.2.1 u.2.2.2.2.2) A t) A) args s 0 0 A) (F0 m 30 ls []) := by
  intro H locs ls hP hS hl
  have X0 := X
  obtain ⟨⟨hx, hb, hml, hr, hlk, hown, hts⟩, hA, hK, hN⟩ := X0
  unfold wp_X0_year_L30 at w
  refine lv_bipush (v := -2) hx hb dX0_year_30 (by decide) ?_
  exact W.iret (v := (-2 : Int32)) hx hb hr (fun t ht hW => ⟨⟨(-2 : Int32), (x, y, v0, v1, v2, v3), rfl, w, by rw [ht]; exact hP, va_K.moved hW.alike hK, (hD _ _ _ _ _ _)⟩, hS.F ht⟩) hS.2.2 dX0_year_32 hlk
set_option maxHeartbeats 4000000 in
set_option maxRecDepth 100000 in
theorem wk_X0_year_L287 {p : Program} {l : Launch} {e : Env} {s : State} {m : MethodId} {args : Array Value} {below : List Frame} {meth : Method} {c : Code} {dC : Nat → ClassId} {dI : Nat → Nat → Nat} {ct : Nat → ClassId} {A : Nat → Prop} {aX : Nat → Nat} {a0 : Nat → Nat} {a1 : Nat → Nat} {a2 : Nat → Nat} {a3 : Nat → Nat} {Post : Int32 → V → VL → V → V → V → V → Prop} {K51 : Int32 → Int32 → Int64 → Int32 → V → VL → V → V → V → V → Prop}  (X : CxW p s m args meth c cX0_year 10 (some .int) RX0 dC dI ct A) (hD : ∀ (x : V) (y : VL) (v0 : V) (v1 : V) (v2 : V) (v3 : V), va_D A (XW aX a0 a1 a2 a3 ct x y v0 v1 v2 v3)) (hK51 : ∀ (i2 : Int32) (i3 : Int32) (l4 : Int64) (i6 : Int32) (x : V) (y : VL) (v0 : V) (v1 : V) (v2 : V) (v3 : V), K51 i2 i3 l4 i6 x y v0 v1 v2 v3 → ∀ (H : Heap) (locs : List Loc) (ls : Array Slot), va_P (dC, dI) vwCl (XW aX a0 a1 a2 a3 ct x y v0 v1 v2 v3) H → va_S A s.heap H locs → lv_has ls 10 [(0, .ref (aX 0)), (2, .int i2), (3, .int i3), (4, .long l4), (6, .int i6)] → W p l e rm_X0_year s m args below meth c H locs 0 0 (MQ below (va_Qi (fun (r : Int32) (u : V × VL × V × V × V × V) => Post r u.1 u.2.1 u.2.2.1 u.2.2.2.1 u.2.2.2.2.1 u.2.2.2.2.2) (fun (u : V × VL × V × V × V × V) t => WPos dC dI ct (XW aX a0 a1 a2 a3 ct u.1 u.2.1 u.2.2.1 u.2.2.2.1 u.2.2.2.2.1 u.2.2.2.2.2) A t) A) args s 0 0 A) (F0 m 51 ls [])) (i2 : Int32) (i3 : Int32) (l4 : Int64) (i6 : Int32) (x : V) (y : VL) (v0 : V) (v1 : V) (v2 : V) (v3 : V) (w : wp_X0_year_L287  Post K51 i2 i3 l4 i6 x y v0 v1 v2 v3) : ∀ (H : Heap) (locs : List Loc) (ls : Array Slot), va_P (dC, dI) vwCl (XW aX a0 a1 a2 a3 ct x y v0 v1 v2 v3) H → va_S A s.heap H locs → lv_has ls 10 [(0, .ref (aX 0)), (2, .int i2), (3, .int i3), (4, .long l4), (6, .int i6)] → W p l e rm_X0_year s m args below meth c H locs 0 0 (MQ below (va_Qi (fun (r : Int32) (u : V × VL × V × V × V × V) => Post r u.1 u.2.1 u.2.2.1 u.2.2.2.1 u.2.2.2.2.1 u.2.2.2.2.2) (fun (u : V × VL × V × V × V × V) t => WPos dC dI ct (XW aX a0 a1 a2 a3 ct u.1 u.2.1 u.2.2.1 u.2.2.2.1 u.2.2.2.2.1 u.2.2.2.2.2) A t) A) args s 0 0 A) (F0 m 287 ls []) := by
  intro H locs ls hP hS hl
  have X0 := X
  obtain ⟨⟨hx, hb, hml, hr, hlk, hown, hts⟩, hA, hK, hN⟩ := X0
  unfold wp_X0_year_L287 at w
  refine lv_iinc (v := (i6 + 1)) (lv' := [(6, .int (i6 + 1)), (0, .ref (aX 0)), (2, .int i2), (3, .int i3), (4, .long l4)]) hx hb dX0_year_287 hl (k := 4) rfl rfl (by decide) rfl (fun ls hl => ?_)
  refine lv_goto (tgt := 51) hx hb dX0_year_290 (by decide) ?_
  exact hK51 _ _ _ _ _ _ _ _ _ _ w _ _ _ hP hS (lv_sub hl [1, 2, 3, 4, 0] rfl)
set_option maxHeartbeats 4000000 in
set_option maxRecDepth 100000 in
theorem wk_X0_year_L192 {p : Program} {l : Launch} {e : Env} {s : State} {m : MethodId} {args : Array Value} {below : List Frame} {meth : Method} {c : Code} {dC : Nat → ClassId} {dI : Nat → Nat → Nat} {ct : Nat → ClassId} {A : Nat → Prop} {aX : Nat → Nat} {a0 : Nat → Nat} {a1 : Nat → Nat} {a2 : Nat → Nat} {a3 : Nat → Nat} {Post : Int32 → V → VL → V → V → V → V → Prop} {K51 : Int32 → Int32 → Int64 → Int32 → V → VL → V → V → V → V → Prop}  (X : CxW p s m args meth c cX0_year 10 (some .int) RX0 dC dI ct A) (hD : ∀ (x : V) (y : VL) (v0 : V) (v1 : V) (v2 : V) (v3 : V), va_D A (XW aX a0 a1 a2 a3 ct x y v0 v1 v2 v3)) (hK51 : ∀ (i2 : Int32) (i3 : Int32) (l4 : Int64) (i6 : Int32) (x : V) (y : VL) (v0 : V) (v1 : V) (v2 : V) (v3 : V), K51 i2 i3 l4 i6 x y v0 v1 v2 v3 → ∀ (H : Heap) (locs : List Loc) (ls : Array Slot), va_P (dC, dI) vwCl (XW aX a0 a1 a2 a3 ct x y v0 v1 v2 v3) H → va_S A s.heap H locs → lv_has ls 10 [(0, .ref (aX 0)), (2, .int i2), (3, .int i3), (4, .long l4), (6, .int i6)] → W p l e rm_X0_year s m args below meth c H locs 0 0 (MQ below (va_Qi (fun (r : Int32) (u : V × VL × V × V × V × V) => Post r u.1 u.2.1 u.2.2.1 u.2.2.2.1 u.2.2.2.2.1 u.2.2.2.2.2) (fun (u : V × VL × V × V × V × V) t => WPos dC dI ct (XW aX a0 a1 a2 a3 ct u.1 u.2.1 u.2.2.1 u.2.2.2.1 u.2.2.2.2.1 u.2.2.2.2.2) A t) A) args s 0 0 A) (F0 m 51 ls [])) (i2 : Int32) (i3 : Int32) (l4 : Int64) (i6 : Int32) (i7 : Int32) (i8 : Int32) (x : V) (y : VL) (v0 : V) (v1 : V) (v2 : V) (v3 : V) (w : wp_X0_year_L192  Post K51 i2 i3 l4 i6 i7 i8 x y v0 v1 v2 v3) : ∀ (H : Heap) (locs : List Loc) (ls : Array Slot), va_P (dC, dI) vwCl (XW aX a0 a1 a2 a3 ct x y v0 v1 v2 v3) H → va_S A s.heap H locs → lv_has ls 10 [(0, .ref (aX 0)), (2, .int i2), (3, .int i3), (4, .long l4), (6, .int i6), (7, .int i7), (8, .int i8)] → W p l e rm_X0_year s m args below meth c H locs 0 0 (MQ below (va_Qi (fun (r : Int32) (u : V × VL × V × V × V × V) => Post r u.1 u.2.1 u.2.2.1 u.2.2.2.1 u.2.2.2.2.1 u.2.2.2.2.2) (fun (u : V × VL × V × V × V × V) t => WPos dC dI ct (XW aX a0 a1 a2 a3 ct u.1 u.2.1 u.2.2.1 u.2.2.2.1 u.2.2.2.2.1 u.2.2.2.2.2) A t) A) args s 0 0 A) (F0 m 192 ls []) := by
  intro H locs ls hP hS hl
  have X0 := X
  obtain ⟨⟨hx, hb, hml, hr, hlk, hown, hts⟩, hA, hK, hN⟩ := X0
  unfold wp_X0_year_L192 at w
  refine lv_aload_n hx hb dX0_year_192 rfl (lv_at hl 0 rfl) ?_
  refine lv_aload_n hx hb dX0_year_193 rfl (lv_at hl 0 rfl) ?_
  refine va_get (D := (dC, dI)) (ci := 0) (v := .ref (a1 0)) (C := RX0) (T := TX0) (N := 14) hx hb hts in_X0 hown hK hP 0 rfl rfl 1 (by decide) (hts _ q129) (fun _ h9 => h9) rfl dX0_year_194 ?_
  refine lv_iload hx hb dX0_year_197 (lv_at hl 5 rfl) ?_
  refine lv_iload hx hb dX0_year_199 (lv_at hl 6 rfl) ?_
  refine lv_bipush (v := 8) hx hb dX0_year_201 (by decide) ?_
  refine lv_irem hx hb dX0_year_203 (by decide) ?_
  have hPc := XW_g1 hP
  have hDc := XW_d1 (hD x y v0 v1 v2 v3)
  refine va_calli (va_runV (As := [.int i7, .int (i8 - i8 / (8 : Int32) * (8 : Int32))]) (rest := [.ref (aX 0)]) ⟨hx, hb, hml, hown, hts⟩ (met_X1_buy l dC dI ct a1 _ w) (cwV 2 hts (lw_V q276 q277 q278 q49 q279) rfl rfl rfl hd_X1_buy ⟨Nat.le_of_ble_eq_true rfl, Nat.le_of_ble_eq_true rfl⟩) (pre_V hK hPc hDc hN (va_recv hK hPc (ci := 1) (q0 := 0) rfl rfl)) rfl rfl hl.1 rfl (lv_room (Nat.le_of_ble_eq_true rfl)) dX0_year_204 ⟨Nat.le_refl _, Nat.le_refl _⟩) hS (fun q _ h => x_free hDc hS hA q h) (x_free hDc hS hA) (fun r1 v1_1 t H locs ht hvm w hB hz hk hS => ?_)
  have hP := XW_j1 hP (hD _ _ _ _ _ _) hk (post_P hB ht)
  have hP : va_P (dC, dI) vwCl (XW aX a0 a1 a2 a3 ct x y v0 v1_1 v2 v3) H := hP
  refine va_put (D := (dC, dI)) (ci := 0) (v := .int r1) (ty := .int) (C := RX0) (T := TX0) (N := 14) hx hb hts in_X0 tyX0 tyX0_ok nmX0 hown hK hP (hD _ _ _ _ _ _) hS 0 rfl rfl 5 (by decide) (hts _ q133) (fun _ h9 => h9) rfl (by decide +kernel) rfl rfl (Nat.le_of_ble_eq_true rfl) dX0_year_207 (fun H locs hP _ hS => ?_)
  have hP : va_P (dC, dI) vwCl (XW aX a0 a1 a2 a3 ct (up2 x 5 1 r1) y v0 v1_1 v2 v3) H := XW_s_x_1 hP
  refine lv_goto (tgt := 287) hx hb dX0_year_210 (by decide) ?_
  exact wk_X0_year_L287 X hD hK51 _ _ _ _ _ _ _ _ _ _ w _ _ _ hP hS (lv_sub hl [0, 1, 2, 3, 4] rfl)
set_option maxHeartbeats 4000000 in
set_option maxRecDepth 100000 in
theorem wk_X0_year_L334 {p : Program} {l : Launch} {e : Env} {s : State} {m : MethodId} {args : Array Value} {below : List Frame} {meth : Method} {c : Code} {dC : Nat → ClassId} {dI : Nat → Nat → Nat} {ct : Nat → ClassId} {A : Nat → Prop} {aX : Nat → Nat} {a0 : Nat → Nat} {a1 : Nat → Nat} {a2 : Nat → Nat} {a3 : Nat → Nat} {Post : Int32 → V → VL → V → V → V → V → Prop}   (X : CxW p s m args meth c cX0_year 10 (some .int) RX0 dC dI ct A) (hD : ∀ (x : V) (y : VL) (v0 : V) (v1 : V) (v2 : V) (v3 : V), va_D A (XW aX a0 a1 a2 a3 ct x y v0 v1 v2 v3))  (is0 : Int32) (x : V) (y : VL) (v0 : V) (v1 : V) (v2 : V) (v3 : V) (w : wp_X0_year_L334  Post  is0 x y v0 v1 v2 v3) : ∀ (H : Heap) (locs : List Loc) (ls : Array Slot), va_P (dC, dI) vwCl (XW aX a0 a1 a2 a3 ct x y v0 v1 v2 v3) H → va_S A s.heap H locs → lv_has ls 10 [] → W p l e rm_X0_year s m args below meth c H locs 0 0 (MQ below (va_Qi (fun (r : Int32) (u : V × VL × V × V × V × V) => Post r u.1 u.2.1 u.2.2.1 u.2.2.2.1 u.2.2.2.2.1 u.2.2.2.2.2) (fun (u : V × VL × V × V × V × V) t => WPos dC dI ct (XW aX a0 a1 a2 a3 ct u.1 u.2.1 u.2.2.1 u.2.2.2.1 u.2.2.2.2.1 u.2.2.2.2.2) A t) A) args s 0 0 A) (F0 m 334 ls [.int is0]) := by
  intro H locs ls hP hS hl
  have X0 := X
  obtain ⟨⟨hx, hb, hml, hr, hlk, hown, hts⟩, hA, hK, hN⟩ := X0
  unfold wp_X0_year_L334 at w
  exact W.iret (v := is0) hx hb hr (fun t ht hW => ⟨⟨is0, (x, y, v0, v1, v2, v3), rfl, w, by rw [ht]; exact hP, va_K.moved hW.alike hK, (hD _ _ _ _ _ _)⟩, hS.F ht⟩) hS.2.2 dX0_year_334 hlk
set_option maxHeartbeats 4000000 in
set_option maxRecDepth 100000 in
theorem wk_X0_year_S51 {p : Program} {l : Launch} {e : Env} {s : State} {m : MethodId} {args : Array Value} {below : List Frame} {meth : Method} {c : Code} {dC : Nat → ClassId} {dI : Nat → Nat → Nat} {ct : Nat → ClassId} {A : Nat → Prop} {aX : Nat → Nat} {a0 : Nat → Nat} {a1 : Nat → Nat} {a2 : Nat → Nat} {a3 : Nat → Nat} {Post : Int32 → V → VL → V → V → V → V → Prop} {K51 : Int32 → Int32 → Int64 → Int32 → V → VL → V → V → V → V → Prop}  (X : CxW p s m args meth c cX0_year 10 (some .int) RX0 dC dI ct A) (hD : ∀ (x : V) (y : VL) (v0 : V) (v1 : V) (v2 : V) (v3 : V), va_D A (XW aX a0 a1 a2 a3 ct x y v0 v1 v2 v3)) (hK51 : ∀ (i2 : Int32) (i3 : Int32) (l4 : Int64) (i6 : Int32) (x : V) (y : VL) (v0 : V) (v1 : V) (v2 : V) (v3 : V), K51 i2 i3 l4 i6 x y v0 v1 v2 v3 → ∀ (H : Heap) (locs : List Loc) (ls : Array Slot), va_P (dC, dI) vwCl (XW aX a0 a1 a2 a3 ct x y v0 v1 v2 v3) H → va_S A s.heap H locs → lv_has ls 10 [(0, .ref (aX 0)), (2, .int i2), (3, .int i3), (4, .long l4), (6, .int i6)] → W p l e rm_X0_year s m args below meth c H locs 0 0 (MQ below (va_Qi (fun (r : Int32) (u : V × VL × V × V × V × V) => Post r u.1 u.2.1 u.2.2.1 u.2.2.2.1 u.2.2.2.2.1 u.2.2.2.2.2) (fun (u : V × VL × V × V × V × V) t => WPos dC dI ct (XW aX a0 a1 a2 a3 ct u.1 u.2.1 u.2.2.1 u.2.2.2.1 u.2.2.2.2.1 u.2.2.2.2.2) A t) A) args s 0 0 A) (F0 m 51 ls [])) (i2 : Int32) (i3 : Int32) (l4 : Int64) (i6 : Int32) (x : V) (y : VL) (v0 : V) (v1 : V) (v2 : V) (v3 : V) (w : wp_X0_year_S51  Post K51 i2 i3 l4 i6 x y v0 v1 v2 v3) : ∀ (H : Heap) (locs : List Loc) (ls : Array Slot), va_P (dC, dI) vwCl (XW aX a0 a1 a2 a3 ct x y v0 v1 v2 v3) H → va_S A s.heap H locs → lv_has ls 10 [(0, .ref (aX 0)), (2, .int i2), (3, .int i3), (4, .long l4), (6, .int i6)] → W p l e rm_X0_year s m args below meth c H locs 0 0 (MQ below (va_Qi (fun (r : Int32) (u : V × VL × V × V × V × V) => Post r u.1 u.2.1 u.2.2.1 u.2.2.2.1 u.2.2.2.2.1 u.2.2.2.2.2) (fun (u : V × VL × V × V × V × V) t => WPos dC dI ct (XW aX a0 a1 a2 a3 ct u.1 u.2.1 u.2.2.1 u.2.2.2.1 u.2.2.2.2.1 u.2.2.2.2.2) A t) A) args s 0 0 A) (F0 m 51 ls []) := by
  intro H locs ls hP hS hl
  have X0 := X
  obtain ⟨⟨hx, hb, hml, hr, hlk, hown, hts⟩, hA, hK, hN⟩ := X0
  unfold wp_X0_year_S51 at w
  refine lv_iload hx hb dX0_year_51 (lv_at hl 4 rfl) ?_
  refine lv_iload_n hx hb dX0_year_53 rfl (lv_at hl 1 rfl) ?_
  refine lv_icmp_ge (tgt := 293) hx hb dX0_year_54 (by decide) (fun c => ?_) (fun c => ?_)
  · have w := And.left w c
    refine lv_iload_n hx hb dX0_year_293 rfl (lv_at hl 2 rfl) ?_
    refine lv_if_ne (tgt := 307) hx hb dX0_year_294 (by decide) (fun c => ?_) (fun c => ?_)
    · have w := And.right w c
      refine lv_iload_n hx hb dX0_year_307 rfl (lv_at hl 2 rfl) ?_
      refine lv_iconst (v := 1) hx hb dX0_year_308 (by decide) ?_
      refine lv_icmp_ne (tgt := 322) hx hb dX0_year_309 (by decide) (fun c => ?_) (fun c => ?_)
      · have w := And.right w c
        refine lv_aload_n hx hb dX0_year_322 rfl (lv_at hl 0 rfl) ?_
        refine va_get (D := (dC, dI)) (ci := 0) (v := .ref (a1 0)) (C := RX0) (T := TX0) (N := 14) hx hb hts in_X0 hown hK hP 0 rfl rfl 1 (by decide) (hts _ q129) (fun _ h9 => h9) rfl dX0_year_323 ?_
        refine lv_bipush (v := -6) hx hb dX0_year_326 (by decide) ?_
        have hPc := XW_g1 hP
        have hDc := XW_d1 (hD x y v0 v1 v2 v3)
        refine va_calli (va_runV (As := [.int (-6 : Int32)]) (rest := []) ⟨hx, hb, hml, hown, hts⟩ (met_X1_lotsOf l dC dI ct a1 _ w) (cwV 1 hts (lw_V q304 q305 q306 q49 q307) rfl rfl rfl hd_X1_lotsOf ⟨Nat.le_of_ble_eq_true rfl, Nat.le_of_ble_eq_true rfl⟩) (pre_V hK hPc hDc hN (va_recv hK hPc (ci := 1) (q0 := 0) rfl rfl)) rfl rfl hl.1 rfl (lv_room (Nat.le_of_ble_eq_true rfl)) dX0_year_328 ⟨Nat.le_refl _, Nat.le_refl _⟩) hS (fun q _ h => x_free hDc hS hA q h) (x_free hDc hS hA) (fun r1 v1_1 t H locs ht hvm w hB hz hk hS => ?_)
        have hP := XW_j1 hP (hD _ _ _ _ _ _) hk (post_P hB ht)
        have hP : va_P (dC, dI) vwCl (XW aX a0 a1 a2 a3 ct x y v0 v1_1 v2 v3) H := hP
        refine vp_callSi (W.runS (As := [.int r1]) (rest := []) ⟨hx, hb, hml, hown, hts⟩ (met_J2_bitCount l w) (va_cwS 1 hts (lw_S q349 q350 q54 q351) rfl rfl rfl hd_J2_bitCount ⟨Nat.le_of_ble_eq_true rfl, Nat.le_of_ble_eq_true rfl⟩) pre_S rfl rfl hl.1 rfl (lv_room (Nat.le_of_ble_eq_true rfl)) dX0_year_331 ⟨Nat.le_refl _, Nat.le_refl _⟩) (fun r2 w => ?_)
        exact wk_X0_year_L334 X hD  _ _ _ _ _ _ _ w _ _ _ hP hS (lv_sub hl [] rfl)
      · have w := And.left w c
        refine lv_aload_n hx hb dX0_year_312 rfl (lv_at hl 0 rfl) ?_
        refine va_get (D := (dC, dI)) (ci := 0) (v := .ref (a1 0)) (C := RX0) (T := TX0) (N := 14) hx hb hts in_X0 hown hK hP 0 rfl rfl 1 (by decide) (hts _ q129) (fun _ h9 => h9) rfl dX0_year_313 ?_
        have hPc := XW_g1 hP
        have hDc := XW_d1 (hD x y v0 v1 v2 v3)
        refine va_calli (va_runV (As := []) (rest := []) ⟨hx, hb, hml, hown, hts⟩ (met_X1_rate l dC dI ct a1 _ w) (cwV 0 hts (lw_V q253 q254 q255 q49 q256) rfl rfl rfl hd_X1_rate ⟨Nat.le_of_ble_eq_true rfl, Nat.le_of_ble_eq_true rfl⟩) (pre_V hK hPc hDc hN (va_recv hK hPc (ci := 1) (q0 := 0) rfl rfl)) rfl rfl hl.1 rfl (lv_room (Nat.le_of_ble_eq_true rfl)) dX0_year_316 ⟨Nat.le_refl _, Nat.le_refl _⟩) hS (fun q _ h => x_free hDc hS hA q h) (x_free hDc hS hA) (fun r3 v1_3 t H locs ht hvm w hB hz hk hS => ?_)
        have hP := XW_j1 hP (hD _ _ _ _ _ _) hk (post_P hB ht)
        have hP : va_P (dC, dI) vwCl (XW aX a0 a1 a2 a3 ct x y v0 v1_3 v2 v3) H := hP
        refine lv_goto (tgt := 334) hx hb dX0_year_319 (by decide) ?_
        exact wk_X0_year_L334 X hD  _ _ _ _ _ _ _ w _ _ _ hP hS (lv_sub hl [] rfl)
    · have w := And.left w c
      refine lv_aload_n hx hb dX0_year_297 rfl (lv_at hl 0 rfl) ?_
      refine va_get (D := (dC, dI)) (ci := 0) (v := .ref (a1 0)) (C := RX0) (T := TX0) (N := 14) hx hb hts in_X0 hown hK hP 0 rfl rfl 1 (by decide) (hts _ q129) (fun _ h9 => h9) rfl dX0_year_298 ?_
      have hPc := XW_g1 hP
      have hDc := XW_d1 (hD x y v0 v1 v2 v3)
      refine va_calli (va_runV (As := []) (rest := []) ⟨hx, hb, hml, hown, hts⟩ (met_X1_notes l dC dI ct a1 _ w) (cwV 0 hts (lw_V q319 q262 q263 q49 q264) rfl rfl rfl hd_X1_notes ⟨Nat.le_of_ble_eq_true rfl, Nat.le_of_ble_eq_true rfl⟩) (pre_V hK hPc hDc hN (va_recv hK hPc (ci := 1) (q0 := 0) rfl rfl)) rfl rfl hl.1 rfl (lv_room (Nat.le_of_ble_eq_true rfl)) dX0_year_301 ⟨Nat.le_refl _, Nat.le_refl _⟩) hS (fun q _ h => x_free hDc hS hA q h) (x_free hDc hS hA) (fun r4 v1_4 t H locs ht hvm w hB hz hk hS => ?_)
      have hP := XW_j1 hP (hD _ _ _ _ _ _) hk (post_P hB ht)
      have hP : va_P (dC, dI) vwCl (XW aX a0 a1 a2 a3 ct x y v0 v1_4 v2 v3) H := hP
      refine lv_goto (tgt := 334) hx hb dX0_year_304 (by decide) ?_
      exact wk_X0_year_L334 X hD  _ _ _ _ _ _ _ w _ _ _ hP hS (lv_sub hl [] rfl)
  · have w := And.right w c
    refine lv_ldc2 (v := 75) hx hb hown (hts _ q422) dX0_year_57 ?_
    refine lv_lload hx hb dX0_year_60 (lv_at hl 3 rfl) ?_
    refine lv_lmul hx hb dX0_year_62 ?_
    refine lv_ldc2 (v := 74) hx hb hown (hts _ q423) dX0_year_63 ?_
    refine lv_ladd hx hb dX0_year_66 ?_
    refine lv_ldc2 (v := 65537) hx hb hown (hts _ q424) dX0_year_67 ?_
    refine lv_lrem hx hb dX0_year_70 (by decide) ?_
    refine lv_topl (fun n5 en5 => ?_)
    have w := w n5 en5
    refine lv_lstore (lv' := [(4, .long n5), (0, .ref (aX 0)), (2, .int i2), (3, .int i3), (6, .int i6)]) hx hb dX0_year_71 hl (by decide) rfl (fun ls hl => ?_)
    refine lv_lload hx hb dX0_year_73 (lv_at hl 0 rfl) ?_
    refine lv_ldc2 (v := 6) hx hb hown (hts _ q425) dX0_year_75 ?_
    refine lv_lrem hx hb dX0_year_78 (by decide) ?_
    refine lv_l2i hx hb dX0_year_79 rfl ?_
    refine lv_istore (lv' := [(7, .int ((n5 - n5 / (6 : Int64) * (6 : Int64)).toInt32)), (4, .long n5), (0, .ref (aX 0)), (2, .int i2), (3, .int i3), (6, .int i6)]) hx hb dX0_year_80 hl (by decide) rfl (fun ls hl => ?_)
    refine lv_lload hx hb dX0_year_82 (lv_at hl 1 rfl) ?_
    refine lv_ldc2 (v := 48) hx hb hown (hts _ q426) dX0_year_84 ?_
    refine lv_ldiv hx hb dX0_year_87 (by decide) ?_
    refine lv_l2i hx hb dX0_year_88 rfl ?_
    refine lv_istore (lv' := [(8, .int ((n5 / (48 : Int64)).toInt32)), (7, .int ((n5 - n5 / (6 : Int64) * (6 : Int64)).toInt32)), (4, .long n5), (0, .ref (aX 0)), (2, .int i2), (3, .int i3), (6, .int i6)]) hx hb dX0_year_89 hl (by decide) rfl (fun ls hl => ?_)
    refine lv_iconst (v := 1) hx hb dX0_year_91 (by decide) ?_
    refine lv_iload hx hb dX0_year_92 (lv_at hl 0 rfl) ?_
    refine lv_bipush (v := 9) hx hb dX0_year_94 (by decide) ?_
    refine lv_irem hx hb dX0_year_96 (by decide) ?_
    refine lv_iadd hx hb dX0_year_97 ?_
    refine lv_topi (fun n6 en6 => ?_)
    have w := w n6 en6
    refine lv_istore (lv' := [(9, .int n6), (8, .int ((n5 / (48 : Int64)).toInt32)), (7, .int ((n5 - n5 / (6 : Int64) * (6 : Int64)).toInt32)), (4, .long n5), (0, .ref (aX 0)), (2, .int i2), (3, .int i3), (6, .int i6)]) hx hb dX0_year_98 hl (by decide) rfl (fun ls hl => ?_)
    refine lv_lload hx hb dX0_year_100 (lv_at hl 3 rfl) ?_
    refine lv_ldc2 (v := 6) hx hb hown (hts _ q425) dX0_year_102 ?_
    refine lv_ldiv hx hb dX0_year_105 (by decide) ?_
    refine lv_ldc2 (v := 8) hx hb hown (hts _ q427) dX0_year_106 ?_
    refine lv_lrem hx hb dX0_year_109 (by decide) ?_
    refine lv_l2i hx hb dX0_year_110 rfl ?_
    by_cases c7_0 : ((n5 / (6 : Int64)) - (n5 / (6 : Int64)) / (8 : Int64) * (8 : Int64)).toInt32 = 0
    · have w := And.left w c7_0
      refine lv_tableIn (tgt := 152) hx hb dX0_year_111 (by rw [c7_0]; decide) (by rw [c7_0]; decide) (by rw [c7_0]; rfl) (by decide) ?_
      refine lv_aload_n hx hb dX0_year_152 rfl (lv_at hl 4 rfl) ?_
      refine lv_aload_n hx hb dX0_year_153 rfl (lv_at hl 4 rfl) ?_
      refine va_get (D := (dC, dI)) (ci := 0) (v := .ref (a1 0)) (C := RX0) (T := TX0) (N := 14) hx hb hts in_X0 hown hK hP 0 rfl rfl 1 (by decide) (hts _ q129) (fun _ h9 => h9) rfl dX0_year_154 ?_
      refine lv_bipush (v := 100) hx hb dX0_year_157 (by decide) ?_
      refine lv_iload hx hb dX0_year_159 (lv_at hl 0 rfl) ?_
      refine lv_imul hx hb dX0_year_161 ?_
      have hPc := XW_g1 hP
      have hDc := XW_d1 (hD x y v0 v1 v2 v3)
      refine va_calli (va_runV (As := [.int ((100 : Int32) * n6)]) (rest := [.ref (aX 0)]) ⟨hx, hb, hml, hown, hts⟩ (met_X1_print l dC dI ct a1 _ w) (cwV 1 hts (lw_V q240 q241 q242 q49 q243) rfl rfl rfl hd_X1_print ⟨Nat.le_of_ble_eq_true rfl, Nat.le_of_ble_eq_true rfl⟩) (pre_V hK hPc hDc hN (va_recv hK hPc (ci := 1) (q0 := 0) rfl rfl)) rfl rfl hl.1 rfl (lv_room (Nat.le_of_ble_eq_true rfl)) dX0_year_162 ⟨Nat.le_refl _, Nat.le_refl _⟩) hS (fun q _ h => x_free hDc hS hA q h) (x_free hDc hS hA) (fun r8 v1_8 t H locs ht hvm w hB hz hk hS => ?_)
      have hP := XW_j1 hP (hD _ _ _ _ _ _) hk (post_P hB ht)
      have hP : va_P (dC, dI) vwCl (XW aX a0 a1 a2 a3 ct x y v0 v1_8 v2 v3) H := hP
      refine va_put (D := (dC, dI)) (ci := 0) (v := .int r8) (ty := .int) (C := RX0) (T := TX0) (N := 14) hx hb hts in_X0 tyX0 tyX0_ok nmX0 hown hK hP (hD _ _ _ _ _ _) hS 0 rfl rfl 5 (by decide) (hts _ q133) (fun _ h9 => h9) rfl (by decide +kernel) rfl rfl (Nat.le_of_ble_eq_true rfl) dX0_year_165 (fun H locs hP _ hS => ?_)
      have hP : va_P (dC, dI) vwCl (XW aX a0 a1 a2 a3 ct (up2 x 5 1 r8) y v0 v1_8 v2 v3) H := XW_s_x_1 hP
      refine lv_goto (tgt := 287) hx hb dX0_year_168 (by decide) ?_
      exact wk_X0_year_L287 X hD hK51 _ _ _ _ _ _ _ _ _ _ w _ _ _ hP hS (lv_sub hl [4, 5, 6, 3, 7] rfl)
    have w := And.right w c7_0
    by_cases c7_1 : ((n5 / (6 : Int64)) - (n5 / (6 : Int64)) / (8 : Int64) * (8 : Int64)).toInt32 = 1
    · have w := And.left w c7_1
      refine lv_tableIn (tgt := 171) hx hb dX0_year_111 (by rw [c7_1]; decide) (by rw [c7_1]; decide) (by rw [c7_1]; rfl) (by decide) ?_
      refine lv_aload_n hx hb dX0_year_171 rfl (lv_at hl 4 rfl) ?_
      refine lv_aload_n hx hb dX0_year_172 rfl (lv_at hl 4 rfl) ?_
      refine va_get (D := (dC, dI)) (ci := 0) (v := .ref (a1 0)) (C := RX0) (T := TX0) (N := 14) hx hb hts in_X0 hown hK hP 0 rfl rfl 1 (by decide) (hts _ q129) (fun _ h9 => h9) rfl dX0_year_173 ?_
      refine lv_iload hx hb dX0_year_176 (lv_at hl 2 rfl) ?_
      refine lv_bipush (v := 100) hx hb dX0_year_178 (by decide) ?_
      refine lv_iload hx hb dX0_year_180 (lv_at hl 0 rfl) ?_
      refine lv_imul hx hb dX0_year_182 ?_
      have hPc := XW_g1 hP
      have hDc := XW_d1 (hD x y v0 v1 v2 v3)
      refine va_calli (va_runV (As := [.int ((n5 - n5 / (6 : Int64) * (6 : Int64)).toInt32), .int ((100 : Int32) * n6)]) (rest := [.ref (aX 0)]) ⟨hx, hb, hml, hown, hts⟩ (met_X1_spend l dC dI ct a1 _ w) (cwV 2 hts (lw_V q292 q293 q294 q49 q295) rfl rfl rfl hd_X1_spend ⟨Nat.le_of_ble_eq_true rfl, Nat.le_of_ble_eq_true rfl⟩) (pre_V hK hPc hDc hN (va_recv hK hPc (ci := 1) (q0 := 0) rfl rfl)) rfl rfl hl.1 rfl (lv_room (Nat.le_of_ble_eq_true rfl)) dX0_year_183 ⟨Nat.le_refl _, Nat.le_refl _⟩) hS (fun q _ h => x_free hDc hS hA q h) (x_free hDc hS hA) (fun r9 v1_9 t H locs ht hvm w hB hz hk hS => ?_)
      have hP := XW_j1 hP (hD _ _ _ _ _ _) hk (post_P hB ht)
      have hP : va_P (dC, dI) vwCl (XW aX a0 a1 a2 a3 ct x y v0 v1_9 v2 v3) H := hP
      refine va_put (D := (dC, dI)) (ci := 0) (v := .int r9) (ty := .int) (C := RX0) (T := TX0) (N := 14) hx hb hts in_X0 tyX0 tyX0_ok nmX0 hown hK hP (hD _ _ _ _ _ _) hS 0 rfl rfl 5 (by decide) (hts _ q133) (fun _ h9 => h9) rfl (by decide +kernel) rfl rfl (Nat.le_of_ble_eq_true rfl) dX0_year_186 (fun H locs hP _ hS => ?_)
      have hP : va_P (dC, dI) vwCl (XW aX a0 a1 a2 a3 ct (up2 x 5 1 r9) y v0 v1_9 v2 v3) H := XW_s_x_1 hP
      refine lv_goto (tgt := 287) hx hb dX0_year_189 (by decide) ?_
      exact wk_X0_year_L287 X hD hK51 _ _ _ _ _ _ _ _ _ _ w _ _ _ hP hS (lv_sub hl [4, 5, 6, 3, 7] rfl)
    have w := And.right w c7_1
    by_cases c7_2 : ((n5 / (6 : Int64)) - (n5 / (6 : Int64)) / (8 : Int64) * (8 : Int64)).toInt32 = 2
    · have w := And.left w c7_2
      refine lv_tableIn (tgt := 192) hx hb dX0_year_111 (by rw [c7_2]; decide) (by rw [c7_2]; decide) (by rw [c7_2]; rfl) (by decide) ?_
      exact wk_X0_year_L192 X hD hK51 _ _ _ _ _ _ _ _ _ _ _ _ w _ _ _ hP hS (lv_sub hl [4, 5, 6, 3, 7, 2, 1] rfl)
    have w := And.right w c7_2
    by_cases c7_3 : ((n5 / (6 : Int64)) - (n5 / (6 : Int64)) / (8 : Int64) * (8 : Int64)).toInt32 = 3
    · have w := And.left w c7_3
      refine lv_tableIn (tgt := 192) hx hb dX0_year_111 (by rw [c7_3]; decide) (by rw [c7_3]; decide) (by rw [c7_3]; rfl) (by decide) ?_
      exact wk_X0_year_L192 X hD hK51 _ _ _ _ _ _ _ _ _ _ _ _ w _ _ _ hP hS (lv_sub hl [4, 5, 6, 3, 7, 2, 1] rfl)
    have w := And.right w c7_3
    by_cases c7_4 : ((n5 / (6 : Int64)) - (n5 / (6 : Int64)) / (8 : Int64) * (8 : Int64)).toInt32 = 4
    · have w := And.left w c7_4
      refine lv_tableIn (tgt := 213) hx hb dX0_year_111 (by rw [c7_4]; decide) (by rw [c7_4]; decide) (by rw [c7_4]; rfl) (by decide) ?_
      refine lv_aload_n hx hb dX0_year_213 rfl (lv_at hl 4 rfl) ?_
      refine lv_aload_n hx hb dX0_year_214 rfl (lv_at hl 4 rfl) ?_
      refine va_get (D := (dC, dI)) (ci := 0) (v := .ref (a1 0)) (C := RX0) (T := TX0) (N := 14) hx hb hts in_X0 hown hK hP 0 rfl rfl 1 (by decide) (hts _ q129) (fun _ h9 => h9) rfl dX0_year_215 ?_
      refine lv_iload hx hb dX0_year_218 (lv_at hl 2 rfl) ?_
      refine lv_bipush (v := 10) hx hb dX0_year_220 (by decide) ?_
      refine lv_iload hx hb dX0_year_222 (lv_at hl 0 rfl) ?_
      refine lv_imul hx hb dX0_year_224 ?_
      have hPc := XW_g1 hP
      have hDc := XW_d1 (hD x y v0 v1 v2 v3)
      refine va_calli (va_runV (As := [.int ((n5 - n5 / (6 : Int64) * (6 : Int64)).toInt32), .int ((10 : Int32) * n6)]) (rest := [.ref (aX 0)]) ⟨hx, hb, hml, hown, hts⟩ (met_X1_change l dC dI ct a1 _ w) (cwV 2 hts (lw_V q280 q281 q282 q49 q283) rfl rfl rfl hd_X1_change ⟨Nat.le_of_ble_eq_true rfl, Nat.le_of_ble_eq_true rfl⟩) (pre_V hK hPc hDc hN (va_recv hK hPc (ci := 1) (q0 := 0) rfl rfl)) rfl rfl hl.1 rfl (lv_room (Nat.le_of_ble_eq_true rfl)) dX0_year_225 ⟨Nat.le_refl _, Nat.le_refl _⟩) hS (fun q _ h => x_free hDc hS hA q h) (x_free hDc hS hA) (fun r10 v1_10 t H locs ht hvm w hB hz hk hS => ?_)
      have hP := XW_j1 hP (hD _ _ _ _ _ _) hk (post_P hB ht)
      have hP : va_P (dC, dI) vwCl (XW aX a0 a1 a2 a3 ct x y v0 v1_10 v2 v3) H := hP
      refine va_put (D := (dC, dI)) (ci := 0) (v := .int r10) (ty := .int) (C := RX0) (T := TX0) (N := 14) hx hb hts in_X0 tyX0 tyX0_ok nmX0 hown hK hP (hD _ _ _ _ _ _) hS 0 rfl rfl 5 (by decide) (hts _ q133) (fun _ h9 => h9) rfl (by decide +kernel) rfl rfl (Nat.le_of_ble_eq_true rfl) dX0_year_228 (fun H locs hP _ hS => ?_)
      have hP : va_P (dC, dI) vwCl (XW aX a0 a1 a2 a3 ct (up2 x 5 1 r10) y v0 v1_10 v2 v3) H := XW_s_x_1 hP
      refine lv_goto (tgt := 287) hx hb dX0_year_231 (by decide) ?_
      exact wk_X0_year_L287 X hD hK51 _ _ _ _ _ _ _ _ _ _ w _ _ _ hP hS (lv_sub hl [4, 5, 6, 3, 7] rfl)
    have w := And.right w c7_4
    by_cases c7_5 : ((n5 / (6 : Int64)) - (n5 / (6 : Int64)) / (8 : Int64) * (8 : Int64)).toInt32 = 5
    · have w := And.left w c7_5
      refine lv_tableIn (tgt := 234) hx hb dX0_year_111 (by rw [c7_5]; decide) (by rw [c7_5]; decide) (by rw [c7_5]; rfl) (by decide) ?_
      refine lv_aload_n hx hb dX0_year_234 rfl (lv_at hl 4 rfl) ?_
      refine lv_aload_n hx hb dX0_year_235 rfl (lv_at hl 4 rfl) ?_
      refine va_get (D := (dC, dI)) (ci := 0) (v := .ref (a1 0)) (C := RX0) (T := TX0) (N := 14) hx hb hts in_X0 hown hK hP 0 rfl rfl 1 (by decide) (hts _ q129) (fun _ h9 => h9) rfl dX0_year_236 ?_
      refine lv_iload hx hb dX0_year_239 (lv_at hl 2 rfl) ?_
      refine lv_iload hx hb dX0_year_241 (lv_at hl 1 rfl) ?_
      refine lv_bipush (v := 6) hx hb dX0_year_243 (by decide) ?_
      refine lv_irem hx hb dX0_year_245 (by decide) ?_
      have hPc := XW_g1 hP
      have hDc := XW_d1 (hD x y v0 v1 v2 v3)
      refine va_calli (va_runV (As := [.int ((n5 - n5 / (6 : Int64) * (6 : Int64)).toInt32), .int ((n5 / (48 : Int64)).toInt32 - (n5 / (48 : Int64)).toInt32 / (6 : Int32) * (6 : Int32))]) (rest := [.ref (aX 0)]) ⟨hx, hb, hml, hown, hts⟩ (met_X1_pay l dC dI ct a1 _ w) (cwV 2 hts (lw_V q285 q286 q287 q49 q288) rfl rfl rfl hd_X1_pay ⟨Nat.le_of_ble_eq_true rfl, Nat.le_of_ble_eq_true rfl⟩) (pre_V hK hPc hDc hN (va_recv hK hPc (ci := 1) (q0 := 0) rfl rfl)) rfl rfl hl.1 rfl (lv_room (Nat.le_of_ble_eq_true rfl)) dX0_year_246 ⟨Nat.le_refl _, Nat.le_refl _⟩) hS (fun q _ h => x_free hDc hS hA q h) (x_free hDc hS hA) (fun r11 v1_11 t H locs ht hvm w hB hz hk hS => ?_)
      have hP := XW_j1 hP (hD _ _ _ _ _ _) hk (post_P hB ht)
      have hP : va_P (dC, dI) vwCl (XW aX a0 a1 a2 a3 ct x y v0 v1_11 v2 v3) H := hP
      refine va_put (D := (dC, dI)) (ci := 0) (v := .int r11) (ty := .int) (C := RX0) (T := TX0) (N := 14) hx hb hts in_X0 tyX0 tyX0_ok nmX0 hown hK hP (hD _ _ _ _ _ _) hS 0 rfl rfl 5 (by decide) (hts _ q133) (fun _ h9 => h9) rfl (by decide +kernel) rfl rfl (Nat.le_of_ble_eq_true rfl) dX0_year_249 (fun H locs hP _ hS => ?_)
      have hP : va_P (dC, dI) vwCl (XW aX a0 a1 a2 a3 ct (up2 x 5 1 r11) y v0 v1_11 v2 v3) H := XW_s_x_1 hP
      refine lv_goto (tgt := 287) hx hb dX0_year_252 (by decide) ?_
      exact wk_X0_year_L287 X hD hK51 _ _ _ _ _ _ _ _ _ _ w _ _ _ hP hS (lv_sub hl [4, 5, 6, 3, 7] rfl)
    have w := And.right w c7_5
    by_cases c7_6 : ((n5 / (6 : Int64)) - (n5 / (6 : Int64)) / (8 : Int64) * (8 : Int64)).toInt32 = 6
    · have w := And.left w c7_6
      refine lv_tableIn (tgt := 255) hx hb dX0_year_111 (by rw [c7_6]; decide) (by rw [c7_6]; decide) (by rw [c7_6]; rfl) (by decide) ?_
      refine lv_aload_n hx hb dX0_year_255 rfl (lv_at hl 4 rfl) ?_
      refine lv_aload_n hx hb dX0_year_256 rfl (lv_at hl 4 rfl) ?_
      refine va_get (D := (dC, dI)) (ci := 0) (v := .ref (a1 0)) (C := RX0) (T := TX0) (N := 14) hx hb hts in_X0 hown hK hP 0 rfl rfl 1 (by decide) (hts _ q129) (fun _ h9 => h9) rfl dX0_year_257 ?_
      refine lv_iload hx hb dX0_year_260 (lv_at hl 2 rfl) ?_
      refine lv_bipush (v := 100) hx hb dX0_year_262 (by decide) ?_
      refine lv_iload hx hb dX0_year_264 (lv_at hl 0 rfl) ?_
      refine lv_imul hx hb dX0_year_266 ?_
      have hPc := XW_g1 hP
      have hDc := XW_d1 (hD x y v0 v1 v2 v3)
      refine va_calli (va_runV (As := [.int ((n5 - n5 / (6 : Int64) * (6 : Int64)).toInt32), .int ((100 : Int32) * n6)]) (rest := [.ref (aX 0)]) ⟨hx, hb, hml, hown, hts⟩ (met_X1_forge l dC dI ct a1 _ w) (cwV 2 hts (lw_V q245 q246 q247 q49 q248) rfl rfl rfl hd_X1_forge ⟨Nat.le_of_ble_eq_true rfl, Nat.le_of_ble_eq_true rfl⟩) (pre_V hK hPc hDc hN (va_recv hK hPc (ci := 1) (q0 := 0) rfl rfl)) rfl rfl hl.1 rfl (lv_room (Nat.le_of_ble_eq_true rfl)) dX0_year_267 ⟨Nat.le_refl _, Nat.le_refl _⟩) hS (fun q _ h => x_free hDc hS hA q h) (x_free hDc hS hA) (fun r12 v1_12 t H locs ht hvm w hB hz hk hS => ?_)
      have hP := XW_j1 hP (hD _ _ _ _ _ _) hk (post_P hB ht)
      have hP : va_P (dC, dI) vwCl (XW aX a0 a1 a2 a3 ct x y v0 v1_12 v2 v3) H := hP
      refine va_put (D := (dC, dI)) (ci := 0) (v := .int r12) (ty := .int) (C := RX0) (T := TX0) (N := 14) hx hb hts in_X0 tyX0 tyX0_ok nmX0 hown hK hP (hD _ _ _ _ _ _) hS 0 rfl rfl 5 (by decide) (hts _ q133) (fun _ h9 => h9) rfl (by decide +kernel) rfl rfl (Nat.le_of_ble_eq_true rfl) dX0_year_270 (fun H locs hP _ hS => ?_)
      have hP : va_P (dC, dI) vwCl (XW aX a0 a1 a2 a3 ct (up2 x 5 1 r12) y v0 v1_12 v2 v3) H := XW_s_x_1 hP
      refine lv_goto (tgt := 287) hx hb dX0_year_273 (by decide) ?_
      exact wk_X0_year_L287 X hD hK51 _ _ _ _ _ _ _ _ _ _ w _ _ _ hP hS (lv_sub hl [4, 5, 6, 3, 7] rfl)
    have w := And.right w c7_6
    refine lv_tableOut (tgt := 276) hx hb dX0_year_111 (by have h0 := lv_neT c7_0 (a := 0) (by decide); have h1 := lv_neT c7_1 (a := 1) (by decide); have h2 := lv_neT c7_2 (a := 2) (by decide); have h3 := lv_neT c7_3 (a := 3) (by decide); have h4 := lv_neT c7_4 (a := 4) (by decide); have h5 := lv_neT c7_5 (a := 5) (by decide); have h6 := lv_neT c7_6 (a := 6) (by decide); omega) (by decide) ?_
    refine lv_aload_n hx hb dX0_year_276 rfl (lv_at hl 4 rfl) ?_
    refine lv_aload_n hx hb dX0_year_277 rfl (lv_at hl 4 rfl) ?_
    refine va_get (D := (dC, dI)) (ci := 0) (v := .ref (a1 0)) (C := RX0) (T := TX0) (N := 14) hx hb hts in_X0 hown hK hP 0 rfl rfl 1 (by decide) (hts _ q129) (fun _ h9 => h9) rfl dX0_year_278 ?_
    have hPc := XW_g1 hP
    have hDc := XW_d1 (hD x y v0 v1 v2 v3)
    refine va_calli (va_runV (As := []) (rest := [.ref (aX 0)]) ⟨hx, hb, hml, hown, hts⟩ (met_X1_month l dC dI ct a1 _ w) (cwV 0 hts (lw_V q249 q250 q251 q49 q252) rfl rfl rfl hd_X1_month ⟨Nat.le_of_ble_eq_true rfl, Nat.le_of_ble_eq_true rfl⟩) (pre_V hK hPc hDc hN (va_recv hK hPc (ci := 1) (q0 := 0) rfl rfl)) rfl rfl hl.1 rfl (lv_room (Nat.le_of_ble_eq_true rfl)) dX0_year_281 ⟨Nat.le_refl _, Nat.le_refl _⟩) hS (fun q _ h => x_free hDc hS hA q h) (x_free hDc hS hA) (fun r13 v1_13 t H locs ht hvm w hB hz hk hS => ?_)
    have hP := XW_j1 hP (hD _ _ _ _ _ _) hk (post_P hB ht)
    have hP : va_P (dC, dI) vwCl (XW aX a0 a1 a2 a3 ct x y v0 v1_13 v2 v3) H := hP
    refine va_put (D := (dC, dI)) (ci := 0) (v := .int r13) (ty := .int) (C := RX0) (T := TX0) (N := 14) hx hb hts in_X0 tyX0 tyX0_ok nmX0 hown hK hP (hD _ _ _ _ _ _) hS 0 rfl rfl 5 (by decide) (hts _ q133) (fun _ h9 => h9) rfl (by decide +kernel) rfl rfl (Nat.le_of_ble_eq_true rfl) dX0_year_284 (fun H locs hP _ hS => ?_)
    have hP : va_P (dC, dI) vwCl (XW aX a0 a1 a2 a3 ct (up2 x 5 1 r13) y v0 v1_13 v2 v3) H := XW_s_x_1 hP
    exact wk_X0_year_L287 X hD hK51 _ _ _ _ _ _ _ _ _ _ w _ _ _ hP hS (lv_sub hl [4, 5, 6, 3, 7] rfl)
set_option maxHeartbeats 4000000 in
set_option maxRecDepth 100000 in
theorem wk_X0_year_L51 {p : Program} {l : Launch} {e : Env} {s : State} {m : MethodId} {args : Array Value} {below : List Frame} {meth : Method} {c : Code} {dC : Nat → ClassId} {dI : Nat → Nat → Nat} {ct : Nat → ClassId} {A : Nat → Prop} {aX : Nat → Nat} {a0 : Nat → Nat} {a1 : Nat → Nat} {a2 : Nat → Nat} {a3 : Nat → Nat} {Post : Int32 → V → VL → V → V → V → V → Prop}   (X : CxW p s m args meth c cX0_year 10 (some .int) RX0 dC dI ct A) (hD : ∀ (x : V) (y : VL) (v0 : V) (v1 : V) (v2 : V) (v3 : V), va_D A (XW aX a0 a1 a2 a3 ct x y v0 v1 v2 v3))  : ∀ (n : Nat) (i2 : Int32) (i3 : Int32) (l4 : Int64) (i6 : Int32) (x : V) (y : VL) (v0 : V) (v1 : V) (v2 : V) (v3 : V), wp_X0_year_L51  Post  n i2 i3 l4 i6 x y v0 v1 v2 v3 → ∀ (H : Heap) (locs : List Loc) (ls : Array Slot), va_P (dC, dI) vwCl (XW aX a0 a1 a2 a3 ct x y v0 v1 v2 v3) H → va_S A s.heap H locs → lv_has ls 10 [(0, .ref (aX 0)), (2, .int i2), (3, .int i3), (4, .long l4), (6, .int i6)] → W p l e rm_X0_year s m args below meth c H locs 0 0 (MQ below (va_Qi (fun (r : Int32) (u : V × VL × V × V × V × V) => Post r u.1 u.2.1 u.2.2.1 u.2.2.2.1 u.2.2.2.2.1 u.2.2.2.2.2) (fun (u : V × VL × V × V × V × V) t => WPos dC dI ct (XW aX a0 a1 a2 a3 ct u.1 u.2.1 u.2.2.1 u.2.2.2.1 u.2.2.2.2.1 u.2.2.2.2.2) A t) A) args s 0 0 A) (F0 m 51 ls []) := by
  intro n
  induction n with
  | zero => intro i2 i3 l4 i6 x y v0 v1 v2 v3 w; exact False.elim w
  | succ n ih => intro i2 i3 l4 i6 x y v0 v1 v2 v3 w H locs ls hP hS hl; exact wk_X0_year_S51 X hD  ih i2 i3 l4 i6 x y v0 v1 v2 v3 w H locs ls hP hS hl
set_option maxHeartbeats 4000000 in
set_option maxRecDepth 100000 in
theorem met_X0_year (l : Launch) (dC : Nat → ClassId) (dI : Nat → Nat → Nat) (ct : Nat → ClassId) (aX : Nat → Nat) (a0 : Nat → Nat) (a1 : Nat → Nat) (a2 : Nat → Nat) (a3 : Nat → Nat) (sz : Nat) {i1 : Int32} {i2 : Int32} {i3 : Int32} {x : V} {y : VL} {v0 : V} {v1 : V} {v2 : V} {v3 : V} {Post : Int32 → V → VL → V → V → V → V → Prop} (w : wp_X0_year i1 i2 i3 x y v0 v1 v2 v3 Post) : Met l yX0_year (ws_ yX0_year cX0_year 10 (some .int)) rm_X0_year (va_Pc [.ref (aX 0), .int i1, .int i2, .int i3] (fun U => WPre dC dI ct (XW aX a0 a1 a2 a3 ct x y v0 v1 v2 v3) sz U)) ((fun A => (va_Qi (fun (r : Int32) (u : V × VL × V × V × V × V) => Post r u.1 u.2.1 u.2.2.1 u.2.2.2.1 u.2.2.2.2.1 u.2.2.2.2.2) (fun (u : V × VL × V × V × V × V) t => WPos dC dI ct (XW aX a0 a1 a2 a3 ct u.1 u.2.1 u.2.2.1 u.2.2.2.1 u.2.2.2.2.1 u.2.2.2.2.2) A t) A)) (va_A (XW aX a0 a1 a2 a3 ct x y v0 v1 v2 v3) sz)) 0 0 (va_A (XW aX a0 a1 a2 a3 ct x y v0 v1 v2 v3) sz) := by
  refine open_W (fun A => (va_Qi (fun (r : Int32) (u : V × VL × V × V × V × V) => Post r u.1 u.2.1 u.2.2.1 u.2.2.2.1 u.2.2.2.2.1 u.2.2.2.2.2) (fun (u : V × VL × V × V × V × V) t => WPos dC dI ct (XW aX a0 a1 a2 a3 ct u.1 u.2.1 u.2.2.1 u.2.2.2.1 u.2.2.2.2.1 u.2.2.2.2.2) A t) A)) (by decide) (Nat.le_of_ble_eq_true rfl) ?_
  intro p e s m args below meth c ls A X hD0 hP hS hl
  have X0 := X
  obtain ⟨⟨hx, hb, hml, hr, hlk, hown, hts⟩, hA, hK, hN⟩ := X0
  have hD : ∀ (x' : V) (y' : VL) (v0' : V) (v1' : V) (v2' : V) (v3' : V), va_D A (XW aX a0 a1 a2 a3 ct x' y' v0' v1' v2' v3') := fun x' y' v0' v1' v2' v3' => va_D_addr hD0 rfl
  have hl : lv_has ls 10 [(0, .ref (aX 0)), (1, .int i1), (2, .int i2), (3, .int i3)] := hl
  unfold wp_X0_year at w
  have hS0 := hS
  refine lv_iload_n hx hb dX0_year_0 rfl (lv_at hl 1 rfl) ?_
  refine lv_iconst (v := 0) hx hb dX0_year_1 (by decide) ?_
  refine lv_sipush (v := 9999) hx hb dX0_year_2 (by decide) ?_
  refine vp_callSi (W.runS (As := [.int i1, .int (0 : Int32), .int (9999 : Int32)]) (rest := []) ⟨hx, hb, hml, hown, hts⟩ (met_X0_isIn l w) (va_cwS 3 hts (lw_S q180 q181 q48 q182) rfl rfl rfl hd_X0_isIn ⟨Nat.le_of_ble_eq_true rfl, Nat.le_of_ble_eq_true rfl⟩) pre_S rfl rfl hl.1 rfl (lv_room (Nat.le_of_ble_eq_true rfl)) dX0_year_5 ⟨Nat.le_refl _, Nat.le_refl _⟩) (fun r1 w => ?_)
  refine lv_if_eq (tgt := 30) hx hb dX0_year_8 (by decide) (fun c => ?_) (fun c => ?_)
  · have w := And.left w c
    exact wk_X0_year_L30 X hD  _ _ _ _ _ _ w _ _ _ hP hS (lv_sub hl [] rfl)
  · have w := And.right w c
    refine lv_iload_n hx hb dX0_year_11 rfl (lv_at hl 2 rfl) ?_
    refine lv_iconst (v := 1) hx hb dX0_year_12 (by decide) ?_
    refine lv_bipush (v := 99) hx hb dX0_year_13 (by decide) ?_
    refine vp_callSi (W.runS (As := [.int i2, .int (1 : Int32), .int (99 : Int32)]) (rest := []) ⟨hx, hb, hml, hown, hts⟩ (met_X0_isIn l w) (va_cwS 3 hts (lw_S q180 q181 q48 q182) rfl rfl rfl hd_X0_isIn ⟨Nat.le_of_ble_eq_true rfl, Nat.le_of_ble_eq_true rfl⟩) pre_S rfl rfl hl.1 rfl (lv_room (Nat.le_of_ble_eq_true rfl)) dX0_year_15 ⟨Nat.le_refl _, Nat.le_refl _⟩) (fun r2 w => ?_)
    refine lv_if_eq (tgt := 30) hx hb dX0_year_18 (by decide) (fun c => ?_) (fun c => ?_)
    · have w := And.left w c
      exact wk_X0_year_L30 X hD  _ _ _ _ _ _ w _ _ _ hP hS (lv_sub hl [] rfl)
    · have w := And.right w c
      refine lv_iload_n hx hb dX0_year_21 rfl (lv_at hl 3 rfl) ?_
      refine lv_iconst (v := 0) hx hb dX0_year_22 (by decide) ?_
      refine lv_iconst (v := 2) hx hb dX0_year_23 (by decide) ?_
      refine vp_callSi (W.runS (As := [.int i3, .int (0 : Int32), .int (2 : Int32)]) (rest := []) ⟨hx, hb, hml, hown, hts⟩ (met_X0_isIn l w) (va_cwS 3 hts (lw_S q180 q181 q48 q182) rfl rfl rfl hd_X0_isIn ⟨Nat.le_of_ble_eq_true rfl, Nat.le_of_ble_eq_true rfl⟩) pre_S rfl rfl hl.1 rfl (lv_room (Nat.le_of_ble_eq_true rfl)) dX0_year_24 ⟨Nat.le_refl _, Nat.le_refl _⟩) (fun r3 w => ?_)
      refine lv_if_ne (tgt := 33) hx hb dX0_year_27 (by decide) (fun c => ?_) (fun c => ?_)
      · have w := And.right w c
        refine lv_aload_n hx hb dX0_year_33 rfl (lv_at hl 0 rfl) ?_
        refine va_get (D := (dC, dI)) (ci := 0) (v := .ref (a1 0)) (C := RX0) (T := TX0) (N := 14) hx hb hts in_X0 hown hK hP 0 rfl rfl 1 (by decide) (hts _ q129) (fun _ h9 => h9) rfl dX0_year_34 ?_
        refine lv_aload_n hx hb dX0_year_37 rfl (lv_at hl 0 rfl) ?_
        refine va_get (D := (dC, dI)) (ci := 0) (v := .ref (a0 0)) (C := RX0) (T := TX0) (N := 14) hx hb hts in_X0 hown hK hP 0 rfl rfl 0 (by decide) (hts _ q128) (fun _ h9 => h9) rfl dX0_year_38 ?_
        have hPc := XW_gc10 hP
        have hDc := XW_dc10 (hD x y v0 v1 v2 v3)
        refine va_callv (va_runV (As := [.ref (a0 0)]) (rest := []) ⟨hx, hb, hml, hown, hts⟩ (met_X1_copy l dC dI ct a1 a0 _ w) (cwV 1 hts (lw_V q229 q230 q231 q49 q232) rfl rfl rfl hd_X1_copy ⟨Nat.le_of_ble_eq_true rfl, Nat.le_of_ble_eq_true rfl⟩) (pre_V hK hPc hDc hN (va_recv hK hPc (ci := 1) (q0 := 0) rfl rfl)) rfl rfl hl.1 rfl (lv_room (Nat.le_of_ble_eq_true rfl)) dX0_year_41 ⟨Nat.le_refl _, Nat.le_refl _⟩) hS (fun q _ h => x_free hDc hS hA q h) (x_free hDc hS hA) (fun v1_4 t H locs ht hvm w hB hz hk hS => ?_)
        have hP := XW_jc10 hP (hD _ _ _ _ _ _) hk (post_P hB ht)
        have hP : va_P (dC, dI) vwCl (XW aX a0 a1 a2 a3 ct x y v0 v1_4 v2 v3) H := hP
        refine lv_iload_n hx hb dX0_year_44 rfl (lv_at hl 1 rfl) ?_
        refine lv_i2l hx hb dX0_year_45 rfl ?_
        refine lv_lstore (lv' := [(4, .long i1.toInt64), (0, .ref (aX 0)), (1, .int i1), (2, .int i2), (3, .int i3)]) hx hb dX0_year_46 hl (by decide) rfl (fun ls hl => ?_)
        refine lv_iconst (v := 0) hx hb dX0_year_48 (by decide) ?_
        refine lv_istore (lv' := [(6, .int (0 : Int32)), (4, .long i1.toInt64), (0, .ref (aX 0)), (1, .int i1), (2, .int i2), (3, .int i3)]) hx hb dX0_year_49 hl (by decide) rfl (fun ls hl => ?_)
        obtain ⟨n, w⟩ := w
        exact wk_X0_year_L51 X hD  n _ _ _ _ _ _ _ _ _ _ w _ _ _ hP hS (lv_sub hl [2, 4, 5, 1, 0] rfl)
      · have w := And.left w c
        exact wk_X0_year_L30 X hD  _ _ _ _ _ _ w _ _ _ hP hS (lv_sub hl [] rfl)
abbrev rm_X0_image : Room := { frames := 2, cells := 0, slots := 0, locals := 142 }
theorem hd_X0_image : yX0_image.cls = RX0 ∧ yX0_image.cls ≠ "java/lang/invoke/MethodHandle" ∧ yX0_image.cls ≠ "java/lang/invoke/VarHandle" ∧ (parseMethodDescriptor yX0_image.desc).map (fun d => d.parameters.length) = some 1 := by decide +kernel
set_option maxHeartbeats 4000000 in
set_option maxRecDepth 100000 in
theorem met_X0_image (l : Launch) (dC : Nat → ClassId) (dI : Nat → Nat → Nat) (ct : Nat → ClassId) (aX : Nat → Nat) (a0 : Nat → Nat) (a1 : Nat → Nat) (a2 : Nat → Nat) (a3 : Nat → Nat) (sz : Nat) {i1 : Int32} {x : V} {y : VL} {v0 : V} {v1 : V} {v2 : V} {v3 : V} {Post : Int32 → V → VL → V → V → V → V → Prop} (w : wp_X0_image i1 x y v0 v1 v2 v3 Post) : Met l yX0_image (ws_ yX0_image cX0_image 2 (some .int)) rm_X0_image (va_Pc [.ref (aX 0), .int i1] (fun U => WPre dC dI ct (XW aX a0 a1 a2 a3 ct x y v0 v1 v2 v3) sz U)) ((fun A => (va_Qi (fun (r : Int32) (u : V × VL × V × V × V × V) => Post r u.1 u.2.1 u.2.2.1 u.2.2.2.1 u.2.2.2.2.1 u.2.2.2.2.2) (fun (u : V × VL × V × V × V × V) t => WPos dC dI ct (XW aX a0 a1 a2 a3 ct u.1 u.2.1 u.2.2.1 u.2.2.2.1 u.2.2.2.2.1 u.2.2.2.2.2) A t) A)) (va_A (XW aX a0 a1 a2 a3 ct x y v0 v1 v2 v3) sz)) 0 0 (va_A (XW aX a0 a1 a2 a3 ct x y v0 v1 v2 v3) sz) := by
  refine open_W (fun A => (va_Qi (fun (r : Int32) (u : V × VL × V × V × V × V) => Post r u.1 u.2.1 u.2.2.1 u.2.2.2.1 u.2.2.2.2.1 u.2.2.2.2.2) (fun (u : V × VL × V × V × V × V) t => WPos dC dI ct (XW aX a0 a1 a2 a3 ct u.1 u.2.1 u.2.2.1 u.2.2.2.1 u.2.2.2.2.1 u.2.2.2.2.2) A t) A)) (by decide) (Nat.le_of_ble_eq_true rfl) ?_
  intro p e s m args below meth c ls A X hD0 hP hS hl
  have X0 := X
  obtain ⟨⟨hx, hb, hml, hr, hlk, hown, hts⟩, hA, hK, hN⟩ := X0
  have hD : ∀ (x' : V) (y' : VL) (v0' : V) (v1' : V) (v2' : V) (v3' : V), va_D A (XW aX a0 a1 a2 a3 ct x' y' v0' v1' v2' v3') := fun x' y' v0' v1' v2' v3' => va_D_addr hD0 rfl
  have hl : lv_has ls 2 [(0, .ref (aX 0)), (1, .int i1)] := hl
  unfold wp_X0_image at w
  have hS0 := hS
  refine lv_iload_n hx hb dX0_image_0 rfl (lv_at hl 1 rfl) ?_
  refine lv_iconst (v := 0) hx hb dX0_image_1 (by decide) ?_
  refine lv_iconst (v := 1) hx hb dX0_image_2 (by decide) ?_
  refine vp_callSi (W.runS (As := [.int i1, .int (0 : Int32), .int (1 : Int32)]) (rest := []) ⟨hx, hb, hml, hown, hts⟩ (met_X0_isIn l w) (va_cwS 3 hts (lw_S q180 q181 q48 q182) rfl rfl rfl hd_X0_isIn ⟨Nat.le_of_ble_eq_true rfl, Nat.le_of_ble_eq_true rfl⟩) pre_S rfl rfl hl.1 rfl (lv_room (Nat.le_of_ble_eq_true rfl)) dX0_image_3 ⟨Nat.le_refl _, Nat.le_refl _⟩) (fun r1 w => ?_)
  refine lv_if_ne (tgt := 12) hx hb dX0_image_6 (by decide) (fun c => ?_) (fun c => ?_)
  · have w := And.right w c
    refine lv_aload_n hx hb dX0_image_12 rfl (lv_at hl 0 rfl) ?_
    refine va_get (D := (dC, dI)) (ci := 0) (v := .ref (aX 1)) (C := RX0) (T := TX0) (N := 14) hx hb hts in_X0 hown hK hP 0 rfl rfl 2 (by decide) (hts _ q130) (fun _ h9 => h9) rfl dX0_image_13 ?_
    refine lv_iload_n hx hb dX0_image_16 rfl (lv_at hl 1 rfl) ?_
    by_cases c2 : i1 = 0
    · have w := And.left w c2
      refine x_aald (v := .ref (a2 0)) hx hb hK hP 1 4 rfl rfl rfl (by rw [c2]; exact x_vin (by decide)) (by rw [c2] <;> rfl) dX0_image_17 ?_
      refine lv_aload_n hx hb dX0_image_18 rfl (lv_at hl 0 rfl) ?_
      refine va_get (D := (dC, dI)) (ci := 0) (v := .ref (a0 0)) (C := RX0) (T := TX0) (N := 14) hx hb hts in_X0 hown hK hP 0 rfl rfl 0 (by decide) (hts _ q128) (fun _ h9 => h9) rfl dX0_image_19 ?_
      have hPc := XW_gc20 hP
      have hDc := XW_dc20 (hD x y v0 v1 v2 v3)
      refine va_callv (va_runV (As := [.ref (a0 0)]) (rest := []) ⟨hx, hb, hml, hown, hts⟩ (met_X1_copy l dC dI ct a2 a0 _ w) (cwV 1 hts (lw_V q229 q230 q231 q49 q232) rfl rfl rfl hd_X1_copy ⟨Nat.le_of_ble_eq_true rfl, Nat.le_of_ble_eq_true rfl⟩) (pre_V hK hPc hDc hN (va_recv hK hPc (ci := 1) (q0 := 0) rfl rfl)) rfl rfl hl.1 rfl (lv_room (Nat.le_of_ble_eq_true rfl)) dX0_image_22 ⟨Nat.le_refl _, Nat.le_refl _⟩) hS (fun q _ h => x_free hDc hS hA q h) (x_free hDc hS hA) (fun v2_3 t H locs ht hvm w hB hz hk hS => ?_)
      have hP := XW_jc20 hP (hD _ _ _ _ _ _) hk (post_P hB ht)
      have hP : va_P (dC, dI) vwCl (XW aX a0 a1 a2 a3 ct x y v0 v1 v2_3 v3) H := hP
      refine lv_aload_n hx hb dX0_image_25 rfl (lv_at hl 0 rfl) ?_
      refine va_get (D := (dC, dI)) (ci := 0) (v := .ref (aX 1)) (C := RX0) (T := TX0) (N := 14) hx hb hts in_X0 hown hK hP 0 rfl rfl 2 (by decide) (hts _ q130) (fun _ h9 => h9) rfl dX0_image_26 ?_
      refine lv_iload_n hx hb dX0_image_29 rfl (lv_at hl 1 rfl) ?_
      by_cases c4 : i1 = 0
      · have w := And.left w c4
        refine x_aald (v := .ref (a2 0)) hx hb hK hP 1 4 rfl rfl rfl (by rw [c4]; exact x_vin (by decide)) (by rw [c4] <;> rfl) dX0_image_30 ?_
        refine lv_iconst (v := 1) hx hb dX0_image_31 (by decide) ?_
        refine va_putN (D := (dC, dI)) (ci := 1) (v := .int (1 : Int32)) (ty := .boolean) (C := RX1) (T := TX1) (N := 13) hx hb hts in_X1 tyX1 tyX1_ok nmX1 hown hK hP (hD _ _ _ _ _ _) hS 41 rfl rfl 12 (by decide) (va_Nw.use rfl hN.2.2.2.2.2.2.2.2.2.2.2.2.1) (fun _ h9 => h9) rfl (by decide +kernel) (by decide) (by decide) (Nat.le_of_ble_eq_true rfl) dX0_image_32 (fun H locs hP _ hS => ?_)
        have hP : va_P (dC, dI) vwCl (XW aX a0 a1 a2 a3 ct x y v0 v1 (up2 v2_3 14 3 (1 : Int32)) v3) H := XW_s_v2_3 hP
        refine lv_iconst (v := 1) hx hb dX0_image_35 (by decide) ?_
        exact W.iret (v := (1 : Int32)) hx hb hr (fun t ht hW => ⟨⟨(1 : Int32), (x, y, v0, v1, (up2 v2_3 14 3 (1 : Int32)), v3), rfl, w, by rw [ht]; exact hP, va_K.moved hW.alike hK, (hD _ _ _ _ _ _)⟩, hS.F ht⟩) hS.2.2 dX0_image_36 hlk
      obtain ⟨c4b, w⟩ := And.right w c4
      refine x_aald (v := .ref (a3 0)) hx hb hK hP 1 4 rfl rfl rfl (by rw [c4b]; exact x_vin (by decide)) (by rw [c4b] <;> rfl) dX0_image_30 ?_
      refine lv_iconst (v := 1) hx hb dX0_image_31 (by decide) ?_
      refine va_putN (D := (dC, dI)) (ci := 1) (v := .int (1 : Int32)) (ty := .boolean) (C := RX1) (T := TX1) (N := 13) hx hb hts in_X1 tyX1 tyX1_ok nmX1 hown hK hP (hD _ _ _ _ _ _) hS 57 rfl rfl 12 (by decide) (va_Nw.use rfl hN.2.2.2.2.2.2.2.2.2.2.2.2.1) (fun _ h9 => h9) rfl (by decide +kernel) (by decide) (by decide) (Nat.le_of_ble_eq_true rfl) dX0_image_32 (fun H locs hP _ hS => ?_)
      have hP : va_P (dC, dI) vwCl (XW aX a0 a1 a2 a3 ct x y v0 v1 v2_3 (up2 v3 14 3 (1 : Int32))) H := XW_s_v3_3 hP
      refine lv_iconst (v := 1) hx hb dX0_image_35 (by decide) ?_
      exact W.iret (v := (1 : Int32)) hx hb hr (fun t ht hW => ⟨⟨(1 : Int32), (x, y, v0, v1, v2_3, (up2 v3 14 3 (1 : Int32))), rfl, w, by rw [ht]; exact hP, va_K.moved hW.alike hK, (hD _ _ _ _ _ _)⟩, hS.F ht⟩) hS.2.2 dX0_image_36 hlk
    obtain ⟨c2b, w⟩ := And.right w c2
    refine x_aald (v := .ref (a3 0)) hx hb hK hP 1 4 rfl rfl rfl (by rw [c2b]; exact x_vin (by decide)) (by rw [c2b] <;> rfl) dX0_image_17 ?_
    refine lv_aload_n hx hb dX0_image_18 rfl (lv_at hl 0 rfl) ?_
    refine va_get (D := (dC, dI)) (ci := 0) (v := .ref (a0 0)) (C := RX0) (T := TX0) (N := 14) hx hb hts in_X0 hown hK hP 0 rfl rfl 0 (by decide) (hts _ q128) (fun _ h9 => h9) rfl dX0_image_19 ?_
    have hPc := XW_gc30 hP
    have hDc := XW_dc30 (hD x y v0 v1 v2 v3)
    refine va_callv (va_runV (As := [.ref (a0 0)]) (rest := []) ⟨hx, hb, hml, hown, hts⟩ (met_X1_copy l dC dI ct a3 a0 _ w) (cwV 1 hts (lw_V q229 q230 q231 q49 q232) rfl rfl rfl hd_X1_copy ⟨Nat.le_of_ble_eq_true rfl, Nat.le_of_ble_eq_true rfl⟩) (pre_V hK hPc hDc hN (va_recv hK hPc (ci := 1) (q0 := 0) rfl rfl)) rfl rfl hl.1 rfl (lv_room (Nat.le_of_ble_eq_true rfl)) dX0_image_22 ⟨Nat.le_refl _, Nat.le_refl _⟩) hS (fun q _ h => x_free hDc hS hA q h) (x_free hDc hS hA) (fun v3_5 t H locs ht hvm w hB hz hk hS => ?_)
    have hP := XW_jc30 hP (hD _ _ _ _ _ _) hk (post_P hB ht)
    have hP : va_P (dC, dI) vwCl (XW aX a0 a1 a2 a3 ct x y v0 v1 v2 v3_5) H := hP
    refine lv_aload_n hx hb dX0_image_25 rfl (lv_at hl 0 rfl) ?_
    refine va_get (D := (dC, dI)) (ci := 0) (v := .ref (aX 1)) (C := RX0) (T := TX0) (N := 14) hx hb hts in_X0 hown hK hP 0 rfl rfl 2 (by decide) (hts _ q130) (fun _ h9 => h9) rfl dX0_image_26 ?_
    refine lv_iload_n hx hb dX0_image_29 rfl (lv_at hl 1 rfl) ?_
    by_cases c6 : i1 = 0
    · have w := And.left w c6
      refine x_aald (v := .ref (a2 0)) hx hb hK hP 1 4 rfl rfl rfl (by rw [c6]; exact x_vin (by decide)) (by rw [c6] <;> rfl) dX0_image_30 ?_
      refine lv_iconst (v := 1) hx hb dX0_image_31 (by decide) ?_
      refine va_putN (D := (dC, dI)) (ci := 1) (v := .int (1 : Int32)) (ty := .boolean) (C := RX1) (T := TX1) (N := 13) hx hb hts in_X1 tyX1 tyX1_ok nmX1 hown hK hP (hD _ _ _ _ _ _) hS 41 rfl rfl 12 (by decide) (va_Nw.use rfl hN.2.2.2.2.2.2.2.2.2.2.2.2.1) (fun _ h9 => h9) rfl (by decide +kernel) (by decide) (by decide) (Nat.le_of_ble_eq_true rfl) dX0_image_32 (fun H locs hP _ hS => ?_)
      have hP : va_P (dC, dI) vwCl (XW aX a0 a1 a2 a3 ct x y v0 v1 (up2 v2 14 3 (1 : Int32)) v3_5) H := XW_s_v2_3 hP
      refine lv_iconst (v := 1) hx hb dX0_image_35 (by decide) ?_
      exact W.iret (v := (1 : Int32)) hx hb hr (fun t ht hW => ⟨⟨(1 : Int32), (x, y, v0, v1, (up2 v2 14 3 (1 : Int32)), v3_5), rfl, w, by rw [ht]; exact hP, va_K.moved hW.alike hK, (hD _ _ _ _ _ _)⟩, hS.F ht⟩) hS.2.2 dX0_image_36 hlk
    obtain ⟨c6b, w⟩ := And.right w c6
    refine x_aald (v := .ref (a3 0)) hx hb hK hP 1 4 rfl rfl rfl (by rw [c6b]; exact x_vin (by decide)) (by rw [c6b] <;> rfl) dX0_image_30 ?_
    refine lv_iconst (v := 1) hx hb dX0_image_31 (by decide) ?_
    refine va_putN (D := (dC, dI)) (ci := 1) (v := .int (1 : Int32)) (ty := .boolean) (C := RX1) (T := TX1) (N := 13) hx hb hts in_X1 tyX1 tyX1_ok nmX1 hown hK hP (hD _ _ _ _ _ _) hS 57 rfl rfl 12 (by decide) (va_Nw.use rfl hN.2.2.2.2.2.2.2.2.2.2.2.2.1) (fun _ h9 => h9) rfl (by decide +kernel) (by decide) (by decide) (Nat.le_of_ble_eq_true rfl) dX0_image_32 (fun H locs hP _ hS => ?_)
    have hP : va_P (dC, dI) vwCl (XW aX a0 a1 a2 a3 ct x y v0 v1 v2 (up2 v3_5 14 3 (1 : Int32))) H := XW_s_v3_3 hP
    refine lv_iconst (v := 1) hx hb dX0_image_35 (by decide) ?_
    exact W.iret (v := (1 : Int32)) hx hb hr (fun t ht hW => ⟨⟨(1 : Int32), (x, y, v0, v1, v2, (up2 v3_5 14 3 (1 : Int32))), rfl, w, by rw [ht]; exact hP, va_K.moved hW.alike hK, (hD _ _ _ _ _ _)⟩, hS.F ht⟩) hS.2.2 dX0_image_36 hlk
  · have w := And.left w c
    refine lv_bipush (v := -2) hx hb dX0_image_9 (by decide) ?_
    exact W.iret (v := (-2 : Int32)) hx hb hr (fun t ht hW => ⟨⟨(-2 : Int32), (x, y, v0, v1, v2, v3), rfl, w, by rw [ht]; exact hP, va_K.moved hW.alike hK, (hD _ _ _ _ _ _)⟩, hS.F ht⟩) hS.2.2 dX0_image_11 hlk
abbrev rm_X0_restore : Room := { frames := 2, cells := 0, slots := 0, locals := 142 }
theorem hd_X0_restore : yX0_restore.cls = RX0 ∧ yX0_restore.cls ≠ "java/lang/invoke/MethodHandle" ∧ yX0_restore.cls ≠ "java/lang/invoke/VarHandle" ∧ (parseMethodDescriptor yX0_restore.desc).map (fun d => d.parameters.length) = some 1 := by decide +kernel
set_option maxHeartbeats 4000000 in
set_option maxRecDepth 100000 in
theorem met_X0_restore (l : Launch) (dC : Nat → ClassId) (dI : Nat → Nat → Nat) (ct : Nat → ClassId) (aX : Nat → Nat) (a0 : Nat → Nat) (a1 : Nat → Nat) (a2 : Nat → Nat) (a3 : Nat → Nat) (sz : Nat) {i1 : Int32} {x : V} {y : VL} {v0 : V} {v1 : V} {v2 : V} {v3 : V} {Post : Int32 → V → VL → V → V → V → V → Prop} (w : wp_X0_restore i1 x y v0 v1 v2 v3 Post) : Met l yX0_restore (ws_ yX0_restore cX0_restore 2 (some .int)) rm_X0_restore (va_Pc [.ref (aX 0), .int i1] (fun U => WPre dC dI ct (XW aX a0 a1 a2 a3 ct x y v0 v1 v2 v3) sz U)) ((fun A => (va_Qi (fun (r : Int32) (u : V × VL × V × V × V × V) => Post r u.1 u.2.1 u.2.2.1 u.2.2.2.1 u.2.2.2.2.1 u.2.2.2.2.2) (fun (u : V × VL × V × V × V × V) t => WPos dC dI ct (XW aX a0 a1 a2 a3 ct u.1 u.2.1 u.2.2.1 u.2.2.2.1 u.2.2.2.2.1 u.2.2.2.2.2) A t) A)) (va_A (XW aX a0 a1 a2 a3 ct x y v0 v1 v2 v3) sz)) 0 0 (va_A (XW aX a0 a1 a2 a3 ct x y v0 v1 v2 v3) sz) := by
  refine open_W (fun A => (va_Qi (fun (r : Int32) (u : V × VL × V × V × V × V) => Post r u.1 u.2.1 u.2.2.1 u.2.2.2.1 u.2.2.2.2.1 u.2.2.2.2.2) (fun (u : V × VL × V × V × V × V) t => WPos dC dI ct (XW aX a0 a1 a2 a3 ct u.1 u.2.1 u.2.2.1 u.2.2.2.1 u.2.2.2.2.1 u.2.2.2.2.2) A t) A)) (by decide) (Nat.le_of_ble_eq_true rfl) ?_
  intro p e s m args below meth c ls A X hD0 hP hS hl
  have X0 := X
  obtain ⟨⟨hx, hb, hml, hr, hlk, hown, hts⟩, hA, hK, hN⟩ := X0
  have hD : ∀ (x' : V) (y' : VL) (v0' : V) (v1' : V) (v2' : V) (v3' : V), va_D A (XW aX a0 a1 a2 a3 ct x' y' v0' v1' v2' v3') := fun x' y' v0' v1' v2' v3' => va_D_addr hD0 rfl
  have hl : lv_has ls 2 [(0, .ref (aX 0)), (1, .int i1)] := hl
  unfold wp_X0_restore at w
  have hS0 := hS
  refine lv_iload_n hx hb dX0_restore_0 rfl (lv_at hl 1 rfl) ?_
  refine lv_iconst (v := 0) hx hb dX0_restore_1 (by decide) ?_
  refine lv_iconst (v := 1) hx hb dX0_restore_2 (by decide) ?_
  refine vp_callSi (W.runS (As := [.int i1, .int (0 : Int32), .int (1 : Int32)]) (rest := []) ⟨hx, hb, hml, hown, hts⟩ (met_X0_isIn l w) (va_cwS 3 hts (lw_S q180 q181 q48 q182) rfl rfl rfl hd_X0_isIn ⟨Nat.le_of_ble_eq_true rfl, Nat.le_of_ble_eq_true rfl⟩) pre_S rfl rfl hl.1 rfl (lv_room (Nat.le_of_ble_eq_true rfl)) dX0_restore_3 ⟨Nat.le_refl _, Nat.le_refl _⟩) (fun r1 w => ?_)
  refine lv_if_ne (tgt := 12) hx hb dX0_restore_6 (by decide) (fun c => ?_) (fun c => ?_)
  · have w := And.right w c
    refine lv_aload_n hx hb dX0_restore_12 rfl (lv_at hl 0 rfl) ?_
    refine va_get (D := (dC, dI)) (ci := 0) (v := .ref (aX 1)) (C := RX0) (T := TX0) (N := 14) hx hb hts in_X0 hown hK hP 0 rfl rfl 2 (by decide) (hts _ q130) (fun _ h9 => h9) rfl dX0_restore_13 ?_
    refine lv_iload_n hx hb dX0_restore_16 rfl (lv_at hl 1 rfl) ?_
    by_cases c2 : i1 = 0
    · have w := And.left w c2
      refine x_aald (v := .ref (a2 0)) hx hb hK hP 1 4 rfl rfl rfl (by rw [c2]; exact x_vin (by decide)) (by rw [c2] <;> rfl) dX0_restore_17 ?_
      refine va_getN (D := (dC, dI)) (ci := 1) (v := .int (v2 14 3)) (C := RX1) (T := TX1) (N := 13) hx hb hts in_X1 hown hK hP 41 rfl rfl 12 (by decide) (va_Nw.use rfl hN.2.2.2.2.2.2.2.2.2.2.2.2.1) (fun _ h9 => h9) rfl dX0_restore_18 ?_
      refine lv_if_ne (tgt := 27) hx hb dX0_restore_21 (by decide) (fun c => ?_) (fun c => ?_)
      · have w := And.right w c
        refine lv_aload_n hx hb dX0_restore_27 rfl (lv_at hl 0 rfl) ?_
        refine va_get (D := (dC, dI)) (ci := 0) (v := .ref (a0 0)) (C := RX0) (T := TX0) (N := 14) hx hb hts in_X0 hown hK hP 0 rfl rfl 0 (by decide) (hts _ q128) (fun _ h9 => h9) rfl dX0_restore_28 ?_
        refine lv_aload_n hx hb dX0_restore_31 rfl (lv_at hl 0 rfl) ?_
        refine va_get (D := (dC, dI)) (ci := 0) (v := .ref (aX 1)) (C := RX0) (T := TX0) (N := 14) hx hb hts in_X0 hown hK hP 0 rfl rfl 2 (by decide) (hts _ q130) (fun _ h9 => h9) rfl dX0_restore_32 ?_
        refine lv_iload_n hx hb dX0_restore_35 rfl (lv_at hl 1 rfl) ?_
        by_cases c3 : i1 = 0
        · have w := And.left w c3
          refine x_aald (v := .ref (a2 0)) hx hb hK hP 1 4 rfl rfl rfl (by rw [c3]; exact x_vin (by decide)) (by rw [c3] <;> rfl) dX0_restore_36 ?_
          have hPc := XW_gc02 hP
          have hDc := XW_dc02 (hD x y v0 v1 v2 v3)
          refine va_callv (va_runV (As := [.ref (a2 0)]) (rest := []) ⟨hx, hb, hml, hown, hts⟩ (met_X1_copy l dC dI ct a0 a2 _ w) (cwV 1 hts (lw_V q229 q230 q231 q49 q232) rfl rfl rfl hd_X1_copy ⟨Nat.le_of_ble_eq_true rfl, Nat.le_of_ble_eq_true rfl⟩) (pre_V hK hPc hDc hN (va_recv hK hPc (ci := 1) (q0 := 0) rfl rfl)) rfl rfl hl.1 rfl (lv_room (Nat.le_of_ble_eq_true rfl)) dX0_restore_37 ⟨Nat.le_refl _, Nat.le_refl _⟩) hS (fun q _ h => x_free hDc hS hA q h) (x_free hDc hS hA) (fun v0_4 t H locs ht hvm w hB hz hk hS => ?_)
          have hP := XW_jc02 hP (hD _ _ _ _ _ _) hk (post_P hB ht)
          have hP : va_P (dC, dI) vwCl (XW aX a0 a1 a2 a3 ct x y v0_4 v1 v2 v3) H := hP
          refine lv_iconst (v := 1) hx hb dX0_restore_40 (by decide) ?_
          exact W.iret (v := (1 : Int32)) hx hb hr (fun t ht hW => ⟨⟨(1 : Int32), (x, y, v0_4, v1, v2, v3), rfl, w, by rw [ht]; exact hP, va_K.moved hW.alike hK, (hD _ _ _ _ _ _)⟩, hS.F ht⟩) hS.2.2 dX0_restore_41 hlk
        obtain ⟨c3b, w⟩ := And.right w c3
        refine x_aald (v := .ref (a3 0)) hx hb hK hP 1 4 rfl rfl rfl (by rw [c3b]; exact x_vin (by decide)) (by rw [c3b] <;> rfl) dX0_restore_36 ?_
        have hPc := XW_gc03 hP
        have hDc := XW_dc03 (hD x y v0 v1 v2 v3)
        refine va_callv (va_runV (As := [.ref (a3 0)]) (rest := []) ⟨hx, hb, hml, hown, hts⟩ (met_X1_copy l dC dI ct a0 a3 _ w) (cwV 1 hts (lw_V q229 q230 q231 q49 q232) rfl rfl rfl hd_X1_copy ⟨Nat.le_of_ble_eq_true rfl, Nat.le_of_ble_eq_true rfl⟩) (pre_V hK hPc hDc hN (va_recv hK hPc (ci := 1) (q0 := 0) rfl rfl)) rfl rfl hl.1 rfl (lv_room (Nat.le_of_ble_eq_true rfl)) dX0_restore_37 ⟨Nat.le_refl _, Nat.le_refl _⟩) hS (fun q _ h => x_free hDc hS hA q h) (x_free hDc hS hA) (fun v0_5 t H locs ht hvm w hB hz hk hS => ?_)
        have hP := XW_jc03 hP (hD _ _ _ _ _ _) hk (post_P hB ht)
        have hP : va_P (dC, dI) vwCl (XW aX a0 a1 a2 a3 ct x y v0_5 v1 v2 v3) H := hP
        refine lv_iconst (v := 1) hx hb dX0_restore_40 (by decide) ?_
        exact W.iret (v := (1 : Int32)) hx hb hr (fun t ht hW => ⟨⟨(1 : Int32), (x, y, v0_5, v1, v2, v3), rfl, w, by rw [ht]; exact hP, va_K.moved hW.alike hK, (hD _ _ _ _ _ _)⟩, hS.F ht⟩) hS.2.2 dX0_restore_41 hlk
      · have w := And.left w c
        refine lv_bipush (v := -3) hx hb dX0_restore_24 (by decide) ?_
        exact W.iret (v := (-3 : Int32)) hx hb hr (fun t ht hW => ⟨⟨(-3 : Int32), (x, y, v0, v1, v2, v3), rfl, w, by rw [ht]; exact hP, va_K.moved hW.alike hK, (hD _ _ _ _ _ _)⟩, hS.F ht⟩) hS.2.2 dX0_restore_26 hlk
    obtain ⟨c2b, w⟩ := And.right w c2
    refine x_aald (v := .ref (a3 0)) hx hb hK hP 1 4 rfl rfl rfl (by rw [c2b]; exact x_vin (by decide)) (by rw [c2b] <;> rfl) dX0_restore_17 ?_
    refine va_getN (D := (dC, dI)) (ci := 1) (v := .int (v3 14 3)) (C := RX1) (T := TX1) (N := 13) hx hb hts in_X1 hown hK hP 57 rfl rfl 12 (by decide) (va_Nw.use rfl hN.2.2.2.2.2.2.2.2.2.2.2.2.1) (fun _ h9 => h9) rfl dX0_restore_18 ?_
    refine lv_if_ne (tgt := 27) hx hb dX0_restore_21 (by decide) (fun c => ?_) (fun c => ?_)
    · have w := And.right w c
      refine lv_aload_n hx hb dX0_restore_27 rfl (lv_at hl 0 rfl) ?_
      refine va_get (D := (dC, dI)) (ci := 0) (v := .ref (a0 0)) (C := RX0) (T := TX0) (N := 14) hx hb hts in_X0 hown hK hP 0 rfl rfl 0 (by decide) (hts _ q128) (fun _ h9 => h9) rfl dX0_restore_28 ?_
      refine lv_aload_n hx hb dX0_restore_31 rfl (lv_at hl 0 rfl) ?_
      refine va_get (D := (dC, dI)) (ci := 0) (v := .ref (aX 1)) (C := RX0) (T := TX0) (N := 14) hx hb hts in_X0 hown hK hP 0 rfl rfl 2 (by decide) (hts _ q130) (fun _ h9 => h9) rfl dX0_restore_32 ?_
      refine lv_iload_n hx hb dX0_restore_35 rfl (lv_at hl 1 rfl) ?_
      by_cases c6 : i1 = 0
      · have w := And.left w c6
        refine x_aald (v := .ref (a2 0)) hx hb hK hP 1 4 rfl rfl rfl (by rw [c6]; exact x_vin (by decide)) (by rw [c6] <;> rfl) dX0_restore_36 ?_
        have hPc := XW_gc02 hP
        have hDc := XW_dc02 (hD x y v0 v1 v2 v3)
        refine va_callv (va_runV (As := [.ref (a2 0)]) (rest := []) ⟨hx, hb, hml, hown, hts⟩ (met_X1_copy l dC dI ct a0 a2 _ w) (cwV 1 hts (lw_V q229 q230 q231 q49 q232) rfl rfl rfl hd_X1_copy ⟨Nat.le_of_ble_eq_true rfl, Nat.le_of_ble_eq_true rfl⟩) (pre_V hK hPc hDc hN (va_recv hK hPc (ci := 1) (q0 := 0) rfl rfl)) rfl rfl hl.1 rfl (lv_room (Nat.le_of_ble_eq_true rfl)) dX0_restore_37 ⟨Nat.le_refl _, Nat.le_refl _⟩) hS (fun q _ h => x_free hDc hS hA q h) (x_free hDc hS hA) (fun v0_7 t H locs ht hvm w hB hz hk hS => ?_)
        have hP := XW_jc02 hP (hD _ _ _ _ _ _) hk (post_P hB ht)
        have hP : va_P (dC, dI) vwCl (XW aX a0 a1 a2 a3 ct x y v0_7 v1 v2 v3) H := hP
        refine lv_iconst (v := 1) hx hb dX0_restore_40 (by decide) ?_
        exact W.iret (v := (1 : Int32)) hx hb hr (fun t ht hW => ⟨⟨(1 : Int32), (x, y, v0_7, v1, v2, v3), rfl, w, by rw [ht]; exact hP, va_K.moved hW.alike hK, (hD _ _ _ _ _ _)⟩, hS.F ht⟩) hS.2.2 dX0_restore_41 hlk
      obtain ⟨c6b, w⟩ := And.right w c6
      refine x_aald (v := .ref (a3 0)) hx hb hK hP 1 4 rfl rfl rfl (by rw [c6b]; exact x_vin (by decide)) (by rw [c6b] <;> rfl) dX0_restore_36 ?_
      have hPc := XW_gc03 hP
      have hDc := XW_dc03 (hD x y v0 v1 v2 v3)
      refine va_callv (va_runV (As := [.ref (a3 0)]) (rest := []) ⟨hx, hb, hml, hown, hts⟩ (met_X1_copy l dC dI ct a0 a3 _ w) (cwV 1 hts (lw_V q229 q230 q231 q49 q232) rfl rfl rfl hd_X1_copy ⟨Nat.le_of_ble_eq_true rfl, Nat.le_of_ble_eq_true rfl⟩) (pre_V hK hPc hDc hN (va_recv hK hPc (ci := 1) (q0 := 0) rfl rfl)) rfl rfl hl.1 rfl (lv_room (Nat.le_of_ble_eq_true rfl)) dX0_restore_37 ⟨Nat.le_refl _, Nat.le_refl _⟩) hS (fun q _ h => x_free hDc hS hA q h) (x_free hDc hS hA) (fun v0_8 t H locs ht hvm w hB hz hk hS => ?_)
      have hP := XW_jc03 hP (hD _ _ _ _ _ _) hk (post_P hB ht)
      have hP : va_P (dC, dI) vwCl (XW aX a0 a1 a2 a3 ct x y v0_8 v1 v2 v3) H := hP
      refine lv_iconst (v := 1) hx hb dX0_restore_40 (by decide) ?_
      exact W.iret (v := (1 : Int32)) hx hb hr (fun t ht hW => ⟨⟨(1 : Int32), (x, y, v0_8, v1, v2, v3), rfl, w, by rw [ht]; exact hP, va_K.moved hW.alike hK, (hD _ _ _ _ _ _)⟩, hS.F ht⟩) hS.2.2 dX0_restore_41 hlk
    · have w := And.left w c
      refine lv_bipush (v := -3) hx hb dX0_restore_24 (by decide) ?_
      exact W.iret (v := (-3 : Int32)) hx hb hr (fun t ht hW => ⟨⟨(-3 : Int32), (x, y, v0, v1, v2, v3), rfl, w, by rw [ht]; exact hP, va_K.moved hW.alike hK, (hD _ _ _ _ _ _)⟩, hS.F ht⟩) hS.2.2 dX0_restore_26 hlk
  · have w := And.left w c
    refine lv_bipush (v := -2) hx hb dX0_restore_9 (by decide) ?_
    exact W.iret (v := (-2 : Int32)) hx hb hr (fun t ht hW => ⟨⟨(-2 : Int32), (x, y, v0, v1, v2, v3), rfl, w, by rw [ht]; exact hP, va_K.moved hW.alike hK, (hD _ _ _ _ _ _)⟩, hS.F ht⟩) hS.2.2 dX0_restore_11 hlk
abbrev rm_X0_toldTwo : Room := { frames := 2, cells := 0, slots := 0, locals := 42 }
theorem hd_X0_toldTwo : yX0_toldTwo.cls = RX0 ∧ yX0_toldTwo.cls ≠ "java/lang/invoke/MethodHandle" ∧ yX0_toldTwo.cls ≠ "java/lang/invoke/VarHandle" ∧ (parseMethodDescriptor yX0_toldTwo.desc).map (fun d => d.parameters.length) = some 1 := by decide +kernel
set_option maxHeartbeats 4000000 in
set_option maxRecDepth 100000 in
theorem wk_X0_toldTwo_L40 {p : Program} {l : Launch} {e : Env} {s : State} {m : MethodId} {args : Array Value} {below : List Frame} {meth : Method} {c : Code} {dC : Nat → ClassId} {dI : Nat → Nat → Nat} {ct : Nat → ClassId} {A : Nat → Prop} {aX : Nat → Nat} {a0 : Nat → Nat} {a1 : Nat → Nat} {a2 : Nat → Nat} {a3 : Nat → Nat} {Post : Int32 → V → VL → V → V → V → V → Prop}   (X : CxW p s m args meth c cX0_toldTwo 4 (some .int) RX0 dC dI ct A) (hD : ∀ (x : V) (y : VL) (v0 : V) (v1 : V) (v2 : V) (v3 : V), va_D A (XW aX a0 a1 a2 a3 ct x y v0 v1 v2 v3))  (is0 : Int32) (x : V) (y : VL) (v0 : V) (v1 : V) (v2 : V) (v3 : V) (w : wp_X0_toldTwo_L40  Post  is0 x y v0 v1 v2 v3) : ∀ (H : Heap) (locs : List Loc) (ls : Array Slot), va_P (dC, dI) vwCl (XW aX a0 a1 a2 a3 ct x y v0 v1 v2 v3) H → va_S A s.heap H locs → lv_has ls 4 [] → W p l e rm_X0_toldTwo s m args below meth c H locs 0 0 (MQ below (va_Qi (fun (r : Int32) (u : V × VL × V × V × V × V) => Post r u.1 u.2.1 u.2.2.1 u.2.2.2.1 u.2.2.2.2.1 u.2.2.2.2.2) (fun (u : V × VL × V × V × V × V) t => WPos dC dI ct (XW aX a0 a1 a2 a3 ct u.1 u.2.1 u.2.2.1 u.2.2.2.1 u.2.2.2.2.1 u.2.2.2.2.2) A t) A) args s 0 0 A) (F0 m 40 ls [.int is0]) := by
  intro H locs ls hP hS hl
  have X0 := X
  obtain ⟨⟨hx, hb, hml, hr, hlk, hown, hts⟩, hA, hK, hN⟩ := X0
  unfold wp_X0_toldTwo_L40 at w
  exact W.iret (v := is0) hx hb hr (fun t ht hW => ⟨⟨is0, (x, y, v0, v1, v2, v3), rfl, w, by rw [ht]; exact hP, va_K.moved hW.alike hK, (hD _ _ _ _ _ _)⟩, hS.F ht⟩) hS.2.2 dX0_toldTwo_40 hlk
set_option maxHeartbeats 4000000 in
set_option maxRecDepth 100000 in
theorem wk_X0_toldTwo_L38 {p : Program} {l : Launch} {e : Env} {s : State} {m : MethodId} {args : Array Value} {below : List Frame} {meth : Method} {c : Code} {dC : Nat → ClassId} {dI : Nat → Nat → Nat} {ct : Nat → ClassId} {A : Nat → Prop} {aX : Nat → Nat} {a0 : Nat → Nat} {a1 : Nat → Nat} {a2 : Nat → Nat} {a3 : Nat → Nat} {Post : Int32 → V → VL → V → V → V → V → Prop}   (X : CxW p s m args meth c cX0_toldTwo 4 (some .int) RX0 dC dI ct A) (hD : ∀ (x : V) (y : VL) (v0 : V) (v1 : V) (v2 : V) (v3 : V), va_D A (XW aX a0 a1 a2 a3 ct x y v0 v1 v2 v3))  (x : V) (y : VL) (v0 : V) (v1 : V) (v2 : V) (v3 : V) (w : wp_X0_toldTwo_L38  Post  x y v0 v1 v2 v3) : ∀ (H : Heap) (locs : List Loc) (ls : Array Slot), va_P (dC, dI) vwCl (XW aX a0 a1 a2 a3 ct x y v0 v1 v2 v3) H → va_S A s.heap H locs → lv_has ls 4 [] → W p l e rm_X0_toldTwo s m args below meth c H locs 0 0 (MQ below (va_Qi (fun (r : Int32) (u : V × VL × V × V × V × V) => Post r u.1 u.2.1 u.2.2.1 u.2.2.2.1 u.2.2.2.2.1 u.2.2.2.2.2) (fun (u : V × VL × V × V × V × V) t => WPos dC dI ct (XW aX a0 a1 a2 a3 ct u.1 u.2.1 u.2.2.1 u.2.2.2.1 u.2.2.2.2.1 u.2.2.2.2.2) A t) A) args s 0 0 A) (F0 m 38 ls []) := by
  intro H locs ls hP hS hl
  have X0 := X
  obtain ⟨⟨hx, hb, hml, hr, hlk, hown, hts⟩, hA, hK, hN⟩ := X0
  unfold wp_X0_toldTwo_L38 at w
  refine lv_bipush (v := -2) hx hb dX0_toldTwo_38 (by decide) ?_
  exact wk_X0_toldTwo_L40 X hD  _ _ _ _ _ _ _ w _ _ _ hP hS (lv_sub hl [] rfl)
set_option maxHeartbeats 4000000 in
set_option maxRecDepth 100000 in
theorem met_X0_toldTwo (l : Launch) (dC : Nat → ClassId) (dI : Nat → Nat → Nat) (ct : Nat → ClassId) (aX : Nat → Nat) (a0 : Nat → Nat) (a1 : Nat → Nat) (a2 : Nat → Nat) (a3 : Nat → Nat) (sz : Nat) {i1 : Int32} {x : V} {y : VL} {v0 : V} {v1 : V} {v2 : V} {v3 : V} {Post : Int32 → V → VL → V → V → V → V → Prop} (w : wp_X0_toldTwo i1 x y v0 v1 v2 v3 Post) : Met l yX0_toldTwo (ws_ yX0_toldTwo cX0_toldTwo 4 (some .int)) rm_X0_toldTwo (va_Pc [.ref (aX 0), .int i1] (fun U => WPre dC dI ct (XW aX a0 a1 a2 a3 ct x y v0 v1 v2 v3) sz U)) ((fun A => (va_Qi (fun (r : Int32) (u : V × VL × V × V × V × V) => Post r u.1 u.2.1 u.2.2.1 u.2.2.2.1 u.2.2.2.2.1 u.2.2.2.2.2) (fun (u : V × VL × V × V × V × V) t => WPos dC dI ct (XW aX a0 a1 a2 a3 ct u.1 u.2.1 u.2.2.1 u.2.2.2.1 u.2.2.2.2.1 u.2.2.2.2.2) A t) A)) (va_A (XW aX a0 a1 a2 a3 ct x y v0 v1 v2 v3) sz)) 0 0 (va_A (XW aX a0 a1 a2 a3 ct x y v0 v1 v2 v3) sz) := by
  refine open_W (fun A => (va_Qi (fun (r : Int32) (u : V × VL × V × V × V × V) => Post r u.1 u.2.1 u.2.2.1 u.2.2.2.1 u.2.2.2.2.1 u.2.2.2.2.2) (fun (u : V × VL × V × V × V × V) t => WPos dC dI ct (XW aX a0 a1 a2 a3 ct u.1 u.2.1 u.2.2.1 u.2.2.2.1 u.2.2.2.2.1 u.2.2.2.2.2) A t) A)) (by decide) (Nat.le_of_ble_eq_true rfl) ?_
  intro p e s m args below meth c ls A X hD0 hP hS hl
  have X0 := X
  obtain ⟨⟨hx, hb, hml, hr, hlk, hown, hts⟩, hA, hK, hN⟩ := X0
  have hD : ∀ (x' : V) (y' : VL) (v0' : V) (v1' : V) (v2' : V) (v3' : V), va_D A (XW aX a0 a1 a2 a3 ct x' y' v0' v1' v2' v3') := fun x' y' v0' v1' v2' v3' => va_D_addr hD0 rfl
  have hl : lv_has ls 4 [(0, .ref (aX 0)), (1, .int i1)] := hl
  unfold wp_X0_toldTwo at w
  have hS0 := hS
  refine lv_iload_n hx hb dX0_toldTwo_0 rfl (lv_at hl 1 rfl) ?_
  refine lv_bipush (v := 10) hx hb dX0_toldTwo_1 (by decide) ?_
  refine lv_idiv hx hb dX0_toldTwo_3 (by decide) ?_
  refine lv_istore_n (lv' := [(2, .int (i1 / (10 : Int32))), (0, .ref (aX 0)), (1, .int i1)]) hx hb dX0_toldTwo_4 rfl hl (by decide) rfl (fun ls hl => ?_)
  refine lv_iload_n hx hb dX0_toldTwo_5 rfl (lv_at hl 2 rfl) ?_
  refine lv_bipush (v := 10) hx hb dX0_toldTwo_6 (by decide) ?_
  refine lv_irem hx hb dX0_toldTwo_8 (by decide) ?_
  refine lv_istore_n (lv' := [(3, .int (i1 - i1 / (10 : Int32) * (10 : Int32))), (2, .int (i1 / (10 : Int32))), (0, .ref (aX 0)), (1, .int i1)]) hx hb dX0_toldTwo_9 rfl hl (by decide) rfl (fun ls hl => ?_)
  refine lv_iload_n hx hb dX0_toldTwo_10 rfl (lv_at hl 1 rfl) ?_
  refine vp_callSi (W.runS (As := [.int (i1 / (10 : Int32))]) (rest := []) ⟨hx, hb, hml, hown, hts⟩ (met_X0_isOne l w) (va_cwS 1 hts (lw_S q177 q178 q48 q179) rfl rfl rfl hd_X0_isOne ⟨Nat.le_of_ble_eq_true rfl, Nat.le_of_ble_eq_true rfl⟩) pre_S rfl rfl hl.1 rfl (lv_room (Nat.le_of_ble_eq_true rfl)) dX0_toldTwo_11 ⟨Nat.le_refl _, Nat.le_refl _⟩) (fun r1 w => ?_)
  refine lv_if_eq (tgt := 38) hx hb dX0_toldTwo_14 (by decide) (fun c => ?_) (fun c => ?_)
  · have w := And.left w c
    exact wk_X0_toldTwo_L38 X hD  _ _ _ _ _ _ w _ _ _ hP hS (lv_sub hl [] rfl)
  · have w := And.right w c
    refine lv_iload_n hx hb dX0_toldTwo_17 rfl (lv_at hl 0 rfl) ?_
    refine vp_callSi (W.runS (As := [.int (i1 - i1 / (10 : Int32) * (10 : Int32))]) (rest := []) ⟨hx, hb, hml, hown, hts⟩ (met_X0_isOne l w) (va_cwS 1 hts (lw_S q177 q178 q48 q179) rfl rfl rfl hd_X0_isOne ⟨Nat.le_of_ble_eq_true rfl, Nat.le_of_ble_eq_true rfl⟩) pre_S rfl rfl hl.1 rfl (lv_room (Nat.le_of_ble_eq_true rfl)) dX0_toldTwo_18 ⟨Nat.le_refl _, Nat.le_refl _⟩) (fun r2 w => ?_)
    refine lv_if_eq (tgt := 38) hx hb dX0_toldTwo_21 (by decide) (fun c => ?_) (fun c => ?_)
    · have w := And.left w c
      exact wk_X0_toldTwo_L38 X hD  _ _ _ _ _ _ w _ _ _ hP hS (lv_sub hl [] rfl)
    · have w := And.right w c
      refine lv_aload_n hx hb dX0_toldTwo_24 rfl (lv_at hl 2 rfl) ?_
      refine va_get (D := (dC, dI)) (ci := 0) (v := .ref (a0 0)) (C := RX0) (T := TX0) (N := 14) hx hb hts in_X0 hown hK hP 0 rfl rfl 0 (by decide) (hts _ q128) (fun _ h9 => h9) rfl dX0_toldTwo_25 ?_
      refine va_getN (D := (dC, dI)) (ci := 1) (v := .ref (a0 3)) (C := RX1) (T := TX1) (N := 13) hx hb hts in_X1 hown hK hP 9 rfl rfl 2 (by decide) (va_Nw.use rfl hN.2.2.1) (fun _ h9 => h9) rfl dX0_toldTwo_28 ?_
      refine lv_iload_n hx hb dX0_toldTwo_31 rfl (lv_at hl 1 rfl) ?_
      obtain ⟨gi, w⟩ := w
      refine x_aald hx hb hK hP 12 5 rfl rfl rfl gi rfl dX0_toldTwo_32 ?_
      have gk3 := x_vlt gi
      refine lv_iload_n hx hb dX0_toldTwo_33 rfl (lv_at hl 0 rfl) ?_
      have gr := gk3
      obtain ⟨gi, w⟩ := w
      refine va_iald hx hb hK hP (13 + (i1 / (10 : Int32)).toNatClampNeg) 0 (XW_row0 gr) rfl gi dX0_toldTwo_34 ?_
      refine lv_goto (tgt := 40) hx hb dX0_toldTwo_35 (by decide) ?_
      exact wk_X0_toldTwo_L40 X hD  _ _ _ _ _ _ _ w _ _ _ hP hS (lv_sub hl [] rfl)
abbrev rm_X0_toldLot : Room := { frames := 2, cells := 0, slots := 0, locals := 42 }
theorem hd_X0_toldLot : yX0_toldLot.cls = RX0 ∧ yX0_toldLot.cls ≠ "java/lang/invoke/MethodHandle" ∧ yX0_toldLot.cls ≠ "java/lang/invoke/VarHandle" ∧ (parseMethodDescriptor yX0_toldLot.desc).map (fun d => d.parameters.length) = some 2 := by decide +kernel
set_option maxHeartbeats 4000000 in
set_option maxRecDepth 100000 in
theorem wk_X0_toldLot_L42 {p : Program} {l : Launch} {e : Env} {s : State} {m : MethodId} {args : Array Value} {below : List Frame} {meth : Method} {c : Code} {dC : Nat → ClassId} {dI : Nat → Nat → Nat} {ct : Nat → ClassId} {A : Nat → Prop} {aX : Nat → Nat} {a0 : Nat → Nat} {a1 : Nat → Nat} {a2 : Nat → Nat} {a3 : Nat → Nat} {Post : Int32 → V → VL → V → V → V → V → Prop}   (X : CxW p s m args meth c cX0_toldLot 3 (some .int) RX0 dC dI ct A) (hD : ∀ (x : V) (y : VL) (v0 : V) (v1 : V) (v2 : V) (v3 : V), va_D A (XW aX a0 a1 a2 a3 ct x y v0 v1 v2 v3))  (is0 : Int32) (x : V) (y : VL) (v0 : V) (v1 : V) (v2 : V) (v3 : V) (w : wp_X0_toldLot_L42  Post  is0 x y v0 v1 v2 v3) : ∀ (H : Heap) (locs : List Loc) (ls : Array Slot), va_P (dC, dI) vwCl (XW aX a0 a1 a2 a3 ct x y v0 v1 v2 v3) H → va_S A s.heap H locs → lv_has ls 3 [] → W p l e rm_X0_toldLot s m args below meth c H locs 0 0 (MQ below (va_Qi (fun (r : Int32) (u : V × VL × V × V × V × V) => Post r u.1 u.2.1 u.2.2.1 u.2.2.2.1 u.2.2.2.2.1 u.2.2.2.2.2) (fun (u : V × VL × V × V × V × V) t => WPos dC dI ct (XW aX a0 a1 a2 a3 ct u.1 u.2.1 u.2.2.1 u.2.2.2.1 u.2.2.2.2.1 u.2.2.2.2.2) A t) A) args s 0 0 A) (F0 m 42 ls [.int is0]) := by
  intro H locs ls hP hS hl
  have X0 := X
  obtain ⟨⟨hx, hb, hml, hr, hlk, hown, hts⟩, hA, hK, hN⟩ := X0
  unfold wp_X0_toldLot_L42 at w
  exact W.iret (v := is0) hx hb hr (fun t ht hW => ⟨⟨is0, (x, y, v0, v1, v2, v3), rfl, w, by rw [ht]; exact hP, va_K.moved hW.alike hK, (hD _ _ _ _ _ _)⟩, hS.F ht⟩) hS.2.2 dX0_toldLot_42 hlk
set_option maxHeartbeats 4000000 in
set_option maxRecDepth 100000 in
theorem wk_X0_toldLot_L12 {p : Program} {l : Launch} {e : Env} {s : State} {m : MethodId} {args : Array Value} {below : List Frame} {meth : Method} {c : Code} {dC : Nat → ClassId} {dI : Nat → Nat → Nat} {ct : Nat → ClassId} {A : Nat → Prop} {aX : Nat → Nat} {a0 : Nat → Nat} {a1 : Nat → Nat} {a2 : Nat → Nat} {a3 : Nat → Nat} {Post : Int32 → V → VL → V → V → V → V → Prop}   (X : CxW p s m args meth c cX0_toldLot 3 (some .int) RX0 dC dI ct A) (hD : ∀ (x : V) (y : VL) (v0 : V) (v1 : V) (v2 : V) (v3 : V), va_D A (XW aX a0 a1 a2 a3 ct x y v0 v1 v2 v3))  (x : V) (y : VL) (v0 : V) (v1 : V) (v2 : V) (v3 : V) (w : wp_X0_toldLot_L12  Post  x y v0 v1 v2 v3) : ∀ (H : Heap) (locs : List Loc) (ls : Array Slot), va_P (dC, dI) vwCl (XW aX a0 a1 a2 a3 ct x y v0 v1 v2 v3) H → va_S A s.heap H locs → lv_has ls 3 [] → W p l e rm_X0_toldLot s m args below meth c H locs 0 0 (MQ below (va_Qi (fun (r : Int32) (u : V × VL × V × V × V × V) => Post r u.1 u.2.1 u.2.2.1 u.2.2.2.1 u.2.2.2.2.1 u.2.2.2.2.2) (fun (u : V × VL × V × V × V × V) t => WPos dC dI ct (XW aX a0 a1 a2 a3 ct u.1 u.2.1 u.2.2.1 u.2.2.2.1 u.2.2.2.2.1 u.2.2.2.2.2) A t) A) args s 0 0 A) (F0 m 12 ls []) := by
  intro H locs ls hP hS hl
  have X0 := X
  obtain ⟨⟨hx, hb, hml, hr, hlk, hown, hts⟩, hA, hK, hN⟩ := X0
  unfold wp_X0_toldLot_L12 at w
  refine lv_bipush (v := -2) hx hb dX0_toldLot_12 (by decide) ?_
  refine lv_goto (tgt := 42) hx hb dX0_toldLot_14 (by decide) ?_
  exact wk_X0_toldLot_L42 X hD  _ _ _ _ _ _ _ w _ _ _ hP hS (lv_sub hl [] rfl)
set_option maxHeartbeats 4000000 in
set_option maxRecDepth 100000 in
theorem met_X0_toldLot (l : Launch) (dC : Nat → ClassId) (dI : Nat → Nat → Nat) (ct : Nat → ClassId) (aX : Nat → Nat) (a0 : Nat → Nat) (a1 : Nat → Nat) (a2 : Nat → Nat) (a3 : Nat → Nat) (sz : Nat) {i1 : Int32} {i2 : Int32} {x : V} {y : VL} {v0 : V} {v1 : V} {v2 : V} {v3 : V} {Post : Int32 → V → VL → V → V → V → V → Prop} (w : wp_X0_toldLot i1 i2 x y v0 v1 v2 v3 Post) : Met l yX0_toldLot (ws_ yX0_toldLot cX0_toldLot 3 (some .int)) rm_X0_toldLot (va_Pc [.ref (aX 0), .int i1, .int i2] (fun U => WPre dC dI ct (XW aX a0 a1 a2 a3 ct x y v0 v1 v2 v3) sz U)) ((fun A => (va_Qi (fun (r : Int32) (u : V × VL × V × V × V × V) => Post r u.1 u.2.1 u.2.2.1 u.2.2.2.1 u.2.2.2.2.1 u.2.2.2.2.2) (fun (u : V × VL × V × V × V × V) t => WPos dC dI ct (XW aX a0 a1 a2 a3 ct u.1 u.2.1 u.2.2.1 u.2.2.2.1 u.2.2.2.2.1 u.2.2.2.2.2) A t) A)) (va_A (XW aX a0 a1 a2 a3 ct x y v0 v1 v2 v3) sz)) 0 0 (va_A (XW aX a0 a1 a2 a3 ct x y v0 v1 v2 v3) sz) := by
  refine open_W (fun A => (va_Qi (fun (r : Int32) (u : V × VL × V × V × V × V) => Post r u.1 u.2.1 u.2.2.1 u.2.2.2.1 u.2.2.2.2.1 u.2.2.2.2.2) (fun (u : V × VL × V × V × V × V) t => WPos dC dI ct (XW aX a0 a1 a2 a3 ct u.1 u.2.1 u.2.2.1 u.2.2.2.1 u.2.2.2.2.1 u.2.2.2.2.2) A t) A)) (by decide) (Nat.le_of_ble_eq_true rfl) ?_
  intro p e s m args below meth c ls A X hD0 hP hS hl
  have X0 := X
  obtain ⟨⟨hx, hb, hml, hr, hlk, hown, hts⟩, hA, hK, hN⟩ := X0
  have hD : ∀ (x' : V) (y' : VL) (v0' : V) (v1' : V) (v2' : V) (v3' : V), va_D A (XW aX a0 a1 a2 a3 ct x' y' v0' v1' v2' v3') := fun x' y' v0' v1' v2' v3' => va_D_addr hD0 rfl
  have hl : lv_has ls 3 [(0, .ref (aX 0)), (1, .int i1), (2, .int i2)] := hl
  unfold wp_X0_toldLot at w
  have hS0 := hS
  refine lv_iload_n hx hb dX0_toldLot_0 rfl (lv_at hl 1 rfl) ?_
  refine vp_callSi (W.runS (As := [.int i1]) (rest := []) ⟨hx, hb, hml, hown, hts⟩ (met_X0_isLot l w) (va_cwS 1 hts (lw_S q194 q195 q48 q196) rfl rfl rfl hd_X0_isLot ⟨Nat.le_of_ble_eq_true rfl, Nat.le_of_ble_eq_true rfl⟩) pre_S rfl rfl hl.1 rfl (lv_room (Nat.le_of_ble_eq_true rfl)) dX0_toldLot_1 ⟨Nat.le_refl _, Nat.le_refl _⟩) (fun r1 w => ?_)
  refine lv_if_eq (tgt := 12) hx hb dX0_toldLot_4 (by decide) (fun c => ?_) (fun c => ?_)
  · have w := And.left w c
    exact wk_X0_toldLot_L12 X hD  _ _ _ _ _ _ w _ _ _ hP hS (lv_sub hl [] rfl)
  · have w := And.right w c
    refine lv_iload_n hx hb dX0_toldLot_7 rfl (lv_at hl 2 rfl) ?_
    refine lv_iconst (v := 1) hx hb dX0_toldLot_8 (by decide) ?_
    refine lv_icmp_le (tgt := 17) hx hb dX0_toldLot_9 (by decide) (fun c => ?_) (fun c => ?_)
    · have w := And.left w c
      refine lv_iload_n hx hb dX0_toldLot_17 rfl (lv_at hl 2 rfl) ?_
      refine lv_if_ne (tgt := 33) hx hb dX0_toldLot_18 (by decide) (fun c => ?_) (fun c => ?_)
      · have w := And.right w c
        refine lv_aload_n hx hb dX0_toldLot_33 rfl (lv_at hl 0 rfl) ?_
        refine va_get (D := (dC, dI)) (ci := 0) (v := .ref (a0 0)) (C := RX0) (T := TX0) (N := 14) hx hb hts in_X0 hown hK hP 0 rfl rfl 0 (by decide) (hts _ q128) (fun _ h9 => h9) rfl dX0_toldLot_34 ?_
        refine va_getN (D := (dC, dI)) (ci := 1) (v := .ref (a0 11)) (C := RX1) (T := TX1) (N := 13) hx hb hts in_X1 hown hK hP 9 rfl rfl 4 (by decide) (va_Nw.use rfl hN.2.2.2.2.1) (fun _ h9 => h9) rfl dX0_toldLot_37 ?_
        refine lv_iload_n hx hb dX0_toldLot_40 rfl (lv_at hl 1 rfl) ?_
        obtain ⟨gi, w⟩ := w
        refine va_iald hx hb hK hP 20 0 rfl rfl gi dX0_toldLot_41 ?_
        exact wk_X0_toldLot_L42 X hD  _ _ _ _ _ _ _ w _ _ _ hP hS (lv_sub hl [] rfl)
      · have w := And.left w c
        refine lv_aload_n hx hb dX0_toldLot_21 rfl (lv_at hl 0 rfl) ?_
        refine va_get (D := (dC, dI)) (ci := 0) (v := .ref (a0 0)) (C := RX0) (T := TX0) (N := 14) hx hb hts in_X0 hown hK hP 0 rfl rfl 0 (by decide) (hts _ q128) (fun _ h9 => h9) rfl dX0_toldLot_22 ?_
        refine va_getN (D := (dC, dI)) (ci := 1) (v := .ref (a0 10)) (C := RX1) (T := TX1) (N := 13) hx hb hts in_X1 hown hK hP 9 rfl rfl 3 (by decide) (va_Nw.use rfl hN.2.2.2.1) (fun _ h9 => h9) rfl dX0_toldLot_25 ?_
        refine lv_iload_n hx hb dX0_toldLot_28 rfl (lv_at hl 1 rfl) ?_
        obtain ⟨gi, w⟩ := w
        refine va_iald hx hb hK hP 19 0 rfl rfl gi dX0_toldLot_29 ?_
        refine lv_goto (tgt := 42) hx hb dX0_toldLot_30 (by decide) ?_
        exact wk_X0_toldLot_L42 X hD  _ _ _ _ _ _ _ w _ _ _ hP hS (lv_sub hl [] rfl)
    · have w := And.right w c
      exact wk_X0_toldLot_L12 X hD  _ _ _ _ _ _ w _ _ _ hP hS (lv_sub hl [] rfl)
abbrev rm_X0_toldOne : Room := { frames := 2, cells := 0, slots := 0, locals := 43 }
theorem hd_X0_toldOne : yX0_toldOne.cls = RX0 ∧ yX0_toldOne.cls ≠ "java/lang/invoke/MethodHandle" ∧ yX0_toldOne.cls ≠ "java/lang/invoke/VarHandle" ∧ (parseMethodDescriptor yX0_toldOne.desc).map (fun d => d.parameters.length) = some 2 := by decide +kernel
set_option maxHeartbeats 4000000 in
set_option maxRecDepth 100000 in
theorem wk_X0_toldOne_L12 {p : Program} {l : Launch} {e : Env} {s : State} {m : MethodId} {args : Array Value} {below : List Frame} {meth : Method} {c : Code} {dC : Nat → ClassId} {dI : Nat → Nat → Nat} {ct : Nat → ClassId} {A : Nat → Prop} {aX : Nat → Nat} {a0 : Nat → Nat} {a1 : Nat → Nat} {a2 : Nat → Nat} {a3 : Nat → Nat} {Post : Int32 → V → VL → V → V → V → V → Prop}   (X : CxW p s m args meth c cX0_toldOne 3 (some .int) RX0 dC dI ct A) (hD : ∀ (x : V) (y : VL) (v0 : V) (v1 : V) (v2 : V) (v3 : V), va_D A (XW aX a0 a1 a2 a3 ct x y v0 v1 v2 v3))  (x : V) (y : VL) (v0 : V) (v1 : V) (v2 : V) (v3 : V) (w : wp_X0_toldOne_L12  Post  x y v0 v1 v2 v3) : ∀ (H : Heap) (locs : List Loc) (ls : Array Slot), va_P (dC, dI) vwCl (XW aX a0 a1 a2 a3 ct x y v0 v1 v2 v3) H → va_S A s.heap H locs → lv_has ls 3 [] → W p l e rm_X0_toldOne s m args below meth c H locs 0 0 (MQ below (va_Qi (fun (r : Int32) (u : V × VL × V × V × V × V) => Post r u.1 u.2.1 u.2.2.1 u.2.2.2.1 u.2.2.2.2.1 u.2.2.2.2.2) (fun (u : V × VL × V × V × V × V) t => WPos dC dI ct (XW aX a0 a1 a2 a3 ct u.1 u.2.1 u.2.2.1 u.2.2.2.1 u.2.2.2.2.1 u.2.2.2.2.2) A t) A) args s 0 0 A) (F0 m 12 ls []) := by
  intro H locs ls hP hS hl
  have X0 := X
  obtain ⟨⟨hx, hb, hml, hr, hlk, hown, hts⟩, hA, hK, hN⟩ := X0
  unfold wp_X0_toldOne_L12 at w
  refine lv_bipush (v := -2) hx hb dX0_toldOne_12 (by decide) ?_
  exact W.iret (v := (-2 : Int32)) hx hb hr (fun t ht hW => ⟨⟨(-2 : Int32), (x, y, v0, v1, v2, v3), rfl, w, by rw [ht]; exact hP, va_K.moved hW.alike hK, (hD _ _ _ _ _ _)⟩, hS.F ht⟩) hS.2.2 dX0_toldOne_14 hlk
set_option maxHeartbeats 4000000 in
set_option maxRecDepth 100000 in
theorem wk_X0_toldOne_L56 {p : Program} {l : Launch} {e : Env} {s : State} {m : MethodId} {args : Array Value} {below : List Frame} {meth : Method} {c : Code} {dC : Nat → ClassId} {dI : Nat → Nat → Nat} {ct : Nat → ClassId} {A : Nat → Prop} {aX : Nat → Nat} {a0 : Nat → Nat} {a1 : Nat → Nat} {a2 : Nat → Nat} {a3 : Nat → Nat} {Post : Int32 → V → VL → V → V → V → V → Prop}   (X : CxW p s m args meth c cX0_toldOne 3 (some .int) RX0 dC dI ct A) (hD : ∀ (x : V) (y : VL) (v0 : V) (v1 : V) (v2 : V) (v3 : V), va_D A (XW aX a0 a1 a2 a3 ct x y v0 v1 v2 v3))  (is0 : Int32) (x : V) (y : VL) (v0 : V) (v1 : V) (v2 : V) (v3 : V) (w : wp_X0_toldOne_L56  Post  is0 x y v0 v1 v2 v3) : ∀ (H : Heap) (locs : List Loc) (ls : Array Slot), va_P (dC, dI) vwCl (XW aX a0 a1 a2 a3 ct x y v0 v1 v2 v3) H → va_S A s.heap H locs → lv_has ls 3 [] → W p l e rm_X0_toldOne s m args below meth c H locs 0 0 (MQ below (va_Qi (fun (r : Int32) (u : V × VL × V × V × V × V) => Post r u.1 u.2.1 u.2.2.1 u.2.2.2.1 u.2.2.2.2.1 u.2.2.2.2.2) (fun (u : V × VL × V × V × V × V) t => WPos dC dI ct (XW aX a0 a1 a2 a3 ct u.1 u.2.1 u.2.2.1 u.2.2.2.1 u.2.2.2.2.1 u.2.2.2.2.2) A t) A) args s 0 0 A) (F0 m 56 ls [.int is0]) := by
  intro H locs ls hP hS hl
  have X0 := X
  obtain ⟨⟨hx, hb, hml, hr, hlk, hown, hts⟩, hA, hK, hN⟩ := X0
  unfold wp_X0_toldOne_L56 at w
  exact W.iret (v := is0) hx hb hr (fun t ht hW => ⟨⟨is0, (x, y, v0, v1, v2, v3), rfl, w, by rw [ht]; exact hP, va_K.moved hW.alike hK, (hD _ _ _ _ _ _)⟩, hS.F ht⟩) hS.2.2 dX0_toldOne_56 hlk
set_option maxHeartbeats 4000000 in
set_option maxRecDepth 100000 in
theorem met_X0_toldOne (l : Launch) (dC : Nat → ClassId) (dI : Nat → Nat → Nat) (ct : Nat → ClassId) (aX : Nat → Nat) (a0 : Nat → Nat) (a1 : Nat → Nat) (a2 : Nat → Nat) (a3 : Nat → Nat) (sz : Nat) {i1 : Int32} {i2 : Int32} {x : V} {y : VL} {v0 : V} {v1 : V} {v2 : V} {v3 : V} {Post : Int32 → V → VL → V → V → V → V → Prop} (w : wp_X0_toldOne i1 i2 x y v0 v1 v2 v3 Post) : Met l yX0_toldOne (ws_ yX0_toldOne cX0_toldOne 3 (some .int)) rm_X0_toldOne (va_Pc [.ref (aX 0), .int i1, .int i2] (fun U => WPre dC dI ct (XW aX a0 a1 a2 a3 ct x y v0 v1 v2 v3) sz U)) ((fun A => (va_Qi (fun (r : Int32) (u : V × VL × V × V × V × V) => Post r u.1 u.2.1 u.2.2.1 u.2.2.2.1 u.2.2.2.2.1 u.2.2.2.2.2) (fun (u : V × VL × V × V × V × V) t => WPos dC dI ct (XW aX a0 a1 a2 a3 ct u.1 u.2.1 u.2.2.1 u.2.2.2.1 u.2.2.2.2.1 u.2.2.2.2.2) A t) A)) (va_A (XW aX a0 a1 a2 a3 ct x y v0 v1 v2 v3) sz)) 0 0 (va_A (XW aX a0 a1 a2 a3 ct x y v0 v1 v2 v3) sz) := by
  refine open_W (fun A => (va_Qi (fun (r : Int32) (u : V × VL × V × V × V × V) => Post r u.1 u.2.1 u.2.2.1 u.2.2.2.1 u.2.2.2.2.1 u.2.2.2.2.2) (fun (u : V × VL × V × V × V × V) t => WPos dC dI ct (XW aX a0 a1 a2 a3 ct u.1 u.2.1 u.2.2.1 u.2.2.2.1 u.2.2.2.2.1 u.2.2.2.2.2) A t) A)) (by decide) (Nat.le_of_ble_eq_true rfl) ?_
  intro p e s m args below meth c ls A X hD0 hP hS hl
  have X0 := X
  obtain ⟨⟨hx, hb, hml, hr, hlk, hown, hts⟩, hA, hK, hN⟩ := X0
  have hD : ∀ (x' : V) (y' : VL) (v0' : V) (v1' : V) (v2' : V) (v3' : V), va_D A (XW aX a0 a1 a2 a3 ct x' y' v0' v1' v2' v3') := fun x' y' v0' v1' v2' v3' => va_D_addr hD0 rfl
  have hl : lv_has ls 3 [(0, .ref (aX 0)), (1, .int i1), (2, .int i2)] := hl
  unfold wp_X0_toldOne at w
  have hS0 := hS
  refine lv_iload_n hx hb dX0_toldOne_0 rfl (lv_at hl 1 rfl) ?_
  refine vp_callSi (W.runS (As := [.int i1]) (rest := []) ⟨hx, hb, hml, hown, hts⟩ (met_X0_isOne l w) (va_cwS 1 hts (lw_S q177 q178 q48 q179) rfl rfl rfl hd_X0_isOne ⟨Nat.le_of_ble_eq_true rfl, Nat.le_of_ble_eq_true rfl⟩) pre_S rfl rfl hl.1 rfl (lv_room (Nat.le_of_ble_eq_true rfl)) dX0_toldOne_1 ⟨Nat.le_refl _, Nat.le_refl _⟩) (fun r1 w => ?_)
  refine lv_if_eq (tgt := 12) hx hb dX0_toldOne_4 (by decide) (fun c => ?_) (fun c => ?_)
  · have w := And.left w c
    exact wk_X0_toldOne_L12 X hD  _ _ _ _ _ _ w _ _ _ hP hS (lv_sub hl [] rfl)
  · have w := And.right w c
    refine lv_iload_n hx hb dX0_toldOne_7 rfl (lv_at hl 2 rfl) ?_
    refine lv_iconst (v := 2) hx hb dX0_toldOne_8 (by decide) ?_
    refine lv_icmp_le (tgt := 15) hx hb dX0_toldOne_9 (by decide) (fun c => ?_) (fun c => ?_)
    · have w := And.left w c
      refine lv_iload_n hx hb dX0_toldOne_15 rfl (lv_at hl 2 rfl) ?_
      refine lv_if_ne (tgt := 31) hx hb dX0_toldOne_16 (by decide) (fun c => ?_) (fun c => ?_)
      · have w := And.right w c
        refine lv_iload_n hx hb dX0_toldOne_31 rfl (lv_at hl 2 rfl) ?_
        refine lv_iconst (v := 1) hx hb dX0_toldOne_32 (by decide) ?_
        refine lv_icmp_ne (tgt := 48) hx hb dX0_toldOne_33 (by decide) (fun c => ?_) (fun c => ?_)
        · have w := And.right w c
          refine lv_aload_n hx hb dX0_toldOne_48 rfl (lv_at hl 0 rfl) ?_
          refine va_get (D := (dC, dI)) (ci := 0) (v := .ref (a0 0)) (C := RX0) (T := TX0) (N := 14) hx hb hts in_X0 hown hK hP 0 rfl rfl 0 (by decide) (hts _ q128) (fun _ h9 => h9) rfl dX0_toldOne_49 ?_
          refine lv_iload_n hx hb dX0_toldOne_52 rfl (lv_at hl 1 rfl) ?_
          have hPc := XW_g0 hP
          have hDc := XW_d0 (hD x y v0 v1 v2 v3)
          refine va_calli (va_runV (As := [.int i1]) (rest := []) ⟨hx, hb, hml, hown, hts⟩ (met_X1_lotsOf l dC dI ct a0 _ w) (cwV 1 hts (lw_V q304 q305 q306 q49 q307) rfl rfl rfl hd_X1_lotsOf ⟨Nat.le_of_ble_eq_true rfl, Nat.le_of_ble_eq_true rfl⟩) (pre_V hK hPc hDc hN (va_recv hK hPc (ci := 1) (q0 := 0) rfl rfl)) rfl rfl hl.1 rfl (lv_room (Nat.le_of_ble_eq_true rfl)) dX0_toldOne_53 ⟨Nat.le_refl _, Nat.le_refl _⟩) hS (fun q _ h => x_free hDc hS hA q h) (x_free hDc hS hA) (fun r2 v0_2 t H locs ht hvm w hB hz hk hS => ?_)
          have hP := XW_j0 hP (hD _ _ _ _ _ _) hk (post_P hB ht)
          have hP : va_P (dC, dI) vwCl (XW aX a0 a1 a2 a3 ct x y v0_2 v1 v2 v3) H := hP
          exact wk_X0_toldOne_L56 X hD  _ _ _ _ _ _ _ w _ _ _ hP hS (lv_sub hl [] rfl)
        · have w := And.left w c
          refine lv_aload_n hx hb dX0_toldOne_36 rfl (lv_at hl 0 rfl) ?_
          refine va_get (D := (dC, dI)) (ci := 0) (v := .ref (a0 0)) (C := RX0) (T := TX0) (N := 14) hx hb hts in_X0 hown hK hP 0 rfl rfl 0 (by decide) (hts _ q128) (fun _ h9 => h9) rfl dX0_toldOne_37 ?_
          refine va_getN (D := (dC, dI)) (ci := 1) (v := .ref (a0 2)) (C := RX1) (T := TX1) (N := 13) hx hb hts in_X1 hown hK hP 9 rfl rfl 1 (by decide) (va_Nw.use rfl hN.2.1) (fun _ h9 => h9) rfl dX0_toldOne_40 ?_
          refine lv_iload_n hx hb dX0_toldOne_43 rfl (lv_at hl 1 rfl) ?_
          obtain ⟨gi, w⟩ := w
          refine va_iald hx hb hK hP 11 0 rfl rfl gi dX0_toldOne_44 ?_
          refine lv_goto (tgt := 56) hx hb dX0_toldOne_45 (by decide) ?_
          exact wk_X0_toldOne_L56 X hD  _ _ _ _ _ _ _ w _ _ _ hP hS (lv_sub hl [] rfl)
      · have w := And.left w c
        refine lv_aload_n hx hb dX0_toldOne_19 rfl (lv_at hl 0 rfl) ?_
        refine va_get (D := (dC, dI)) (ci := 0) (v := .ref (a0 0)) (C := RX0) (T := TX0) (N := 14) hx hb hts in_X0 hown hK hP 0 rfl rfl 0 (by decide) (hts _ q128) (fun _ h9 => h9) rfl dX0_toldOne_20 ?_
        refine va_getN (D := (dC, dI)) (ci := 1) (v := .ref (a0 1)) (C := RX1) (T := TX1) (N := 13) hx hb hts in_X1 hown hK hP 9 rfl rfl 0 (by decide) (va_Nw.use rfl hN.1) (fun _ h9 => h9) rfl dX0_toldOne_23 ?_
        refine lv_iload_n hx hb dX0_toldOne_26 rfl (lv_at hl 1 rfl) ?_
        obtain ⟨gi, w⟩ := w
        refine va_iald hx hb hK hP 10 0 rfl rfl gi dX0_toldOne_27 ?_
        refine lv_goto (tgt := 56) hx hb dX0_toldOne_28 (by decide) ?_
        exact wk_X0_toldOne_L56 X hD  _ _ _ _ _ _ _ w _ _ _ hP hS (lv_sub hl [] rfl)
    · have w := And.right w c
      exact wk_X0_toldOne_L12 X hD  _ _ _ _ _ _ w _ _ _ hP hS (lv_sub hl [] rfl)
abbrev rm_X0_told : Room := { frames := 3, cells := 0, slots := 0, locals := 72 }
theorem hd_X0_told : yX0_told.cls = RX0 ∧ yX0_told.cls ≠ "java/lang/invoke/MethodHandle" ∧ yX0_told.cls ≠ "java/lang/invoke/VarHandle" ∧ (parseMethodDescriptor yX0_told.desc).map (fun d => d.parameters.length) = some 1 := by decide +kernel
set_option maxHeartbeats 4000000 in
set_option maxRecDepth 100000 in
theorem wk_X0_told_L63 {p : Program} {l : Launch} {e : Env} {s : State} {m : MethodId} {args : Array Value} {below : List Frame} {meth : Method} {c : Code} {dC : Nat → ClassId} {dI : Nat → Nat → Nat} {ct : Nat → ClassId} {A : Nat → Prop} {aX : Nat → Nat} {a0 : Nat → Nat} {a1 : Nat → Nat} {a2 : Nat → Nat} {a3 : Nat → Nat} {Post : Int32 → V → VL → V → V → V → V → Prop}   (X : CxW p s m args meth c cX0_told 2 (some .int) RX0 dC dI ct A) (hD : ∀ (x : V) (y : VL) (v0 : V) (v1 : V) (v2 : V) (v3 : V), va_D A (XW aX a0 a1 a2 a3 ct x y v0 v1 v2 v3))  (is0 : Int32) (x : V) (y : VL) (v0 : V) (v1 : V) (v2 : V) (v3 : V) (w : wp_X0_told_L63  Post  is0 x y v0 v1 v2 v3) : ∀ (H : Heap) (locs : List Loc) (ls : Array Slot), va_P (dC, dI) vwCl (XW aX a0 a1 a2 a3 ct x y v0 v1 v2 v3) H → va_S A s.heap H locs → lv_has ls 2 [] → W p l e rm_X0_told s m args below meth c H locs 0 0 (MQ below (va_Qi (fun (r : Int32) (u : V × VL × V × V × V × V) => Post r u.1 u.2.1 u.2.2.1 u.2.2.2.1 u.2.2.2.2.1 u.2.2.2.2.2) (fun (u : V × VL × V × V × V × V) t => WPos dC dI ct (XW aX a0 a1 a2 a3 ct u.1 u.2.1 u.2.2.1 u.2.2.2.1 u.2.2.2.2.1 u.2.2.2.2.2) A t) A) args s 0 0 A) (F0 m 63 ls [.int is0]) := by
  intro H locs ls hP hS hl
  have X0 := X
  obtain ⟨⟨hx, hb, hml, hr, hlk, hown, hts⟩, hA, hK, hN⟩ := X0
  unfold wp_X0_told_L63 at w
  exact W.iret (v := is0) hx hb hr (fun t ht hW => ⟨⟨is0, (x, y, v0, v1, v2, v3), rfl, w, by rw [ht]; exact hP, va_K.moved hW.alike hK, (hD _ _ _ _ _ _)⟩, hS.F ht⟩) hS.2.2 dX0_told_63 hlk
set_option maxHeartbeats 4000000 in
set_option maxRecDepth 100000 in
theorem wk_X0_told_L117 {p : Program} {l : Launch} {e : Env} {s : State} {m : MethodId} {args : Array Value} {below : List Frame} {meth : Method} {c : Code} {dC : Nat → ClassId} {dI : Nat → Nat → Nat} {ct : Nat → ClassId} {A : Nat → Prop} {aX : Nat → Nat} {a0 : Nat → Nat} {a1 : Nat → Nat} {a2 : Nat → Nat} {a3 : Nat → Nat} {Post : Int32 → V → VL → V → V → V → V → Prop}   (X : CxW p s m args meth c cX0_told 2 (some .int) RX0 dC dI ct A) (hD : ∀ (x : V) (y : VL) (v0 : V) (v1 : V) (v2 : V) (v3 : V), va_D A (XW aX a0 a1 a2 a3 ct x y v0 v1 v2 v3))  (i1 : Int32) (x : V) (y : VL) (v0 : V) (v1 : V) (v2 : V) (v3 : V) (w : wp_X0_told_L117  Post  i1 x y v0 v1 v2 v3) : ∀ (H : Heap) (locs : List Loc) (ls : Array Slot), va_P (dC, dI) vwCl (XW aX a0 a1 a2 a3 ct x y v0 v1 v2 v3) H → va_S A s.heap H locs → lv_has ls 2 [(0, .ref (aX 0)), (1, .int i1)] → W p l e rm_X0_told s m args below meth c H locs 0 0 (MQ below (va_Qi (fun (r : Int32) (u : V × VL × V × V × V × V) => Post r u.1 u.2.1 u.2.2.1 u.2.2.2.1 u.2.2.2.2.1 u.2.2.2.2.2) (fun (u : V × VL × V × V × V × V) t => WPos dC dI ct (XW aX a0 a1 a2 a3 ct u.1 u.2.1 u.2.2.1 u.2.2.2.1 u.2.2.2.2.1 u.2.2.2.2.2) A t) A) args s 0 0 A) (F0 m 117 ls []) := by
  intro H locs ls hP hS hl
  have X0 := X
  obtain ⟨⟨hx, hb, hml, hr, hlk, hown, hts⟩, hA, hK, hN⟩ := X0
  unfold wp_X0_told_L117 at w
  refine lv_aload_n hx hb dX0_told_117 rfl (lv_at hl 0 rfl) ?_
  refine va_get (D := (dC, dI)) (ci := 0) (v := .ref (a0 0)) (C := RX0) (T := TX0) (N := 14) hx hb hts in_X0 hown hK hP 0 rfl rfl 0 (by decide) (hts _ q128) (fun _ h9 => h9) rfl dX0_told_118 ?_
  refine va_getN (D := (dC, dI)) (ci := 1) (v := .ref (a0 12)) (C := RX1) (T := TX1) (N := 13) hx hb hts in_X1 hown hK hP 9 rfl rfl 5 (by decide) (va_Nw.use rfl hN.2.2.2.2.2.1) (fun _ h9 => h9) rfl dX0_told_121 ?_
  refine lv_iload_n hx hb dX0_told_124 rfl (lv_at hl 1 rfl) ?_
  refine lv_iconst (v := 1) hx hb dX0_told_125 (by decide) ?_
  refine lv_isub hx hb dX0_told_126 ?_
  obtain ⟨gi, w⟩ := w
  refine va_iald hx hb hK hP 21 0 rfl rfl gi dX0_told_127 ?_
  exact W.iret (v := (v0 10 (i1 - (1 : Int32)).toNatClampNeg)) hx hb hr (fun t ht hW => ⟨⟨(v0 10 (i1 - (1 : Int32)).toNatClampNeg), (x, y, v0, v1, v2, v3), rfl, w, by rw [ht]; exact hP, va_K.moved hW.alike hK, (hD _ _ _ _ _ _)⟩, hS.F ht⟩) hS.2.2 dX0_told_128 hlk
set_option maxHeartbeats 4000000 in
set_option maxRecDepth 100000 in
theorem wk_X0_told_L187 {p : Program} {l : Launch} {e : Env} {s : State} {m : MethodId} {args : Array Value} {below : List Frame} {meth : Method} {c : Code} {dC : Nat → ClassId} {dI : Nat → Nat → Nat} {ct : Nat → ClassId} {A : Nat → Prop} {aX : Nat → Nat} {a0 : Nat → Nat} {a1 : Nat → Nat} {a2 : Nat → Nat} {a3 : Nat → Nat} {Post : Int32 → V → VL → V → V → V → V → Prop}   (X : CxW p s m args meth c cX0_told 2 (some .int) RX0 dC dI ct A) (hD : ∀ (x : V) (y : VL) (v0 : V) (v1 : V) (v2 : V) (v3 : V), va_D A (XW aX a0 a1 a2 a3 ct x y v0 v1 v2 v3))  (is0 : Int32) (x : V) (y : VL) (v0 : V) (v1 : V) (v2 : V) (v3 : V) (w : wp_X0_told_L187  Post  is0 x y v0 v1 v2 v3) : ∀ (H : Heap) (locs : List Loc) (ls : Array Slot), va_P (dC, dI) vwCl (XW aX a0 a1 a2 a3 ct x y v0 v1 v2 v3) H → va_S A s.heap H locs → lv_has ls 2 [] → W p l e rm_X0_told s m args below meth c H locs 0 0 (MQ below (va_Qi (fun (r : Int32) (u : V × VL × V × V × V × V) => Post r u.1 u.2.1 u.2.2.1 u.2.2.2.1 u.2.2.2.2.1 u.2.2.2.2.2) (fun (u : V × VL × V × V × V × V) t => WPos dC dI ct (XW aX a0 a1 a2 a3 ct u.1 u.2.1 u.2.2.1 u.2.2.2.1 u.2.2.2.2.1 u.2.2.2.2.2) A t) A) args s 0 0 A) (F0 m 187 ls [.int is0]) := by
  intro H locs ls hP hS hl
  have X0 := X
  obtain ⟨⟨hx, hb, hml, hr, hlk, hown, hts⟩, hA, hK, hN⟩ := X0
  unfold wp_X0_told_L187 at w
  exact W.iret (v := is0) hx hb hr (fun t ht hW => ⟨⟨is0, (x, y, v0, v1, v2, v3), rfl, w, by rw [ht]; exact hP, va_K.moved hW.alike hK, (hD _ _ _ _ _ _)⟩, hS.F ht⟩) hS.2.2 dX0_told_187 hlk
set_option maxHeartbeats 4000000 in
set_option maxRecDepth 100000 in
theorem met_X0_told (l : Launch) (dC : Nat → ClassId) (dI : Nat → Nat → Nat) (ct : Nat → ClassId) (aX : Nat → Nat) (a0 : Nat → Nat) (a1 : Nat → Nat) (a2 : Nat → Nat) (a3 : Nat → Nat) (sz : Nat) {i1 : Int32} {x : V} {y : VL} {v0 : V} {v1 : V} {v2 : V} {v3 : V} {Post : Int32 → V → VL → V → V → V → V → Prop} (w : wp_X0_told i1 x y v0 v1 v2 v3 Post) : Met l yX0_told (ws_ yX0_told cX0_told 2 (some .int)) rm_X0_told (va_Pc [.ref (aX 0), .int i1] (fun U => WPre dC dI ct (XW aX a0 a1 a2 a3 ct x y v0 v1 v2 v3) sz U)) ((fun A => (va_Qi (fun (r : Int32) (u : V × VL × V × V × V × V) => Post r u.1 u.2.1 u.2.2.1 u.2.2.2.1 u.2.2.2.2.1 u.2.2.2.2.2) (fun (u : V × VL × V × V × V × V) t => WPos dC dI ct (XW aX a0 a1 a2 a3 ct u.1 u.2.1 u.2.2.1 u.2.2.2.1 u.2.2.2.2.1 u.2.2.2.2.2) A t) A)) (va_A (XW aX a0 a1 a2 a3 ct x y v0 v1 v2 v3) sz)) 0 0 (va_A (XW aX a0 a1 a2 a3 ct x y v0 v1 v2 v3) sz) := by
  refine open_W (fun A => (va_Qi (fun (r : Int32) (u : V × VL × V × V × V × V) => Post r u.1 u.2.1 u.2.2.1 u.2.2.2.1 u.2.2.2.2.1 u.2.2.2.2.2) (fun (u : V × VL × V × V × V × V) t => WPos dC dI ct (XW aX a0 a1 a2 a3 ct u.1 u.2.1 u.2.2.1 u.2.2.2.1 u.2.2.2.2.1 u.2.2.2.2.2) A t) A)) (by decide) (Nat.le_of_ble_eq_true rfl) ?_
  intro p e s m args below meth c ls A X hD0 hP hS hl
  have X0 := X
  obtain ⟨⟨hx, hb, hml, hr, hlk, hown, hts⟩, hA, hK, hN⟩ := X0
  have hD : ∀ (x' : V) (y' : VL) (v0' : V) (v1' : V) (v2' : V) (v3' : V), va_D A (XW aX a0 a1 a2 a3 ct x' y' v0' v1' v2' v3') := fun x' y' v0' v1' v2' v3' => va_D_addr hD0 rfl
  have hl : lv_has ls 2 [(0, .ref (aX 0)), (1, .int i1)] := hl
  unfold wp_X0_told at w
  have hS0 := hS
  refine lv_iload_n hx hb dX0_told_0 rfl (lv_at hl 1 rfl) ?_
  refine lv_bipush (v := 10) hx hb dX0_told_1 (by decide) ?_
  refine lv_icmp_lt (tgt := 64) hx hb dX0_told_3 (by decide) (fun c => ?_) (fun c => ?_)
  · have w := And.left w c
    refine lv_iload_n hx hb dX0_told_64 rfl (lv_at hl 1 rfl) ?_
    by_cases c1_0 : i1 = 0
    · have w := And.left w c1_0
      refine lv_tableIn (tgt := 112) hx hb dX0_told_65 (by rw [c1_0]; decide) (by rw [c1_0]; decide) (by rw [c1_0]; rfl) (by decide) ?_
      refine lv_aload_n hx hb dX0_told_112 rfl (lv_at hl 0 rfl) ?_
      refine va_get (D := (dC, dI)) (ci := 0) (v := .int (x 5 0)) (C := RX0) (T := TX0) (N := 14) hx hb hts in_X0 hown hK hP 0 rfl rfl 3 (by decide) (hts _ q131) (fun _ h9 => h9) rfl dX0_told_113 ?_
      exact W.iret (v := (x 5 0)) hx hb hr (fun t ht hW => ⟨⟨(x 5 0), (x, y, v0, v1, v2, v3), rfl, w, by rw [ht]; exact hP, va_K.moved hW.alike hK, (hD _ _ _ _ _ _)⟩, hS.F ht⟩) hS.2.2 dX0_told_116 hlk
    have w := And.right w c1_0
    by_cases c1_1 : i1 = 1
    · have w := And.left w c1_1
      refine lv_tableIn (tgt := 117) hx hb dX0_told_65 (by rw [c1_1]; decide) (by rw [c1_1]; decide) (by rw [c1_1]; rfl) (by decide) ?_
      exact wk_X0_told_L117 X hD  _ _ _ _ _ _ _ w _ _ _ hP hS (lv_sub hl [0, 1] rfl)
    have w := And.right w c1_1
    by_cases c1_2 : i1 = 2
    · have w := And.left w c1_2
      refine lv_tableIn (tgt := 117) hx hb dX0_told_65 (by rw [c1_2]; decide) (by rw [c1_2]; decide) (by rw [c1_2]; rfl) (by decide) ?_
      exact wk_X0_told_L117 X hD  _ _ _ _ _ _ _ w _ _ _ hP hS (lv_sub hl [0, 1] rfl)
    have w := And.right w c1_2
    by_cases c1_3 : i1 = 3
    · have w := And.left w c1_3
      refine lv_tableIn (tgt := 129) hx hb dX0_told_65 (by rw [c1_3]; decide) (by rw [c1_3]; decide) (by rw [c1_3]; rfl) (by decide) ?_
      refine lv_aload_n hx hb dX0_told_129 rfl (lv_at hl 0 rfl) ?_
      refine va_get (D := (dC, dI)) (ci := 0) (v := .ref (a0 0)) (C := RX0) (T := TX0) (N := 14) hx hb hts in_X0 hown hK hP 0 rfl rfl 0 (by decide) (hts _ q128) (fun _ h9 => h9) rfl dX0_told_130 ?_
      refine va_getN (D := (dC, dI)) (ci := 1) (v := .int (v0 14 0)) (C := RX1) (T := TX1) (N := 13) hx hb hts in_X1 hown hK hP 9 rfl rfl 6 (by decide) (va_Nw.use rfl hN.2.2.2.2.2.2.1) (fun _ h9 => h9) rfl dX0_told_133 ?_
      exact W.iret (v := (v0 14 0)) hx hb hr (fun t ht hW => ⟨⟨(v0 14 0), (x, y, v0, v1, v2, v3), rfl, w, by rw [ht]; exact hP, va_K.moved hW.alike hK, (hD _ _ _ _ _ _)⟩, hS.F ht⟩) hS.2.2 dX0_told_136 hlk
    have w := And.right w c1_3
    by_cases c1_4 : i1 = 4
    · have w := And.left w c1_4
      refine lv_tableIn (tgt := 137) hx hb dX0_told_65 (by rw [c1_4]; decide) (by rw [c1_4]; decide) (by rw [c1_4]; rfl) (by decide) ?_
      refine lv_aload_n hx hb dX0_told_137 rfl (lv_at hl 0 rfl) ?_
      refine va_get (D := (dC, dI)) (ci := 0) (v := .ref (a0 0)) (C := RX0) (T := TX0) (N := 14) hx hb hts in_X0 hown hK hP 0 rfl rfl 0 (by decide) (hts _ q128) (fun _ h9 => h9) rfl dX0_told_138 ?_
      refine va_getN (D := (dC, dI)) (ci := 1) (v := .int (v0 14 1)) (C := RX1) (T := TX1) (N := 13) hx hb hts in_X1 hown hK hP 9 rfl rfl 7 (by decide) (va_Nw.use rfl hN.2.2.2.2.2.2.2.1) (fun _ h9 => h9) rfl dX0_told_141 ?_
      exact W.iret (v := (v0 14 1)) hx hb hr (fun t ht hW => ⟨⟨(v0 14 1), (x, y, v0, v1, v2, v3), rfl, w, by rw [ht]; exact hP, va_K.moved hW.alike hK, (hD _ _ _ _ _ _)⟩, hS.F ht⟩) hS.2.2 dX0_told_144 hlk
    have w := And.right w c1_4
    by_cases c1_5 : i1 = 5
    · have w := And.left w c1_5
      refine lv_tableIn (tgt := 145) hx hb dX0_told_65 (by rw [c1_5]; decide) (by rw [c1_5]; decide) (by rw [c1_5]; rfl) (by decide) ?_
      refine lv_aload_n hx hb dX0_told_145 rfl (lv_at hl 0 rfl) ?_
      refine va_get (D := (dC, dI)) (ci := 0) (v := .ref (a0 0)) (C := RX0) (T := TX0) (N := 14) hx hb hts in_X0 hown hK hP 0 rfl rfl 0 (by decide) (hts _ q128) (fun _ h9 => h9) rfl dX0_told_146 ?_
      refine va_getN (D := (dC, dI)) (ci := 1) (v := .int (v0 14 2)) (C := RX1) (T := TX1) (N := 13) hx hb hts in_X1 hown hK hP 9 rfl rfl 8 (by decide) (va_Nw.use rfl hN.2.2.2.2.2.2.2.2.1) (fun _ h9 => h9) rfl dX0_told_149 ?_
      exact W.iret (v := (v0 14 2)) hx hb hr (fun t ht hW => ⟨⟨(v0 14 2), (x, y, v0, v1, v2, v3), rfl, w, by rw [ht]; exact hP, va_K.moved hW.alike hK, (hD _ _ _ _ _ _)⟩, hS.F ht⟩) hS.2.2 dX0_told_152 hlk
    have w := And.right w c1_5
    by_cases c1_6 : i1 = 6
    · have w := And.left w c1_6
      refine lv_tableIn (tgt := 153) hx hb dX0_told_65 (by rw [c1_6]; decide) (by rw [c1_6]; decide) (by rw [c1_6]; rfl) (by decide) ?_
      refine lv_aload_n hx hb dX0_told_153 rfl (lv_at hl 0 rfl) ?_
      refine va_get (D := (dC, dI)) (ci := 0) (v := .ref (a0 0)) (C := RX0) (T := TX0) (N := 14) hx hb hts in_X0 hown hK hP 0 rfl rfl 0 (by decide) (hts _ q128) (fun _ h9 => h9) rfl dX0_told_154 ?_
      have hPc := XW_g0 hP
      have hDc := XW_d0 (hD x y v0 v1 v2 v3)
      refine va_calli (va_runV (As := []) (rest := []) ⟨hx, hb, hml, hown, hts⟩ (met_X1_notes l dC dI ct a0 _ w) (cwV 0 hts (lw_V q319 q262 q263 q49 q264) rfl rfl rfl hd_X1_notes ⟨Nat.le_of_ble_eq_true rfl, Nat.le_of_ble_eq_true rfl⟩) (pre_V hK hPc hDc hN (va_recv hK hPc (ci := 1) (q0 := 0) rfl rfl)) rfl rfl hl.1 rfl (lv_room (Nat.le_of_ble_eq_true rfl)) dX0_told_157 ⟨Nat.le_refl _, Nat.le_refl _⟩) hS (fun q _ h => x_free hDc hS hA q h) (x_free hDc hS hA) (fun r2 v0_2 t H locs ht hvm w hB hz hk hS => ?_)
      have hP := XW_j0 hP (hD _ _ _ _ _ _) hk (post_P hB ht)
      have hP : va_P (dC, dI) vwCl (XW aX a0 a1 a2 a3 ct x y v0_2 v1 v2 v3) H := hP
      exact W.iret (v := r2) hx hb hr (fun t ht hW => ⟨⟨r2, (x, y, v0_2, v1, v2, v3), rfl, w, by rw [ht]; exact hP, va_K.moved hW.alike hK, (hD _ _ _ _ _ _)⟩, hS.F ht⟩) hS.2.2 dX0_told_160 hlk
    have w := And.right w c1_6
    by_cases c1_7 : i1 = 7
    · have w := And.left w c1_7
      refine lv_tableIn (tgt := 161) hx hb dX0_told_65 (by rw [c1_7]; decide) (by rw [c1_7]; decide) (by rw [c1_7]; rfl) (by decide) ?_
      refine lv_aload_n hx hb dX0_told_161 rfl (lv_at hl 0 rfl) ?_
      refine va_get (D := (dC, dI)) (ci := 0) (v := .ref (a0 0)) (C := RX0) (T := TX0) (N := 14) hx hb hts in_X0 hown hK hP 0 rfl rfl 0 (by decide) (hts _ q128) (fun _ h9 => h9) rfl dX0_told_162 ?_
      have hPc := XW_g0 hP
      have hDc := XW_d0 (hD x y v0 v1 v2 v3)
      refine va_calli (va_runV (As := []) (rest := []) ⟨hx, hb, hml, hown, hts⟩ (met_X1_land l dC dI ct a0 _ w) (cwV 0 hts (lw_V q320 q258 q259 q49 q260) rfl rfl rfl hd_X1_land ⟨Nat.le_of_ble_eq_true rfl, Nat.le_of_ble_eq_true rfl⟩) (pre_V hK hPc hDc hN (va_recv hK hPc (ci := 1) (q0 := 0) rfl rfl)) rfl rfl hl.1 rfl (lv_room (Nat.le_of_ble_eq_true rfl)) dX0_told_165 ⟨Nat.le_refl _, Nat.le_refl _⟩) hS (fun q _ h => x_free hDc hS hA q h) (x_free hDc hS hA) (fun r3 v0_3 t H locs ht hvm w hB hz hk hS => ?_)
      have hP := XW_j0 hP (hD _ _ _ _ _ _) hk (post_P hB ht)
      have hP : va_P (dC, dI) vwCl (XW aX a0 a1 a2 a3 ct x y v0_3 v1 v2 v3) H := hP
      exact W.iret (v := r3) hx hb hr (fun t ht hW => ⟨⟨r3, (x, y, v0_3, v1, v2, v3), rfl, w, by rw [ht]; exact hP, va_K.moved hW.alike hK, (hD _ _ _ _ _ _)⟩, hS.F ht⟩) hS.2.2 dX0_told_168 hlk
    have w := And.right w c1_7
    refine lv_tableOut (tgt := 169) hx hb dX0_told_65 (by have h0 := lv_neT c1_0 (a := 0) (by decide); have h1 := lv_neT c1_1 (a := 1) (by decide); have h2 := lv_neT c1_2 (a := 2) (by decide); have h3 := lv_neT c1_3 (a := 3) (by decide); have h4 := lv_neT c1_4 (a := 4) (by decide); have h5 := lv_neT c1_5 (a := 5) (by decide); have h6 := lv_neT c1_6 (a := 6) (by decide); have h7 := lv_neT c1_7 (a := 7) (by decide); omega) (by decide) ?_
    refine lv_iload_n hx hb dX0_told_169 rfl (lv_at hl 1 rfl) ?_
    refine lv_bipush (v := 8) hx hb dX0_told_170 (by decide) ?_
    refine lv_icmp_ne (tgt := 185) hx hb dX0_told_172 (by decide) (fun c => ?_) (fun c => ?_)
    · have w := And.right w c
      refine lv_bipush (v := -2) hx hb dX0_told_185 (by decide) ?_
      exact wk_X0_told_L187 X hD  _ _ _ _ _ _ _ w _ _ _ hP hS (lv_sub hl [] rfl)
    · have w := And.left w c
      refine lv_aload_n hx hb dX0_told_175 rfl (lv_at hl 0 rfl) ?_
      refine va_get (D := (dC, dI)) (ci := 0) (v := .ref (a0 0)) (C := RX0) (T := TX0) (N := 14) hx hb hts in_X0 hown hK hP 0 rfl rfl 0 (by decide) (hts _ q128) (fun _ h9 => h9) rfl dX0_told_176 ?_
      have hPc := XW_g0 hP
      have hDc := XW_d0 (hD x y v0 v1 v2 v3)
      refine va_calli (va_runV (As := []) (rest := []) ⟨hx, hb, hml, hown, hts⟩ (met_X1_rate l dC dI ct a0 _ w) (cwV 0 hts (lw_V q253 q254 q255 q49 q256) rfl rfl rfl hd_X1_rate ⟨Nat.le_of_ble_eq_true rfl, Nat.le_of_ble_eq_true rfl⟩) (pre_V hK hPc hDc hN (va_recv hK hPc (ci := 1) (q0 := 0) rfl rfl)) rfl rfl hl.1 rfl (lv_room (Nat.le_of_ble_eq_true rfl)) dX0_told_179 ⟨Nat.le_refl _, Nat.le_refl _⟩) hS (fun q _ h => x_free hDc hS hA q h) (x_free hDc hS hA) (fun r4 v0_4 t H locs ht hvm w hB hz hk hS => ?_)
      have hP := XW_j0 hP (hD _ _ _ _ _ _) hk (post_P hB ht)
      have hP : va_P (dC, dI) vwCl (XW aX a0 a1 a2 a3 ct x y v0_4 v1 v2 v3) H := hP
      refine lv_goto (tgt := 187) hx hb dX0_told_182 (by decide) ?_
      exact wk_X0_told_L187 X hD  _ _ _ _ _ _ _ w _ _ _ hP hS (lv_sub hl [] rfl)
  · have w := And.right w c
    refine lv_iload_n hx hb dX0_told_6 rfl (lv_at hl 1 rfl) ?_
    refine lv_sipush (v := 200) hx hb dX0_told_7 (by decide) ?_
    refine lv_icmp_lt (tgt := 25) hx hb dX0_told_10 (by decide) (fun c => ?_) (fun c => ?_)
    · have w := And.left w c
      refine lv_iload_n hx hb dX0_told_25 rfl (lv_at hl 1 rfl) ?_
      refine lv_bipush (v := 100) hx hb dX0_told_26 (by decide) ?_
      refine lv_icmp_lt (tgt := 49) hx hb dX0_told_28 (by decide) (fun c => ?_) (fun c => ?_)
      · have w := And.left w c
        refine lv_aload_n hx hb dX0_told_49 rfl (lv_at hl 0 rfl) ?_
        refine lv_iload_n hx hb dX0_told_50 rfl (lv_at hl 1 rfl) ?_
        refine lv_bipush (v := 10) hx hb dX0_told_51 (by decide) ?_
        refine lv_idiv hx hb dX0_told_53 (by decide) ?_
        refine lv_iconst (v := 1) hx hb dX0_told_54 (by decide) ?_
        refine lv_isub hx hb dX0_told_55 ?_
        refine lv_iload_n hx hb dX0_told_56 rfl (lv_at hl 1 rfl) ?_
        refine lv_bipush (v := 10) hx hb dX0_told_57 (by decide) ?_
        refine lv_irem hx hb dX0_told_59 (by decide) ?_
        refine va_calli (va_runV (As := [.int ((i1 / (10 : Int32)) - (1 : Int32)), .int (i1 - i1 / (10 : Int32) * (10 : Int32))]) (rest := []) ⟨hx, hb, hml, hown, hts⟩ (met_X0_toldOne l dC dI ct aX a0 a1 a2 a3 _ w) (cwV 2 hts (lw_V q448 q450 qs10 q48 q451) rfl rfl rfl hd_X0_toldOne ⟨Nat.le_of_ble_eq_true rfl, Nat.le_of_ble_eq_true rfl⟩) (pre_V hK hP (hD _ _ _ _ _ _) hN (va_recv hK hP (ci := 0) (q0 := 0) rfl rfl)) rfl rfl hl.1 rfl (lv_room (Nat.le_of_ble_eq_true rfl)) dX0_told_60 ⟨Nat.le_refl _, Nat.le_refl _⟩) hS (fun q _ h => x_free (hD _ _ _ _ _ _) hS hA q h) (x_free (hD _ _ _ _ _ _) hS hA) (fun r5 u t H locs ht hvm w hB hz hk hS => ?_)
        obtain ⟨x_5, y_5, v0_5, v1_5, v2_5, v3_5⟩ := u
        dsimp only at w
        have hP : va_P (dC, dI) vwCl (XW aX a0 a1 a2 a3 ct x_5 y_5 v0_5 v1_5 v2_5 v3_5) H := post_P hB ht
        exact wk_X0_told_L63 X hD  _ _ _ _ _ _ _ w _ _ _ hP hS (lv_sub hl [] rfl)
      · have w := And.right w c
        refine lv_aload_n hx hb dX0_told_31 rfl (lv_at hl 0 rfl) ?_
        refine lv_iload_n hx hb dX0_told_32 rfl (lv_at hl 1 rfl) ?_
        refine lv_bipush (v := 100) hx hb dX0_told_33 (by decide) ?_
        refine lv_isub hx hb dX0_told_35 ?_
        refine lv_bipush (v := 10) hx hb dX0_told_36 (by decide) ?_
        refine lv_idiv hx hb dX0_told_38 (by decide) ?_
        refine lv_iload_n hx hb dX0_told_39 rfl (lv_at hl 1 rfl) ?_
        refine lv_bipush (v := 10) hx hb dX0_told_40 (by decide) ?_
        refine lv_irem hx hb dX0_told_42 (by decide) ?_
        refine va_calli (va_runV (As := [.int ((i1 - (100 : Int32)) / (10 : Int32)), .int (i1 - i1 / (10 : Int32) * (10 : Int32))]) (rest := []) ⟨hx, hb, hml, hown, hts⟩ (met_X0_toldLot l dC dI ct aX a0 a1 a2 a3 _ w) (cwV 2 hts (lw_V q444 q446 qs9 q48 q447) rfl rfl rfl hd_X0_toldLot ⟨Nat.le_of_ble_eq_true rfl, Nat.le_of_ble_eq_true rfl⟩) (pre_V hK hP (hD _ _ _ _ _ _) hN (va_recv hK hP (ci := 0) (q0 := 0) rfl rfl)) rfl rfl hl.1 rfl (lv_room (Nat.le_of_ble_eq_true rfl)) dX0_told_43 ⟨Nat.le_refl _, Nat.le_refl _⟩) hS (fun q _ h => x_free (hD _ _ _ _ _ _) hS hA q h) (x_free (hD _ _ _ _ _ _) hS hA) (fun r6 u t H locs ht hvm w hB hz hk hS => ?_)
        obtain ⟨x_6, y_6, v0_6, v1_6, v2_6, v3_6⟩ := u
        dsimp only at w
        have hP : va_P (dC, dI) vwCl (XW aX a0 a1 a2 a3 ct x_6 y_6 v0_6 v1_6 v2_6 v3_6) H := post_P hB ht
        refine lv_goto (tgt := 63) hx hb dX0_told_46 (by decide) ?_
        exact wk_X0_told_L63 X hD  _ _ _ _ _ _ _ w _ _ _ hP hS (lv_sub hl [] rfl)
    · have w := And.right w c
      refine lv_aload_n hx hb dX0_told_13 rfl (lv_at hl 0 rfl) ?_
      refine lv_iload_n hx hb dX0_told_14 rfl (lv_at hl 1 rfl) ?_
      refine lv_sipush (v := 200) hx hb dX0_told_15 (by decide) ?_
      refine lv_isub hx hb dX0_told_18 ?_
      refine va_calli (va_runV (As := [.int (i1 - (200 : Int32))]) (rest := []) ⟨hx, hb, hml, hown, hts⟩ (met_X0_toldTwo l dC dI ct aX a0 a1 a2 a3 _ w) (cwV 1 hts (lw_V q440 q442 qs8 q48 q443) rfl rfl rfl hd_X0_toldTwo ⟨Nat.le_of_ble_eq_true rfl, Nat.le_of_ble_eq_true rfl⟩) (pre_V hK hP (hD _ _ _ _ _ _) hN (va_recv hK hP (ci := 0) (q0 := 0) rfl rfl)) rfl rfl hl.1 rfl (lv_room (Nat.le_of_ble_eq_true rfl)) dX0_told_19 ⟨Nat.le_refl _, Nat.le_refl _⟩) hS (fun q _ h => x_free (hD _ _ _ _ _ _) hS hA q h) (x_free (hD _ _ _ _ _ _) hS hA) (fun r7 u t H locs ht hvm w hB hz hk hS => ?_)
      obtain ⟨x_7, y_7, v0_7, v1_7, v2_7, v3_7⟩ := u
      dsimp only at w
      have hP : va_P (dC, dI) vwCl (XW aX a0 a1 a2 a3 ct x_7 y_7 v0_7 v1_7 v2_7 v3_7) H := post_P hB ht
      refine lv_goto (tgt := 63) hx hb dX0_told_22 (by decide) ?_
      exact wk_X0_told_L63 X hD  _ _ _ _ _ _ _ w _ _ _ hP hS (lv_sub hl [] rfl)
