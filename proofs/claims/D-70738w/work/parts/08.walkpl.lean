abbrev rm_X0_isIn : Room := { frames := 0, cells := 0, slots := 0, locals := 0 }
theorem hd_X0_isIn : yX0_isIn.cls ≠ "java/lang/invoke/MethodHandle" ∧ yX0_isIn.cls ≠ "java/lang/invoke/VarHandle" ∧ (parseMethodDescriptor yX0_isIn.desc).map (fun d => d.parameters.length) = some 3 := by decide +kernel
set_option maxHeartbeats 4000000 in
set_option maxRecDepth 100000 in
theorem wk_X0_isIn_L15 {p : Program} {l : Launch} {e : Env} {s : State} {m : MethodId} {args : Array Value} {below : List Frame} {meth : Method} {c : Code}   {Post : Int32 → Prop}   (X : CxP p s m args meth c cX0_isIn 3 (some .boolean) RX0)   (is0 : Int32) (w : wp_X0_isIn_L15  Post  is0) : ∀ (ls : Array Slot), lv_has ls 3 [] → W p l e rm_X0_isIn s m args below meth c s.heap [] 0 0 (MQ below (vp_Si Post) args s 0 0 (fun _ => False)) (F0 m 15 ls [.int is0]) := by
  intro ls hl
  have X0 := X
  obtain ⟨hx, hb, hml, hr, hlk, hown, hts⟩ := X0
  unfold wp_X0_isIn_L15 at w
  obtain ⟨gn, w⟩ := w
  exact W.zret (v := is0) hx hb hr gn (fun t ht hW => ⟨is0, rfl, w, ht⟩) (fun _ h => by cases h) dX0_isIn_15 hlk
set_option maxHeartbeats 4000000 in
set_option maxRecDepth 100000 in
theorem wk_X0_isIn_L14 {p : Program} {l : Launch} {e : Env} {s : State} {m : MethodId} {args : Array Value} {below : List Frame} {meth : Method} {c : Code}   {Post : Int32 → Prop}   (X : CxP p s m args meth c cX0_isIn 3 (some .boolean) RX0)    (w : wp_X0_isIn_L14  Post  ) : ∀ (ls : Array Slot), lv_has ls 3 [] → W p l e rm_X0_isIn s m args below meth c s.heap [] 0 0 (MQ below (vp_Si Post) args s 0 0 (fun _ => False)) (F0 m 14 ls []) := by
  intro ls hl
  have X0 := X
  obtain ⟨hx, hb, hml, hr, hlk, hown, hts⟩ := X0
  unfold wp_X0_isIn_L14 at w
  refine lv_iconst (v := 0) hx hb dX0_isIn_14 (by decide) ?_
  exact wk_X0_isIn_L15 X  _ w _ (lv_sub hl [] rfl)
set_option maxHeartbeats 4000000 in
set_option maxRecDepth 100000 in
theorem met_X0_isIn (l : Launch) {i0 : Int32} {i1 : Int32} {i2 : Int32} {Post : Int32 → Prop} (w : wp_X0_isIn i0 i1 i2 Post) : Met l yX0_isIn (ws_ yX0_isIn cX0_isIn 3 (some .boolean)) rm_X0_isIn (va_Pc [.int i0, .int i1, .int i2] (fun _ => True)) (vp_Si Post) 0 0 (fun _ => False) := by
  refine open_P (by decide) (Nat.le_of_ble_eq_true rfl) ?_
  intro p e s m args below meth c ls X hl
  have X0 := X
  obtain ⟨hx, hb, hml, hr, hlk, hown, hts⟩ := X0
  have hl : lv_has ls 3 [(0, .int i0), (1, .int i1), (2, .int i2)] := hl
  unfold wp_X0_isIn at w
  refine lv_iload_n hx hb dX0_isIn_0 rfl (lv_at hl 0 rfl) ?_
  refine lv_iload_n hx hb dX0_isIn_1 rfl (lv_at hl 1 rfl) ?_
  refine lv_icmp_lt (tgt := 14) hx hb dX0_isIn_2 (by decide) (fun c => ?_) (fun c => ?_)
  · have w := And.left w c
    exact wk_X0_isIn_L14 X   w _ (lv_sub hl [] rfl)
  · have w := And.right w c
    refine lv_iload_n hx hb dX0_isIn_5 rfl (lv_at hl 0 rfl) ?_
    refine lv_iload_n hx hb dX0_isIn_6 rfl (lv_at hl 2 rfl) ?_
    refine lv_icmp_gt (tgt := 14) hx hb dX0_isIn_7 (by decide) (fun c => ?_) (fun c => ?_)
    · have w := And.left w c
      exact wk_X0_isIn_L14 X   w _ (lv_sub hl [] rfl)
    · have w := And.right w c
      refine lv_iconst (v := 1) hx hb dX0_isIn_10 (by decide) ?_
      refine lv_goto (tgt := 15) hx hb dX0_isIn_11 (by decide) ?_
      exact wk_X0_isIn_L15 X  _ w _ (lv_sub hl [] rfl)
abbrev rm_X0_isOne : Room := { frames := 1, cells := 0, slots := 0, locals := 22 }
theorem hd_X0_isOne : yX0_isOne.cls ≠ "java/lang/invoke/MethodHandle" ∧ yX0_isOne.cls ≠ "java/lang/invoke/VarHandle" ∧ (parseMethodDescriptor yX0_isOne.desc).map (fun d => d.parameters.length) = some 1 := by decide +kernel
set_option maxHeartbeats 4000000 in
set_option maxRecDepth 100000 in
theorem met_X0_isOne (l : Launch) {i0 : Int32} {Post : Int32 → Prop} (w : wp_X0_isOne i0 Post) : Met l yX0_isOne (ws_ yX0_isOne cX0_isOne 1 (some .boolean)) rm_X0_isOne (va_Pc [.int i0] (fun _ => True)) (vp_Si Post) 0 0 (fun _ => False) := by
  refine open_P (by decide) (Nat.le_of_ble_eq_true rfl) ?_
  intro p e s m args below meth c ls X hl
  have X0 := X
  obtain ⟨hx, hb, hml, hr, hlk, hown, hts⟩ := X0
  have hl : lv_has ls 1 [(0, .int i0)] := hl
  unfold wp_X0_isOne at w
  refine lv_iload_n hx hb dX0_isOne_0 rfl (lv_at hl 0 rfl) ?_
  refine lv_iconst (v := 0) hx hb dX0_isOne_1 (by decide) ?_
  refine lv_iconst (v := 5) hx hb dX0_isOne_2 (by decide) ?_
  refine vp_callSi (W.runS (As := [.int i0, .int (0 : Int32), .int (5 : Int32)]) (rest := []) ⟨hx, hb, hml, hown, hts⟩ (met_X0_isIn l w) (va_cwS 3 hts (lw_S q180 q181 q48 q182) rfl rfl rfl hd_X0_isIn ⟨Nat.le_of_ble_eq_true rfl, Nat.le_of_ble_eq_true rfl⟩) pre_S rfl rfl hl.1 rfl (lv_room (Nat.le_of_ble_eq_true rfl)) dX0_isOne_3 ⟨Nat.le_refl _, Nat.le_refl _⟩) (fun r1 w => ?_)
  obtain ⟨gn, w⟩ := w
  exact W.zret (v := r1) hx hb hr gn (fun t ht hW => ⟨r1, rfl, w, ht⟩) (fun _ h => by cases h) dX0_isOne_6 hlk
abbrev rm_X0_areTwo : Room := { frames := 2, cells := 0, slots := 0, locals := 42 }
theorem hd_X0_areTwo : yX0_areTwo.cls ≠ "java/lang/invoke/MethodHandle" ∧ yX0_areTwo.cls ≠ "java/lang/invoke/VarHandle" ∧ (parseMethodDescriptor yX0_areTwo.desc).map (fun d => d.parameters.length) = some 2 := by decide +kernel
set_option maxHeartbeats 4000000 in
set_option maxRecDepth 100000 in
theorem wk_X0_areTwo_L24 {p : Program} {l : Launch} {e : Env} {s : State} {m : MethodId} {args : Array Value} {below : List Frame} {meth : Method} {c : Code}   {Post : Int32 → Prop}   (X : CxP p s m args meth c cX0_areTwo 2 (some .boolean) RX0)   (is0 : Int32) (w : wp_X0_areTwo_L24  Post  is0) : ∀ (ls : Array Slot), lv_has ls 2 [] → W p l e rm_X0_areTwo s m args below meth c s.heap [] 0 0 (MQ below (vp_Si Post) args s 0 0 (fun _ => False)) (F0 m 24 ls [.int is0]) := by
  intro ls hl
  have X0 := X
  obtain ⟨hx, hb, hml, hr, hlk, hown, hts⟩ := X0
  unfold wp_X0_areTwo_L24 at w
  obtain ⟨gn, w⟩ := w
  exact W.zret (v := is0) hx hb hr gn (fun t ht hW => ⟨is0, rfl, w, ht⟩) (fun _ h => by cases h) dX0_areTwo_24 hlk
set_option maxHeartbeats 4000000 in
set_option maxRecDepth 100000 in
theorem wk_X0_areTwo_L23 {p : Program} {l : Launch} {e : Env} {s : State} {m : MethodId} {args : Array Value} {below : List Frame} {meth : Method} {c : Code}   {Post : Int32 → Prop}   (X : CxP p s m args meth c cX0_areTwo 2 (some .boolean) RX0)    (w : wp_X0_areTwo_L23  Post  ) : ∀ (ls : Array Slot), lv_has ls 2 [] → W p l e rm_X0_areTwo s m args below meth c s.heap [] 0 0 (MQ below (vp_Si Post) args s 0 0 (fun _ => False)) (F0 m 23 ls []) := by
  intro ls hl
  have X0 := X
  obtain ⟨hx, hb, hml, hr, hlk, hown, hts⟩ := X0
  unfold wp_X0_areTwo_L23 at w
  refine lv_iconst (v := 0) hx hb dX0_areTwo_23 (by decide) ?_
  exact wk_X0_areTwo_L24 X  _ w _ (lv_sub hl [] rfl)
set_option maxHeartbeats 4000000 in
set_option maxRecDepth 100000 in
theorem met_X0_areTwo (l : Launch) {i0 : Int32} {i1 : Int32} {Post : Int32 → Prop} (w : wp_X0_areTwo i0 i1 Post) : Met l yX0_areTwo (ws_ yX0_areTwo cX0_areTwo 2 (some .boolean)) rm_X0_areTwo (va_Pc [.int i0, .int i1] (fun _ => True)) (vp_Si Post) 0 0 (fun _ => False) := by
  refine open_P (by decide) (Nat.le_of_ble_eq_true rfl) ?_
  intro p e s m args below meth c ls X hl
  have X0 := X
  obtain ⟨hx, hb, hml, hr, hlk, hown, hts⟩ := X0
  have hl : lv_has ls 2 [(0, .int i0), (1, .int i1)] := hl
  unfold wp_X0_areTwo at w
  refine lv_iload_n hx hb dX0_areTwo_0 rfl (lv_at hl 0 rfl) ?_
  refine vp_callSi (W.runS (As := [.int i0]) (rest := []) ⟨hx, hb, hml, hown, hts⟩ (met_X0_isOne l w) (va_cwS 1 hts (lw_S q177 q178 q48 q179) rfl rfl rfl hd_X0_isOne ⟨Nat.le_of_ble_eq_true rfl, Nat.le_of_ble_eq_true rfl⟩) pre_S rfl rfl hl.1 rfl (lv_room (Nat.le_of_ble_eq_true rfl)) dX0_areTwo_1 ⟨Nat.le_refl _, Nat.le_refl _⟩) (fun r1 w => ?_)
  refine lv_if_eq (tgt := 23) hx hb dX0_areTwo_4 (by decide) (fun c => ?_) (fun c => ?_)
  · have w := And.left w c
    exact wk_X0_areTwo_L23 X   w _ (lv_sub hl [] rfl)
  · have w := And.right w c
    refine lv_iload_n hx hb dX0_areTwo_7 rfl (lv_at hl 1 rfl) ?_
    refine vp_callSi (W.runS (As := [.int i1]) (rest := []) ⟨hx, hb, hml, hown, hts⟩ (met_X0_isOne l w) (va_cwS 1 hts (lw_S q177 q178 q48 q179) rfl rfl rfl hd_X0_isOne ⟨Nat.le_of_ble_eq_true rfl, Nat.le_of_ble_eq_true rfl⟩) pre_S rfl rfl hl.1 rfl (lv_room (Nat.le_of_ble_eq_true rfl)) dX0_areTwo_8 ⟨Nat.le_refl _, Nat.le_refl _⟩) (fun r2 w => ?_)
    refine lv_if_eq (tgt := 23) hx hb dX0_areTwo_11 (by decide) (fun c => ?_) (fun c => ?_)
    · have w := And.left w c
      exact wk_X0_areTwo_L23 X   w _ (lv_sub hl [] rfl)
    · have w := And.right w c
      refine lv_iload_n hx hb dX0_areTwo_14 rfl (lv_at hl 0 rfl) ?_
      refine lv_iload_n hx hb dX0_areTwo_15 rfl (lv_at hl 1 rfl) ?_
      refine lv_icmp_eq (tgt := 23) hx hb dX0_areTwo_16 (by decide) (fun c => ?_) (fun c => ?_)
      · have w := And.left w c
        exact wk_X0_areTwo_L23 X   w _ (lv_sub hl [] rfl)
      · have w := And.right w c
        refine lv_iconst (v := 1) hx hb dX0_areTwo_19 (by decide) ?_
        refine lv_goto (tgt := 24) hx hb dX0_areTwo_20 (by decide) ?_
        exact wk_X0_areTwo_L24 X  _ w _ (lv_sub hl [] rfl)
abbrev rm_X0_isLot : Room := { frames := 1, cells := 0, slots := 0, locals := 22 }
theorem hd_X0_isLot : yX0_isLot.cls ≠ "java/lang/invoke/MethodHandle" ∧ yX0_isLot.cls ≠ "java/lang/invoke/VarHandle" ∧ (parseMethodDescriptor yX0_isLot.desc).map (fun d => d.parameters.length) = some 1 := by decide +kernel
set_option maxHeartbeats 4000000 in
set_option maxRecDepth 100000 in
theorem met_X0_isLot (l : Launch) {i0 : Int32} {Post : Int32 → Prop} (w : wp_X0_isLot i0 Post) : Met l yX0_isLot (ws_ yX0_isLot cX0_isLot 1 (some .boolean)) rm_X0_isLot (va_Pc [.int i0] (fun _ => True)) (vp_Si Post) 0 0 (fun _ => False) := by
  refine open_P (by decide) (Nat.le_of_ble_eq_true rfl) ?_
  intro p e s m args below meth c ls X hl
  have X0 := X
  obtain ⟨hx, hb, hml, hr, hlk, hown, hts⟩ := X0
  have hl : lv_has ls 1 [(0, .int i0)] := hl
  unfold wp_X0_isLot at w
  refine lv_iload_n hx hb dX0_isLot_0 rfl (lv_at hl 0 rfl) ?_
  refine lv_iconst (v := 0) hx hb dX0_isLot_1 (by decide) ?_
  refine lv_bipush (v := 7) hx hb dX0_isLot_2 (by decide) ?_
  refine vp_callSi (W.runS (As := [.int i0, .int (0 : Int32), .int (7 : Int32)]) (rest := []) ⟨hx, hb, hml, hown, hts⟩ (met_X0_isIn l w) (va_cwS 3 hts (lw_S q180 q181 q48 q182) rfl rfl rfl hd_X0_isIn ⟨Nat.le_of_ble_eq_true rfl, Nat.le_of_ble_eq_true rfl⟩) pre_S rfl rfl hl.1 rfl (lv_room (Nat.le_of_ble_eq_true rfl)) dX0_isLot_4 ⟨Nat.le_refl _, Nat.le_refl _⟩) (fun r1 w => ?_)
  obtain ⟨gn, w⟩ := w
  exact W.zret (v := r1) hx hb hr gn (fun t ht hW => ⟨r1, rfl, w, ht⟩) (fun _ h => by cases h) dX0_isLot_7 hlk
abbrev rm_X0_step : Room := { frames := 2, cells := 0, slots := 0, locals := 42 }
theorem hd_X0_step : yX0_step.cls ≠ "java/lang/invoke/MethodHandle" ∧ yX0_step.cls ≠ "java/lang/invoke/VarHandle" ∧ (parseMethodDescriptor yX0_step.desc).map (fun d => d.parameters.length) = some 2 := by decide +kernel
set_option maxHeartbeats 4000000 in
set_option maxRecDepth 100000 in
theorem wk_X0_step_L88 {p : Program} {l : Launch} {e : Env} {s : State} {m : MethodId} {args : Array Value} {below : List Frame} {meth : Method} {c : Code}   {Post : Int32 → Prop}   (X : CxP p s m args meth c cX0_step 3 (some .int) RX0)   (is0 : Int32) (w : wp_X0_step_L88  Post  is0) : ∀ (ls : Array Slot), lv_has ls 3 [] → W p l e rm_X0_step s m args below meth c s.heap [] 0 0 (MQ below (vp_Si Post) args s 0 0 (fun _ => False)) (F0 m 88 ls [.int is0]) := by
  intro ls hl
  have X0 := X
  obtain ⟨hx, hb, hml, hr, hlk, hown, hts⟩ := X0
  unfold wp_X0_step_L88 at w
  exact W.iret (v := is0) hx hb hr (fun t ht hW => ⟨is0, rfl, w, ht⟩) (fun _ h => by cases h) dX0_step_88 hlk
set_option maxHeartbeats 4000000 in
set_option maxRecDepth 100000 in
theorem wk_X0_step_L127 {p : Program} {l : Launch} {e : Env} {s : State} {m : MethodId} {args : Array Value} {below : List Frame} {meth : Method} {c : Code}   {Post : Int32 → Prop}   (X : CxP p s m args meth c cX0_step 3 (some .int) RX0)   (is0 : Int32) (w : wp_X0_step_L127  Post  is0) : ∀ (ls : Array Slot), lv_has ls 3 [] → W p l e rm_X0_step s m args below meth c s.heap [] 0 0 (MQ below (vp_Si Post) args s 0 0 (fun _ => False)) (F0 m 127 ls [.int is0]) := by
  intro ls hl
  have X0 := X
  obtain ⟨hx, hb, hml, hr, hlk, hown, hts⟩ := X0
  unfold wp_X0_step_L127 at w
  exact W.iret (v := is0) hx hb hr (fun t ht hW => ⟨is0, rfl, w, ht⟩) (fun _ h => by cases h) dX0_step_127 hlk
set_option maxHeartbeats 4000000 in
set_option maxRecDepth 100000 in
theorem wk_X0_step_L111 {p : Program} {l : Launch} {e : Env} {s : State} {m : MethodId} {args : Array Value} {below : List Frame} {meth : Method} {c : Code}   {Post : Int32 → Prop}   (X : CxP p s m args meth c cX0_step 3 (some .int) RX0)    (w : wp_X0_step_L111  Post  ) : ∀ (ls : Array Slot), lv_has ls 3 [] → W p l e rm_X0_step s m args below meth c s.heap [] 0 0 (MQ below (vp_Si Post) args s 0 0 (fun _ => False)) (F0 m 111 ls []) := by
  intro ls hl
  have X0 := X
  obtain ⟨hx, hb, hml, hr, hlk, hown, hts⟩ := X0
  unfold wp_X0_step_L111 at w
  refine lv_iconst (v := 2) hx hb dX0_step_111 (by decide) ?_
  refine lv_goto (tgt := 127) hx hb dX0_step_112 (by decide) ?_
  exact wk_X0_step_L127 X  _ w _ (lv_sub hl [] rfl)
set_option maxHeartbeats 4000000 in
set_option maxRecDepth 100000 in
theorem wk_X0_step_L145 {p : Program} {l : Launch} {e : Env} {s : State} {m : MethodId} {args : Array Value} {below : List Frame} {meth : Method} {c : Code}   {Post : Int32 → Prop}   (X : CxP p s m args meth c cX0_step 3 (some .int) RX0)   (is0 : Int32) (w : wp_X0_step_L145  Post  is0) : ∀ (ls : Array Slot), lv_has ls 3 [] → W p l e rm_X0_step s m args below meth c s.heap [] 0 0 (MQ below (vp_Si Post) args s 0 0 (fun _ => False)) (F0 m 145 ls [.int is0]) := by
  intro ls hl
  have X0 := X
  obtain ⟨hx, hb, hml, hr, hlk, hown, hts⟩ := X0
  unfold wp_X0_step_L145 at w
  exact W.iret (v := is0) hx hb hr (fun t ht hW => ⟨is0, rfl, w, ht⟩) (fun _ h => by cases h) dX0_step_145 hlk
set_option maxHeartbeats 4000000 in
set_option maxRecDepth 100000 in
theorem wk_X0_step_L163 {p : Program} {l : Launch} {e : Env} {s : State} {m : MethodId} {args : Array Value} {below : List Frame} {meth : Method} {c : Code}   {Post : Int32 → Prop}   (X : CxP p s m args meth c cX0_step 3 (some .int) RX0)   (is0 : Int32) (w : wp_X0_step_L163  Post  is0) : ∀ (ls : Array Slot), lv_has ls 3 [] → W p l e rm_X0_step s m args below meth c s.heap [] 0 0 (MQ below (vp_Si Post) args s 0 0 (fun _ => False)) (F0 m 163 ls [.int is0]) := by
  intro ls hl
  have X0 := X
  obtain ⟨hx, hb, hml, hr, hlk, hown, hts⟩ := X0
  unfold wp_X0_step_L163 at w
  exact W.iret (v := is0) hx hb hr (fun t ht hW => ⟨is0, rfl, w, ht⟩) (fun _ h => by cases h) dX0_step_163 hlk
set_option maxHeartbeats 4000000 in
set_option maxRecDepth 100000 in
theorem wk_X0_step_L174 {p : Program} {l : Launch} {e : Env} {s : State} {m : MethodId} {args : Array Value} {below : List Frame} {meth : Method} {c : Code}   {Post : Int32 → Prop}   (X : CxP p s m args meth c cX0_step 3 (some .int) RX0)   (is0 : Int32) (w : wp_X0_step_L174  Post  is0) : ∀ (ls : Array Slot), lv_has ls 3 [] → W p l e rm_X0_step s m args below meth c s.heap [] 0 0 (MQ below (vp_Si Post) args s 0 0 (fun _ => False)) (F0 m 174 ls [.int is0]) := by
  intro ls hl
  have X0 := X
  obtain ⟨hx, hb, hml, hr, hlk, hown, hts⟩ := X0
  unfold wp_X0_step_L174 at w
  exact W.iret (v := is0) hx hb hr (fun t ht hW => ⟨is0, rfl, w, ht⟩) (fun _ h => by cases h) dX0_step_174 hlk
set_option maxHeartbeats 4000000 in
set_option maxRecDepth 100000 in
theorem wk_X0_step_L185 {p : Program} {l : Launch} {e : Env} {s : State} {m : MethodId} {args : Array Value} {below : List Frame} {meth : Method} {c : Code}   {Post : Int32 → Prop}   (X : CxP p s m args meth c cX0_step 3 (some .int) RX0)   (is0 : Int32) (w : wp_X0_step_L185  Post  is0) : ∀ (ls : Array Slot), lv_has ls 3 [] → W p l e rm_X0_step s m args below meth c s.heap [] 0 0 (MQ below (vp_Si Post) args s 0 0 (fun _ => False)) (F0 m 185 ls [.int is0]) := by
  intro ls hl
  have X0 := X
  obtain ⟨hx, hb, hml, hr, hlk, hown, hts⟩ := X0
  unfold wp_X0_step_L185 at w
  exact W.iret (v := is0) hx hb hr (fun t ht hW => ⟨is0, rfl, w, ht⟩) (fun _ h => by cases h) dX0_step_185 hlk
set_option maxHeartbeats 4000000 in
set_option maxRecDepth 100000 in
theorem wk_X0_step_L175 {p : Program} {l : Launch} {e : Env} {s : State} {m : MethodId} {args : Array Value} {below : List Frame} {meth : Method} {c : Code}   {Post : Int32 → Prop}   (X : CxP p s m args meth c cX0_step 3 (some .int) RX0)   (i2 : Int32) (w : wp_X0_step_L175  Post  i2) : ∀ (ls : Array Slot), lv_has ls 3 [(2, .int i2)] → W p l e rm_X0_step s m args below meth c s.heap [] 0 0 (MQ below (vp_Si Post) args s 0 0 (fun _ => False)) (F0 m 175 ls []) := by
  intro ls hl
  have X0 := X
  obtain ⟨hx, hb, hml, hr, hlk, hown, hts⟩ := X0
  unfold wp_X0_step_L175 at w
  refine lv_iload_n hx hb dX0_step_175 rfl (lv_at hl 0 rfl) ?_
  refine lv_if_eq (tgt := 183) hx hb dX0_step_176 (by decide) (fun c => ?_) (fun c => ?_)
  · have w := And.left w c
    refine lv_bipush (v := -6) hx hb dX0_step_183 (by decide) ?_
    exact wk_X0_step_L185 X  _ w _ (lv_sub hl [] rfl)
  · have w := And.right w c
    refine lv_iconst (v := 0) hx hb dX0_step_179 (by decide) ?_
    refine lv_goto (tgt := 185) hx hb dX0_step_180 (by decide) ?_
    exact wk_X0_step_L185 X  _ w _ (lv_sub hl [] rfl)
set_option maxHeartbeats 4000000 in
set_option maxRecDepth 100000 in
theorem met_X0_step (l : Launch) {i0 : Int32} {i1 : Int32} {Post : Int32 → Prop} (w : wp_X0_step i0 i1 Post) : Met l yX0_step (ws_ yX0_step cX0_step 3 (some .int)) rm_X0_step (va_Pc [.int i0, .int i1] (fun _ => True)) (vp_Si Post) 0 0 (fun _ => False) := by
  refine open_P (by decide) (Nat.le_of_ble_eq_true rfl) ?_
  intro p e s m args below meth c ls X hl
  have X0 := X
  obtain ⟨hx, hb, hml, hr, hlk, hown, hts⟩ := X0
  have hl : lv_has ls 3 [(0, .int i0), (1, .int i1)] := hl
  unfold wp_X0_step at w
  refine lv_iload_n hx hb dX0_step_0 rfl (lv_at hl 1 rfl) ?_
  refine lv_bipush (v := 65) hx hb dX0_step_1 (by decide) ?_
  refine lv_isub hx hb dX0_step_3 ?_
  refine vp_callSi (W.runS (As := [.int (i1 - (65 : Int32))]) (rest := []) ⟨hx, hb, hml, hown, hts⟩ (met_X0_isOne l w) (va_cwS 1 hts (lw_S q177 q178 q48 q179) rfl rfl rfl hd_X0_isOne ⟨Nat.le_of_ble_eq_true rfl, Nat.le_of_ble_eq_true rfl⟩) pre_S rfl rfl hl.1 rfl (lv_room (Nat.le_of_ble_eq_true rfl)) dX0_step_4 ⟨Nat.le_refl _, Nat.le_refl _⟩) (fun r1 w => ?_)
  refine lv_istore_n (lv' := [(2, .int r1), (0, .int i0), (1, .int i1)]) hx hb dX0_step_7 rfl hl (by decide) rfl (fun ls hl => ?_)
  refine lv_iload_n hx hb dX0_step_8 rfl (lv_at hl 1 rfl) ?_
  by_cases c2_0 : i0 = 0
  · have w := And.left w c2_0
    refine lv_tableIn (tgt := 48) hx hb dX0_step_9 (by rw [c2_0]; decide) (by rw [c2_0]; decide) (by rw [c2_0]; rfl) (by decide) ?_
    refine lv_iload_n hx hb dX0_step_48 rfl (lv_at hl 0 rfl) ?_
    refine lv_if_eq (tgt := 56) hx hb dX0_step_49 (by decide) (fun c => ?_) (fun c => ?_)
    · have w := And.left w c
      refine lv_iload_n hx hb dX0_step_56 rfl (lv_at hl 2 rfl) ?_
      refine lv_bipush (v := 43) hx hb dX0_step_57 (by decide) ?_
      refine lv_icmp_ne (tgt := 66) hx hb dX0_step_59 (by decide) (fun c => ?_) (fun c => ?_)
      · have w := And.right w c
        refine lv_iload_n hx hb dX0_step_66 rfl (lv_at hl 2 rfl) ?_
        refine lv_bipush (v := 33) hx hb dX0_step_67 (by decide) ?_
        refine lv_icmp_ne (tgt := 76) hx hb dX0_step_69 (by decide) (fun c => ?_) (fun c => ?_)
        · have w := And.right w c
          refine lv_iload_n hx hb dX0_step_76 rfl (lv_at hl 2 rfl) ?_
          refine lv_bipush (v := 46) hx hb dX0_step_77 (by decide) ?_
          refine lv_icmp_ne (tgt := 86) hx hb dX0_step_79 (by decide) (fun c => ?_) (fun c => ?_)
          · have w := And.right w c
            refine lv_bipush (v := -6) hx hb dX0_step_86 (by decide) ?_
            exact wk_X0_step_L88 X  _ w _ (lv_sub hl [] rfl)
          · have w := And.left w c
            refine lv_iconst (v := 0) hx hb dX0_step_82 (by decide) ?_
            refine lv_goto (tgt := 88) hx hb dX0_step_83 (by decide) ?_
            exact wk_X0_step_L88 X  _ w _ (lv_sub hl [] rfl)
        · have w := And.left w c
          refine lv_iconst (v := 5) hx hb dX0_step_72 (by decide) ?_
          refine lv_goto (tgt := 88) hx hb dX0_step_73 (by decide) ?_
          exact wk_X0_step_L88 X  _ w _ (lv_sub hl [] rfl)
      · have w := And.left w c
        refine lv_iconst (v := 2) hx hb dX0_step_62 (by decide) ?_
        refine lv_goto (tgt := 88) hx hb dX0_step_63 (by decide) ?_
        exact wk_X0_step_L88 X  _ w _ (lv_sub hl [] rfl)
    · have w := And.right w c
      refine lv_iconst (v := 1) hx hb dX0_step_52 (by decide) ?_
      refine lv_goto (tgt := 88) hx hb dX0_step_53 (by decide) ?_
      exact wk_X0_step_L88 X  _ w _ (lv_sub hl [] rfl)
  have w := And.right w c2_0
  by_cases c2_1 : i0 = 1
  · have w := And.left w c2_1
    refine lv_tableIn (tgt := 89) hx hb dX0_step_9 (by rw [c2_1]; decide) (by rw [c2_1]; decide) (by rw [c2_1]; rfl) (by decide) ?_
    refine lv_iload_n hx hb dX0_step_89 rfl (lv_at hl 2 rfl) ?_
    refine lv_bipush (v := 36) hx hb dX0_step_90 (by decide) ?_
    refine lv_icmp_ne (tgt := 99) hx hb dX0_step_92 (by decide) (fun c => ?_) (fun c => ?_)
    · have w := And.right w c
      refine lv_iload_n hx hb dX0_step_99 rfl (lv_at hl 2 rfl) ?_
      refine lv_bipush (v := 47) hx hb dX0_step_100 (by decide) ?_
      refine lv_icmp_eq (tgt := 111) hx hb dX0_step_102 (by decide) (fun c => ?_) (fun c => ?_)
      · have w := And.left w c
        exact wk_X0_step_L111 X   w _ (lv_sub hl [] rfl)
      · have w := And.right w c
        refine lv_iload_n hx hb dX0_step_105 rfl (lv_at hl 2 rfl) ?_
        refine lv_bipush (v := 64) hx hb dX0_step_106 (by decide) ?_
        refine lv_icmp_ne (tgt := 115) hx hb dX0_step_108 (by decide) (fun c => ?_) (fun c => ?_)
        · have w := And.right w c
          refine lv_iload_n hx hb dX0_step_115 rfl (lv_at hl 2 rfl) ?_
          refine lv_bipush (v := 62) hx hb dX0_step_116 (by decide) ?_
          refine lv_icmp_ne (tgt := 125) hx hb dX0_step_118 (by decide) (fun c => ?_) (fun c => ?_)
          · have w := And.right w c
            refine lv_bipush (v := -6) hx hb dX0_step_125 (by decide) ?_
            exact wk_X0_step_L127 X  _ w _ (lv_sub hl [] rfl)
          · have w := And.left w c
            refine lv_iconst (v := 4) hx hb dX0_step_121 (by decide) ?_
            refine lv_goto (tgt := 127) hx hb dX0_step_122 (by decide) ?_
            exact wk_X0_step_L127 X  _ w _ (lv_sub hl [] rfl)
        · have w := And.left w c
          exact wk_X0_step_L111 X   w _ (lv_sub hl [] rfl)
    · have w := And.left w c
      refine lv_iconst (v := 3) hx hb dX0_step_95 (by decide) ?_
      refine lv_goto (tgt := 127) hx hb dX0_step_96 (by decide) ?_
      exact wk_X0_step_L127 X  _ w _ (lv_sub hl [] rfl)
  have w := And.right w c2_1
  by_cases c2_2 : i0 = 2
  · have w := And.left w c2_2
    refine lv_tableIn (tgt := 128) hx hb dX0_step_9 (by rw [c2_2]; decide) (by rw [c2_2]; decide) (by rw [c2_2]; rfl) (by decide) ?_
    refine lv_iload_n hx hb dX0_step_128 rfl (lv_at hl 2 rfl) ?_
    refine lv_bipush (v := 49) hx hb dX0_step_129 (by decide) ?_
    refine lv_bipush (v := 57) hx hb dX0_step_131 (by decide) ?_
    refine vp_callSi (W.runS (As := [.int i1, .int (49 : Int32), .int (57 : Int32)]) (rest := []) ⟨hx, hb, hml, hown, hts⟩ (met_X0_isIn l w) (va_cwS 3 hts (lw_S q180 q181 q48 q182) rfl rfl rfl hd_X0_isIn ⟨Nat.le_of_ble_eq_true rfl, Nat.le_of_ble_eq_true rfl⟩) pre_S rfl rfl hl.1 rfl (lv_room (Nat.le_of_ble_eq_true rfl)) dX0_step_133 ⟨Nat.le_refl _, Nat.le_refl _⟩) (fun r3 w => ?_)
    refine lv_if_eq (tgt := 143) hx hb dX0_step_136 (by decide) (fun c => ?_) (fun c => ?_)
    · have w := And.left w c
      refine lv_bipush (v := -6) hx hb dX0_step_143 (by decide) ?_
      exact wk_X0_step_L145 X  _ w _ (lv_sub hl [] rfl)
    · have w := And.right w c
      refine lv_iconst (v := 0) hx hb dX0_step_139 (by decide) ?_
      refine lv_goto (tgt := 145) hx hb dX0_step_140 (by decide) ?_
      exact wk_X0_step_L145 X  _ w _ (lv_sub hl [] rfl)
  have w := And.right w c2_2
  by_cases c2_3 : i0 = 3
  · have w := And.left w c2_3
    refine lv_tableIn (tgt := 146) hx hb dX0_step_9 (by rw [c2_3]; decide) (by rw [c2_3]; decide) (by rw [c2_3]; rfl) (by decide) ?_
    refine lv_iload_n hx hb dX0_step_146 rfl (lv_at hl 2 rfl) ?_
    refine lv_bipush (v := 48) hx hb dX0_step_147 (by decide) ?_
    refine lv_bipush (v := 55) hx hb dX0_step_149 (by decide) ?_
    refine vp_callSi (W.runS (As := [.int i1, .int (48 : Int32), .int (55 : Int32)]) (rest := []) ⟨hx, hb, hml, hown, hts⟩ (met_X0_isIn l w) (va_cwS 3 hts (lw_S q180 q181 q48 q182) rfl rfl rfl hd_X0_isIn ⟨Nat.le_of_ble_eq_true rfl, Nat.le_of_ble_eq_true rfl⟩) pre_S rfl rfl hl.1 rfl (lv_room (Nat.le_of_ble_eq_true rfl)) dX0_step_151 ⟨Nat.le_refl _, Nat.le_refl _⟩) (fun r4 w => ?_)
    refine lv_if_eq (tgt := 161) hx hb dX0_step_154 (by decide) (fun c => ?_) (fun c => ?_)
    · have w := And.left w c
      refine lv_bipush (v := -6) hx hb dX0_step_161 (by decide) ?_
      exact wk_X0_step_L163 X  _ w _ (lv_sub hl [] rfl)
    · have w := And.right w c
      refine lv_iconst (v := 0) hx hb dX0_step_157 (by decide) ?_
      refine lv_goto (tgt := 163) hx hb dX0_step_158 (by decide) ?_
      exact wk_X0_step_L163 X  _ w _ (lv_sub hl [] rfl)
  have w := And.right w c2_3
  by_cases c2_4 : i0 = 4
  · have w := And.left w c2_4
    refine lv_tableIn (tgt := 175) hx hb dX0_step_9 (by rw [c2_4]; decide) (by rw [c2_4]; decide) (by rw [c2_4]; rfl) (by decide) ?_
    exact wk_X0_step_L175 X  _ w _ (lv_sub hl [0] rfl)
  have w := And.right w c2_4
  by_cases c2_5 : i0 = 5
  · have w := And.left w c2_5
    refine lv_tableIn (tgt := 164) hx hb dX0_step_9 (by rw [c2_5]; decide) (by rw [c2_5]; decide) (by rw [c2_5]; rfl) (by decide) ?_
    refine lv_iload_n hx hb dX0_step_164 rfl (lv_at hl 0 rfl) ?_
    refine lv_if_eq (tgt := 172) hx hb dX0_step_165 (by decide) (fun c => ?_) (fun c => ?_)
    · have w := And.left w c
      refine lv_bipush (v := -6) hx hb dX0_step_172 (by decide) ?_
      exact wk_X0_step_L174 X  _ w _ (lv_sub hl [] rfl)
    · have w := And.right w c
      refine lv_iconst (v := 2) hx hb dX0_step_168 (by decide) ?_
      refine lv_goto (tgt := 174) hx hb dX0_step_169 (by decide) ?_
      exact wk_X0_step_L174 X  _ w _ (lv_sub hl [] rfl)
  have w := And.right w c2_5
  refine lv_tableOut (tgt := 175) hx hb dX0_step_9 (by have h0 := lv_neT c2_0 (a := 0) (by decide); have h1 := lv_neT c2_1 (a := 1) (by decide); have h2 := lv_neT c2_2 (a := 2) (by decide); have h3 := lv_neT c2_3 (a := 3) (by decide); have h4 := lv_neT c2_4 (a := 4) (by decide); have h5 := lv_neT c2_5 (a := 5) (by decide); omega) (by decide) ?_
  exact wk_X0_step_L175 X  _ w _ (lv_sub hl [0] rfl)
abbrev rm_X0_rateOf : Room := { frames := 1, cells := 0, slots := 0, locals := 30 }
theorem hd_X0_rateOf : yX0_rateOf.cls ≠ "java/lang/invoke/MethodHandle" ∧ yX0_rateOf.cls ≠ "java/lang/invoke/VarHandle" ∧ (parseMethodDescriptor yX0_rateOf.desc).map (fun d => d.parameters.length) = some 2 := by decide +kernel
set_option maxHeartbeats 4000000 in
set_option maxRecDepth 100000 in
theorem wk_X0_rateOf_L26 {p : Program} {l : Launch} {e : Env} {s : State} {m : MethodId} {args : Array Value} {below : List Frame} {meth : Method} {c : Code}   {Post : Int32 → Prop}   (X : CxP p s m args meth c cX0_rateOf 3 (some .int) RX0)   (is0 : Int32) (w : wp_X0_rateOf_L26  Post  is0) : ∀ (ls : Array Slot), lv_has ls 3 [] → W p l e rm_X0_rateOf s m args below meth c s.heap [] 0 0 (MQ below (vp_Si Post) args s 0 0 (fun _ => False)) (F0 m 26 ls [.int is0]) := by
  intro ls hl
  have X0 := X
  obtain ⟨hx, hb, hml, hr, hlk, hown, hts⟩ := X0
  unfold wp_X0_rateOf_L26 at w
  exact W.iret (v := is0) hx hb hr (fun t ht hW => ⟨is0, rfl, w, ht⟩) (fun _ h => by cases h) dX0_rateOf_26 hlk
set_option maxHeartbeats 4000000 in
set_option maxRecDepth 100000 in
theorem met_X0_rateOf (l : Launch) {i0 : Int32} {l1 : Int64} {Post : Int32 → Prop} (w : wp_X0_rateOf i0 l1 Post) : Met l yX0_rateOf (ws_ yX0_rateOf cX0_rateOf 3 (some .int)) rm_X0_rateOf (va_Pc [.int i0, .long l1] (fun _ => True)) (vp_Si Post) 0 0 (fun _ => False) := by
  refine open_P (by decide) (Nat.le_of_ble_eq_true rfl) ?_
  intro p e s m args below meth c ls X hl
  have X0 := X
  obtain ⟨hx, hb, hml, hr, hlk, hown, hts⟩ := X0
  have hl : lv_has ls 3 [(0, .int i0), (1, .long l1)] := hl
  unfold wp_X0_rateOf at w
  refine lv_lload_n hx hb dX0_rateOf_0 rfl (lv_at hl 1 rfl) ?_
  refine lv_lconst (v := 0) hx hb dX0_rateOf_1 (by decide) ?_
  refine W.lcmp hx hb dX0_rateOf_2 ?_
  refine lv_if_ne (tgt := 11) hx hb dX0_rateOf_3 (by decide) (fun c => ?_) (fun c => ?_)
  · have w := And.right w c
    refine lv_ldc2 (v := 100) hx hb hown (hts _ q268) dX0_rateOf_11 ?_
    refine lv_ldc2 (v := 100) hx hb hown (hts _ q268) dX0_rateOf_14 ?_
    refine lv_iload_n hx hb dX0_rateOf_17 rfl (lv_at hl 0 rfl) ?_
    refine lv_i2l hx hb dX0_rateOf_18 rfl ?_
    refine lv_lmul hx hb dX0_rateOf_19 ?_
    refine lv_lload_n hx hb dX0_rateOf_20 rfl (lv_at hl 1 rfl) ?_
    obtain ⟨g0, w⟩ := w
    refine lv_ldiv hx hb dX0_rateOf_21 g0 ?_
    refine va_mmin_long hx hb (hml.trans hl.1.symm) hown (hts _ q269) (hts _ q270) (hts _ q53) (hts _ q271) (Nat.le_of_ble_eq_true rfl) (Nat.le_of_ble_eq_true rfl) (Nat.zero_le _) (Nat.zero_le _) dX0_rateOf_22 ?_
    refine lv_l2i hx hb dX0_rateOf_25 rfl ?_
    exact wk_X0_rateOf_L26 X  _ w _ (lv_sub hl [] rfl)
  · have w := And.left w c
    refine lv_bipush (v := 100) hx hb dX0_rateOf_6 (by decide) ?_
    refine lv_goto (tgt := 26) hx hb dX0_rateOf_8 (by decide) ?_
    exact wk_X0_rateOf_L26 X  _ w _ (lv_sub hl [] rfl)
abbrev rm_X0_asNumber : Room := { frames := 0, cells := 0, slots := 0, locals := 0 }
theorem hd_X0_asNumber : yX0_asNumber.cls ≠ "java/lang/invoke/MethodHandle" ∧ yX0_asNumber.cls ≠ "java/lang/invoke/VarHandle" ∧ (parseMethodDescriptor yX0_asNumber.desc).map (fun d => d.parameters.length) = some 1 := by decide +kernel
set_option maxHeartbeats 4000000 in
set_option maxRecDepth 100000 in
theorem wk_X0_asNumber_L9 {p : Program} {l : Launch} {e : Env} {s : State} {m : MethodId} {args : Array Value} {below : List Frame} {meth : Method} {c : Code}   {Post : Int32 → Prop}   (X : CxP p s m args meth c cX0_asNumber 1 (some .int) RX0)   (is0 : Int32) (w : wp_X0_asNumber_L9  Post  is0) : ∀ (ls : Array Slot), lv_has ls 1 [] → W p l e rm_X0_asNumber s m args below meth c s.heap [] 0 0 (MQ below (vp_Si Post) args s 0 0 (fun _ => False)) (F0 m 9 ls [.int is0]) := by
  intro ls hl
  have X0 := X
  obtain ⟨hx, hb, hml, hr, hlk, hown, hts⟩ := X0
  unfold wp_X0_asNumber_L9 at w
  exact W.iret (v := is0) hx hb hr (fun t ht hW => ⟨is0, rfl, w, ht⟩) (fun _ h => by cases h) dX0_asNumber_9 hlk
set_option maxHeartbeats 4000000 in
set_option maxRecDepth 100000 in
theorem met_X0_asNumber (l : Launch) {i0 : Int32} {Post : Int32 → Prop} (w : wp_X0_asNumber i0 Post) : Met l yX0_asNumber (ws_ yX0_asNumber cX0_asNumber 1 (some .int)) rm_X0_asNumber (va_Pc [.int i0] (fun _ => True)) (vp_Si Post) 0 0 (fun _ => False) := by
  refine open_P (by decide) (Nat.le_of_ble_eq_true rfl) ?_
  intro p e s m args below meth c ls X hl
  have X0 := X
  obtain ⟨hx, hb, hml, hr, hlk, hown, hts⟩ := X0
  have hl : lv_has ls 1 [(0, .int i0)] := hl
  unfold wp_X0_asNumber at w
  refine lv_iload_n hx hb dX0_asNumber_0 rfl (lv_at hl 0 rfl) ?_
  refine lv_if_eq (tgt := 8) hx hb dX0_asNumber_1 (by decide) (fun c => ?_) (fun c => ?_)
  · have w := And.left w c
    refine lv_iconst (v := 0) hx hb dX0_asNumber_8 (by decide) ?_
    exact wk_X0_asNumber_L9 X  _ w _ (lv_sub hl [] rfl)
  · have w := And.right w c
    refine lv_iconst (v := 1) hx hb dX0_asNumber_4 (by decide) ?_
    refine lv_goto (tgt := 9) hx hb dX0_asNumber_5 (by decide) ?_
    exact wk_X0_asNumber_L9 X  _ w _ (lv_sub hl [] rfl)
abbrev rm_J0_fill : Room := { frames := 0, cells := 0, slots := 0, locals := 0 }
theorem hd_J0_fill : yJ0_fill.cls ≠ "java/lang/invoke/MethodHandle" ∧ yJ0_fill.cls ≠ "java/lang/invoke/VarHandle" ∧ (parseMethodDescriptor yJ0_fill.desc).map (fun d => d.parameters.length) = some 2 := by decide +kernel
set_option maxHeartbeats 4000000 in
set_option maxRecDepth 100000 in
theorem wk_J0_fill_S5 {p : Program} {l : Launch} {e : Env} {s : State} {m : MethodId} {args : Array Value} {below : List Frame} {meth : Method} {c : Code} {dC : Nat → ClassId} {dI : Nat → Nat → Nat} {ct : Nat → ClassId} {A : Nat → Prop} {q : Nat} {nf : Nat} {Post : (Nat → Int32) → Prop} {K5 : Int32 → Int32 → Int32 → (Nat → Int32) → Prop}  (X : CxW p s m args meth c cJ0_fill 4 none RJ0 dC dI ct A) (hD : ∀ (f : Nat → Int32), va_D A ([(q, .inl (ct 0, nf, .inl f))])) (hK5 : ∀ (i1 : Int32) (i2 : Int32) (i3 : Int32) (f : Nat → Int32), K5 i1 i2 i3 f → ∀ (H : Heap) (locs : List Loc) (ls : Array Slot), va_P (dC, dI) vwCl ([(q, .inl (ct 0, nf, .inl f))]) H → va_S A s.heap H locs → lv_has ls 4 [(0, .ref q), (1, .int i1), (2, .int i2), (3, .int i3)] → W p l e rm_J0_fill s m args below meth c H locs 0 0 (MQ below (va_Qv (fun (u : (Nat → Int32)) => Post u) (fun (u : (Nat → Int32)) t => WPos dC dI ct ([(q, .inl (ct 0, nf, .inl u))]) A t) A) args s 0 0 A) (F0 m 5 ls [])) (i1 : Int32) (i2 : Int32) (i3 : Int32) (f : Nat → Int32) (w : wp_J0_fill_S5 nf Post K5 i1 i2 i3 f) : ∀ (H : Heap) (locs : List Loc) (ls : Array Slot), va_P (dC, dI) vwCl ([(q, .inl (ct 0, nf, .inl f))]) H → va_S A s.heap H locs → lv_has ls 4 [(0, .ref q), (1, .int i1), (2, .int i2), (3, .int i3)] → W p l e rm_J0_fill s m args below meth c H locs 0 0 (MQ below (va_Qv (fun (u : (Nat → Int32)) => Post u) (fun (u : (Nat → Int32)) t => WPos dC dI ct ([(q, .inl (ct 0, nf, .inl u))]) A t) A) args s 0 0 A) (F0 m 5 ls []) := by
  intro H locs ls hP hS hl
  have X0 := X
  obtain ⟨⟨hx, hb, hml, hr, hlk, hown, hts⟩, hA, hK, hN⟩ := X0
  unfold wp_J0_fill_S5 at w
  refine lv_iload_n hx hb dJ0_fill_5 rfl (lv_at hl 2 rfl) ?_
  refine lv_iload_n hx hb dJ0_fill_6 rfl (lv_at hl 3 rfl) ?_
  refine lv_icmp_ge (tgt := 20) hx hb dJ0_fill_7 (by decide) (fun c => ?_) (fun c => ?_)
  · have w := And.left w c
    exact W.vret hx hb hr (fun t ht hW => ⟨⟨f, rfl, w, by rw [ht]; exact hP, va_K.moved hW.alike hK, (hD _)⟩, hS.F ht⟩) hS.2.2 dJ0_fill_20 hlk
  · have w := And.right w c
    refine lv_aload_n hx hb dJ0_fill_10 rfl (lv_at hl 0 rfl) ?_
    refine lv_iload_n hx hb dJ0_fill_11 rfl (lv_at hl 2 rfl) ?_
    refine lv_iload_n hx hb dJ0_fill_12 rfl (lv_at hl 1 rfl) ?_
    obtain ⟨gi, w⟩ := w
    refine va_iast hx hb hK hP (hD _) hS 0 0 rfl rfl gi dJ0_fill_13 (fun H locs hP _ hS => ?_)
    have hP : va_P (dC, dI) vwCl ([(q, .inl (ct 0, nf, .inl (upd f i2.toNatClampNeg i1)))]) H := hP
    refine lv_iinc (v := (i2 + 1)) (lv' := [(2, .int (i2 + 1)), (0, .ref q), (1, .int i1), (3, .int i3)]) hx hb dJ0_fill_14 hl (k := 2) rfl rfl (by decide) rfl (fun ls hl => ?_)
    refine lv_goto (tgt := 5) hx hb dJ0_fill_17 (by decide) ?_
    exact hK5 _ _ _ _ w _ _ _ hP hS (lv_sub hl [1, 2, 0, 3] rfl)
set_option maxHeartbeats 4000000 in
set_option maxRecDepth 100000 in
theorem wk_J0_fill_L5 {p : Program} {l : Launch} {e : Env} {s : State} {m : MethodId} {args : Array Value} {below : List Frame} {meth : Method} {c : Code} {dC : Nat → ClassId} {dI : Nat → Nat → Nat} {ct : Nat → ClassId} {A : Nat → Prop} {q : Nat} {nf : Nat} {Post : (Nat → Int32) → Prop}   (X : CxW p s m args meth c cJ0_fill 4 none RJ0 dC dI ct A) (hD : ∀ (f : Nat → Int32), va_D A ([(q, .inl (ct 0, nf, .inl f))]))  : ∀ (n : Nat) (i1 : Int32) (i2 : Int32) (i3 : Int32) (f : Nat → Int32), wp_J0_fill_L5 nf Post  n i1 i2 i3 f → ∀ (H : Heap) (locs : List Loc) (ls : Array Slot), va_P (dC, dI) vwCl ([(q, .inl (ct 0, nf, .inl f))]) H → va_S A s.heap H locs → lv_has ls 4 [(0, .ref q), (1, .int i1), (2, .int i2), (3, .int i3)] → W p l e rm_J0_fill s m args below meth c H locs 0 0 (MQ below (va_Qv (fun (u : (Nat → Int32)) => Post u) (fun (u : (Nat → Int32)) t => WPos dC dI ct ([(q, .inl (ct 0, nf, .inl u))]) A t) A) args s 0 0 A) (F0 m 5 ls []) := by
  intro n
  induction n with
  | zero => intro i1 i2 i3 f w; exact False.elim w
  | succ n ih => intro i1 i2 i3 f w H locs ls hP hS hl; exact wk_J0_fill_S5 X hD  ih i1 i2 i3 f w H locs ls hP hS hl
set_option maxHeartbeats 4000000 in
set_option maxRecDepth 100000 in
theorem met_J0_fill (l : Launch) (dC : Nat → ClassId) (dI : Nat → Nat → Nat) (ct : Nat → ClassId) (q : Nat) (nf : Nat) (sz : Nat) {i1 : Int32} {f : Nat → Int32} {Post : (Nat → Int32) → Prop} (w : wp_J0_fill nf i1 f Post) : Met l yJ0_fill (ws_ yJ0_fill cJ0_fill 4 none) rm_J0_fill (va_Pc [.ref q, .int i1] (fun U => WPre dC dI ct ([(q, .inl (ct 0, nf, .inl f))]) sz U)) ((fun A => (va_Qv (fun (u : (Nat → Int32)) => Post u) (fun (u : (Nat → Int32)) t => WPos dC dI ct ([(q, .inl (ct 0, nf, .inl u))]) A t) A)) (va_A ([(q, .inl (ct 0, nf, .inl f))]) sz)) 0 0 (va_A ([(q, .inl (ct 0, nf, .inl f))]) sz) := by
  refine open_W (fun A => (va_Qv (fun (u : (Nat → Int32)) => Post u) (fun (u : (Nat → Int32)) t => WPos dC dI ct ([(q, .inl (ct 0, nf, .inl u))]) A t) A)) (by decide) (Nat.le_of_ble_eq_true rfl) ?_
  intro p e s m args below meth c ls A X hD0 hP hS hl
  have X0 := X
  obtain ⟨⟨hx, hb, hml, hr, hlk, hown, hts⟩, hA, hK, hN⟩ := X0
  have hD : ∀ (f' : Nat → Int32), va_D A ([(q, .inl (ct 0, nf, .inl f'))]) := fun f' => va_D_addr hD0 rfl
  have hl : lv_has ls 4 [(0, .ref q), (1, .int i1)] := hl
  unfold wp_J0_fill at w
  have hS0 := hS
  refine lv_iconst (v := 0) hx hb dJ0_fill_0 (by decide) ?_
  refine lv_istore_n (lv' := [(2, .int (0 : Int32)), (0, .ref q), (1, .int i1)]) hx hb dJ0_fill_1 rfl hl (by decide) rfl (fun ls hl => ?_)
  refine lv_aload_n hx hb dJ0_fill_2 rfl (lv_at hl 1 rfl) ?_
  refine va_alen (v := (Int32.ofNat nf)) hx hb hK hP 0 0 rfl rfl rfl dJ0_fill_3 ?_
  refine lv_istore_n (lv' := [(3, .int (Int32.ofNat nf)), (2, .int (0 : Int32)), (0, .ref q), (1, .int i1)]) hx hb dJ0_fill_4 rfl hl (by decide) rfl (fun ls hl => ?_)
  obtain ⟨n, w⟩ := w
  exact wk_J0_fill_L5 X hD  n _ _ _ _ w _ _ _ hP hS (lv_sub hl [2, 3, 1, 0] rfl)
abbrev rm_X0_has : Room := { frames := 0, cells := 0, slots := 0, locals := 0 }
theorem hd_X0_has : yX0_has.cls ≠ "java/lang/invoke/MethodHandle" ∧ yX0_has.cls ≠ "java/lang/invoke/VarHandle" ∧ (parseMethodDescriptor yX0_has.desc).map (fun d => d.parameters.length) = some 2 := by decide +kernel
set_option maxHeartbeats 4000000 in
set_option maxRecDepth 100000 in
theorem wk_X0_has_L14 {p : Program} {l : Launch} {e : Env} {s : State} {m : MethodId} {args : Array Value} {below : List Frame} {meth : Method} {c : Code}   {Post : Int32 → Prop}   (X : CxP p s m args meth c cX0_has 2 (some .boolean) RX0)   (is0 : Int32) (w : wp_X0_has_L14  Post  is0) : ∀ (ls : Array Slot), lv_has ls 2 [] → W p l e rm_X0_has s m args below meth c s.heap [] 0 0 (MQ below (vp_Si Post) args s 0 0 (fun _ => False)) (F0 m 14 ls [.int is0]) := by
  intro ls hl
  have X0 := X
  obtain ⟨hx, hb, hml, hr, hlk, hown, hts⟩ := X0
  unfold wp_X0_has_L14 at w
  obtain ⟨gn, w⟩ := w
  exact W.zret (v := is0) hx hb hr gn (fun t ht hW => ⟨is0, rfl, w, ht⟩) (fun _ h => by cases h) dX0_has_14 hlk
set_option maxHeartbeats 4000000 in
set_option maxRecDepth 100000 in
theorem met_X0_has (l : Launch) {i0 : Int32} {i1 : Int32} {Post : Int32 → Prop} (w : wp_X0_has i0 i1 Post) : Met l yX0_has (ws_ yX0_has cX0_has 2 (some .boolean)) rm_X0_has (va_Pc [.int i0, .int i1] (fun _ => True)) (vp_Si Post) 0 0 (fun _ => False) := by
  refine open_P (by decide) (Nat.le_of_ble_eq_true rfl) ?_
  intro p e s m args below meth c ls X hl
  have X0 := X
  obtain ⟨hx, hb, hml, hr, hlk, hown, hts⟩ := X0
  have hl : lv_has ls 2 [(0, .int i0), (1, .int i1)] := hl
  unfold wp_X0_has at w
  refine lv_iload_n hx hb dX0_has_0 rfl (lv_at hl 0 rfl) ?_
  refine lv_iload_n hx hb dX0_has_1 rfl (lv_at hl 1 rfl) ?_
  refine lv_ishr hx hb dX0_has_2 ?_
  refine lv_iconst (v := 1) hx hb dX0_has_3 (by decide) ?_
  refine lv_iand hx hb dX0_has_4 ?_
  refine lv_iconst (v := 1) hx hb dX0_has_5 (by decide) ?_
  refine lv_icmp_ne (tgt := 13) hx hb dX0_has_6 (by decide) (fun c => ?_) (fun c => ?_)
  · have w := And.right w c
    refine lv_iconst (v := 0) hx hb dX0_has_13 (by decide) ?_
    exact wk_X0_has_L14 X  _ w _ (lv_sub hl [] rfl)
  · have w := And.left w c
    refine lv_iconst (v := 1) hx hb dX0_has_9 (by decide) ?_
    refine lv_goto (tgt := 14) hx hb dX0_has_10 (by decide) ?_
    exact wk_X0_has_L14 X  _ w _ (lv_sub hl [] rfl)
abbrev rm_J2_bitCount : Room := { frames := 0, cells := 0, slots := 0, locals := 0 }
theorem hd_J2_bitCount : yJ2_bitCount.cls ≠ "java/lang/invoke/MethodHandle" ∧ yJ2_bitCount.cls ≠ "java/lang/invoke/VarHandle" ∧ (parseMethodDescriptor yJ2_bitCount.desc).map (fun d => d.parameters.length) = some 1 := by decide +kernel
set_option maxHeartbeats 4000000 in
set_option maxRecDepth 100000 in
theorem met_J2_bitCount (l : Launch) {i0 : Int32} {Post : Int32 → Prop} (w : wp_J2_bitCount i0 Post) : Met l yJ2_bitCount (ws_ yJ2_bitCount cJ2_bitCount 1 (some .int)) rm_J2_bitCount (va_Pc [.int i0] (fun _ => True)) (vp_Si Post) 0 0 (fun _ => False) := by
  refine open_P (by decide) (Nat.le_of_ble_eq_true rfl) ?_
  intro p e s m args below meth c ls X hl
  have X0 := X
  obtain ⟨hx, hb, hml, hr, hlk, hown, hts⟩ := X0
  have hl : lv_has ls 1 [(0, .int i0)] := hl
  unfold wp_J2_bitCount at w
  refine lv_iload_n hx hb dJ2_bitCount_0 rfl (lv_at hl 0 rfl) ?_
  refine lv_iload_n hx hb dJ2_bitCount_1 rfl (lv_at hl 0 rfl) ?_
  refine lv_iconst (v := 1) hx hb dJ2_bitCount_2 (by decide) ?_
  refine lv_iushr hx hb dJ2_bitCount_3 rfl ?_
  refine lv_ldcw (v := 1431655765) hx hb hown (hts _ q352) dJ2_bitCount_4 ?_
  refine lv_iand hx hb dJ2_bitCount_7 ?_
  refine lv_isub hx hb dJ2_bitCount_8 ?_
  refine lv_topi (fun n1 en1 => ?_)
  have w := w n1 en1
  refine lv_istore_n (lv' := [(0, .int n1)]) hx hb dJ2_bitCount_9 rfl hl (by decide) rfl (fun ls hl => ?_)
  refine lv_iload_n hx hb dJ2_bitCount_10 rfl (lv_at hl 0 rfl) ?_
  refine lv_ldcw (v := 858993459) hx hb hown (hts _ q353) dJ2_bitCount_11 ?_
  refine lv_iand hx hb dJ2_bitCount_14 ?_
  refine lv_iload_n hx hb dJ2_bitCount_15 rfl (lv_at hl 0 rfl) ?_
  refine lv_iconst (v := 2) hx hb dJ2_bitCount_16 (by decide) ?_
  refine lv_iushr hx hb dJ2_bitCount_17 rfl ?_
  refine lv_ldcw (v := 858993459) hx hb hown (hts _ q353) dJ2_bitCount_18 ?_
  refine lv_iand hx hb dJ2_bitCount_21 ?_
  refine lv_iadd hx hb dJ2_bitCount_22 ?_
  refine lv_topi (fun n2 en2 => ?_)
  have w := w n2 en2
  refine lv_istore_n (lv' := [(0, .int n2)]) hx hb dJ2_bitCount_23 rfl hl (by decide) rfl (fun ls hl => ?_)
  refine lv_iload_n hx hb dJ2_bitCount_24 rfl (lv_at hl 0 rfl) ?_
  refine lv_iload_n hx hb dJ2_bitCount_25 rfl (lv_at hl 0 rfl) ?_
  refine lv_iconst (v := 4) hx hb dJ2_bitCount_26 (by decide) ?_
  refine lv_iushr hx hb dJ2_bitCount_27 rfl ?_
  refine lv_iadd hx hb dJ2_bitCount_28 ?_
  refine lv_ldcw (v := 252645135) hx hb hown (hts _ q354) dJ2_bitCount_29 ?_
  refine lv_iand hx hb dJ2_bitCount_32 ?_
  refine lv_topi (fun n3 en3 => ?_)
  have w := w n3 en3
  refine lv_istore_n (lv' := [(0, .int n3)]) hx hb dJ2_bitCount_33 rfl hl (by decide) rfl (fun ls hl => ?_)
  refine lv_iload_n hx hb dJ2_bitCount_34 rfl (lv_at hl 0 rfl) ?_
  refine lv_iload_n hx hb dJ2_bitCount_35 rfl (lv_at hl 0 rfl) ?_
  refine lv_bipush (v := 8) hx hb dJ2_bitCount_36 (by decide) ?_
  refine lv_iushr hx hb dJ2_bitCount_38 rfl ?_
  refine lv_iadd hx hb dJ2_bitCount_39 ?_
  refine lv_topi (fun n4 en4 => ?_)
  have w := w n4 en4
  refine lv_istore_n (lv' := [(0, .int n4)]) hx hb dJ2_bitCount_40 rfl hl (by decide) rfl (fun ls hl => ?_)
  refine lv_iload_n hx hb dJ2_bitCount_41 rfl (lv_at hl 0 rfl) ?_
  refine lv_iload_n hx hb dJ2_bitCount_42 rfl (lv_at hl 0 rfl) ?_
  refine lv_bipush (v := 16) hx hb dJ2_bitCount_43 (by decide) ?_
  refine lv_iushr hx hb dJ2_bitCount_45 rfl ?_
  refine lv_iadd hx hb dJ2_bitCount_46 ?_
  refine lv_topi (fun n5 en5 => ?_)
  have w := w n5 en5
  refine lv_istore_n (lv' := [(0, .int n5)]) hx hb dJ2_bitCount_47 rfl hl (by decide) rfl (fun ls hl => ?_)
  refine lv_iload_n hx hb dJ2_bitCount_48 rfl (lv_at hl 0 rfl) ?_
  refine lv_bipush (v := 63) hx hb dJ2_bitCount_49 (by decide) ?_
  refine lv_iand hx hb dJ2_bitCount_51 ?_
  exact W.iret (v := (n5 &&& (63 : Int32))) hx hb hr (fun t ht hW => ⟨(n5 &&& (63 : Int32)), rfl, w, ht⟩) (fun _ h => by cases h) dJ2_bitCount_52 hlk
abbrev rm_X0_digit : Room := { frames := 0, cells := 0, slots := 0, locals := 0 }
theorem hd_X0_digit : yX0_digit.cls ≠ "java/lang/invoke/MethodHandle" ∧ yX0_digit.cls ≠ "java/lang/invoke/VarHandle" ∧ (parseMethodDescriptor yX0_digit.desc).map (fun d => d.parameters.length) = some 3 := by decide +kernel
set_option maxHeartbeats 4000000 in
set_option maxRecDepth 100000 in
theorem wk_X0_digit_S7 {p : Program} {l : Launch} {e : Env} {s : State} {m : MethodId} {args : Array Value} {below : List Frame} {meth : Method} {c : Code}   {Post : Int32 → Prop} {K7 : Int32 → Int32 → Int32 → Prop}  (X : CxP p s m args meth c cX0_digit 5 (some .int) RX0)  (hK7 : ∀ (i1 : Int32) (i3 : Int32) (i4 : Int32), K7 i1 i3 i4 → ∀ (ls : Array Slot), lv_has ls 5 [(1, .int i1), (3, .int i3), (4, .int i4)] → W p l e rm_X0_digit s m args below meth c s.heap [] 0 0 (MQ below (vp_Si Post) args s 0 0 (fun _ => False)) (F0 m 7 ls [])) (i1 : Int32) (i3 : Int32) (i4 : Int32) (w : wp_X0_digit_S7  Post K7 i1 i3 i4) : ∀ (ls : Array Slot), lv_has ls 5 [(1, .int i1), (3, .int i3), (4, .int i4)] → W p l e rm_X0_digit s m args below meth c s.heap [] 0 0 (MQ below (vp_Si Post) args s 0 0 (fun _ => False)) (F0 m 7 ls []) := by
  intro ls hl
  have X0 := X
  obtain ⟨hx, hb, hml, hr, hlk, hown, hts⟩ := X0
  unfold wp_X0_digit_S7 at w
  refine lv_iload hx hb dX0_digit_7 (lv_at hl 2 rfl) ?_
  refine lv_iload_n hx hb dX0_digit_9 rfl (lv_at hl 0 rfl) ?_
  refine lv_icmp_le (tgt := 24) hx hb dX0_digit_10 (by decide) (fun c => ?_) (fun c => ?_)
  · have w := And.left w c
    refine lv_iload_n hx hb dX0_digit_24 rfl (lv_at hl 1 rfl) ?_
    refine lv_bipush (v := 10) hx hb dX0_digit_25 (by decide) ?_
    refine lv_irem hx hb dX0_digit_27 (by decide) ?_
    exact W.iret (v := (i3 - i3 / (10 : Int32) * (10 : Int32))) hx hb hr (fun t ht hW => ⟨(i3 - i3 / (10 : Int32) * (10 : Int32)), rfl, w, ht⟩) (fun _ h => by cases h) dX0_digit_28 hlk
  · have w := And.right w c
    refine lv_iload_n hx hb dX0_digit_13 rfl (lv_at hl 1 rfl) ?_
    refine lv_bipush (v := 10) hx hb dX0_digit_14 (by decide) ?_
    refine lv_idiv hx hb dX0_digit_16 (by decide) ?_
    refine lv_istore_n (lv' := [(3, .int (i3 / (10 : Int32))), (1, .int i1), (4, .int i4)]) hx hb dX0_digit_17 rfl hl (by decide) rfl (fun ls hl => ?_)
    refine lv_iinc (v := (i4 + (-1))) (lv' := [(4, .int (i4 + (-1))), (3, .int (i3 / (10 : Int32))), (1, .int i1)]) hx hb dX0_digit_18 hl (k := 2) rfl rfl (by decide) rfl (fun ls hl => ?_)
    refine lv_goto (tgt := 7) hx hb dX0_digit_21 (by decide) ?_
    exact hK7 _ _ _ w _ (lv_sub hl [2, 1, 0] rfl)
set_option maxHeartbeats 4000000 in
set_option maxRecDepth 100000 in
theorem wk_X0_digit_L7 {p : Program} {l : Launch} {e : Env} {s : State} {m : MethodId} {args : Array Value} {below : List Frame} {meth : Method} {c : Code}   {Post : Int32 → Prop}   (X : CxP p s m args meth c cX0_digit 5 (some .int) RX0)   : ∀ (n : Nat) (i1 : Int32) (i3 : Int32) (i4 : Int32), wp_X0_digit_L7  Post  n i1 i3 i4 → ∀ (ls : Array Slot), lv_has ls 5 [(1, .int i1), (3, .int i3), (4, .int i4)] → W p l e rm_X0_digit s m args below meth c s.heap [] 0 0 (MQ below (vp_Si Post) args s 0 0 (fun _ => False)) (F0 m 7 ls []) := by
  intro n
  induction n with
  | zero => intro i1 i3 i4 w; exact False.elim w
  | succ n ih => intro i1 i3 i4 w ls hl; exact wk_X0_digit_S7 X  ih i1 i3 i4 w ls hl
set_option maxHeartbeats 4000000 in
set_option maxRecDepth 100000 in
theorem met_X0_digit (l : Launch) {i0 : Int32} {i1 : Int32} {i2 : Int32} {Post : Int32 → Prop} (w : wp_X0_digit i0 i1 i2 Post) : Met l yX0_digit (ws_ yX0_digit cX0_digit 5 (some .int)) rm_X0_digit (va_Pc [.int i0, .int i1, .int i2] (fun _ => True)) (vp_Si Post) 0 0 (fun _ => False) := by
  refine open_P (by decide) (Nat.le_of_ble_eq_true rfl) ?_
  intro p e s m args below meth c ls X hl
  have X0 := X
  obtain ⟨hx, hb, hml, hr, hlk, hown, hts⟩ := X0
  have hl : lv_has ls 5 [(0, .int i0), (1, .int i1), (2, .int i2)] := hl
  unfold wp_X0_digit at w
  refine lv_iload_n hx hb dX0_digit_0 rfl (lv_at hl 0 rfl) ?_
  refine lv_istore_n (lv' := [(3, .int i0), (0, .int i0), (1, .int i1), (2, .int i2)]) hx hb dX0_digit_1 rfl hl (by decide) rfl (fun ls hl => ?_)
  refine lv_iload_n hx hb dX0_digit_2 rfl (lv_at hl 3 rfl) ?_
  refine lv_iconst (v := 1) hx hb dX0_digit_3 (by decide) ?_
  refine lv_isub hx hb dX0_digit_4 ?_
  refine lv_istore (lv' := [(4, .int (i2 - (1 : Int32))), (3, .int i0), (0, .int i0), (1, .int i1), (2, .int i2)]) hx hb dX0_digit_5 hl (by decide) rfl (fun ls hl => ?_)
  obtain ⟨n, w⟩ := w
  exact wk_X0_digit_L7 X  n _ _ _ w _ (lv_sub hl [3, 1, 0] rfl)
abbrev rm_X0_divisor (d : Nat) : Room := { frames := d, cells := 0, slots := 0, locals := d * 23 }
theorem hd_X0_divisor : yX0_divisor.cls ≠ "java/lang/invoke/MethodHandle" ∧ yX0_divisor.cls ≠ "java/lang/invoke/VarHandle" ∧ (parseMethodDescriptor yX0_divisor.desc).map (fun d => d.parameters.length) = some 2 := by decide +kernel
set_option maxHeartbeats 4000000 in
set_option maxRecDepth 100000 in
theorem wk_X0_divisor_L17 {p : Program} {l : Launch} {e : Env} {s : State} {m : MethodId} {args : Array Value} {below : List Frame} {meth : Method} {c : Code}   {Post : Int64 → Prop}  {R : Room} (X : CxP p s m args meth c cX0_divisor 4 (some .long) RX0)   (ls0 : Int64) (w : wp_X0_divisor_L17  Post  ls0) : ∀ (ls : Array Slot), lv_has ls 4 [] → W p l e R s m args below meth c s.heap [] 0 0 (MQ below (vp_Sl Post) args s 0 0 (fun _ => False)) (F0 m 17 ls [.long ls0]) := by
  intro ls hl
  have X0 := X
  obtain ⟨hx, hb, hml, hr, hlk, hown, hts⟩ := X0
  unfold wp_X0_divisor_L17 at w
  exact W.lret (v := ls0) hx hb hr (fun t ht hW => ⟨ls0, rfl, w, ht⟩) (fun _ h => by cases h) dX0_divisor_17 hlk
set_option maxHeartbeats 4000000 in
set_option maxRecDepth 100000 in
theorem met_X0_divisor (l : Launch) (d : Nat) : ∀ {l0 : Int64} {l2 : Int64} {Post : Int64 → Prop}, wp_X0_divisor d l0 l2 Post → Met l yX0_divisor (ws_ yX0_divisor cX0_divisor 4 (some .long)) (rm_X0_divisor d) (va_Pc [.long l0, .long l2] (fun _ => True)) (vp_Sl Post) 0 0 (fun _ => False) := by
  induction d with
  | zero => intro l0 l2 Post w; exact False.elim w
  | succ d ih =>
    intro l0 l2 Post w
    refine open_P (by decide) (Nat.le_of_ble_eq_true rfl) ?_
    intro p e s m args below meth c ls X hl
    have X0 := X
    obtain ⟨hx, hb, hml, hr, hlk, hown, hts⟩ := X0
    have hl : lv_has ls 4 [(0, .long l0), (2, .long l2)] := hl
    have w : wp_X0_divisor_S (wp_X0_divisor d) l0 l2 Post := w
    unfold wp_X0_divisor_S at w
    refine lv_lload_n hx hb dX0_divisor_0 rfl (lv_at hl 1 rfl) ?_
    refine lv_lconst (v := 0) hx hb dX0_divisor_1 (by decide) ?_
    refine W.lcmp hx hb dX0_divisor_2 ?_
    refine lv_if_ne (tgt := 10) hx hb dX0_divisor_3 (by decide) (fun c => ?_) (fun c => ?_)
    · have w := And.right w c
      refine lv_lload_n hx hb dX0_divisor_10 rfl (lv_at hl 1 rfl) ?_
      refine lv_lload_n hx hb dX0_divisor_11 rfl (lv_at hl 0 rfl) ?_
      refine lv_lload_n hx hb dX0_divisor_12 rfl (lv_at hl 1 rfl) ?_
      obtain ⟨g0, w⟩ := w
      refine lv_lrem hx hb dX0_divisor_13 g0 ?_
      refine vp_callSl (W.runS (As := [.long l2, .long (l0 - l0 / l2 * l2)]) (rest := []) ⟨hx, hb, hml, hown, hts⟩ (ih w) (va_cwS 2 hts (lw_S q386 q387 q48 q388) rfl rfl rfl hd_X0_divisor ⟨Nat.le_refl _, by show 8 + (4 + 11) + d * 23 ≤ (d + 1) * 23; omega⟩) pre_S rfl rfl hl.1 rfl (lv_room (Nat.le_of_ble_eq_true rfl)) dX0_divisor_14 ⟨Nat.le_refl _, Nat.le_refl _⟩) (fun r1 w => ?_)
      exact wk_X0_divisor_L17 X  _ w _ (lv_sub hl [] rfl)
    · have w := And.left w c
      refine lv_lload_n hx hb dX0_divisor_6 rfl (lv_at hl 0 rfl) ?_
      refine lv_goto (tgt := 17) hx hb dX0_divisor_7 (by decide) ?_
      exact wk_X0_divisor_L17 X  _ w _ (lv_sub hl [] rfl)
abbrev rm_X0_choose : Room := { frames := 0, cells := 0, slots := 0, locals := 0 }
theorem hd_X0_choose : yX0_choose.cls ≠ "java/lang/invoke/MethodHandle" ∧ yX0_choose.cls ≠ "java/lang/invoke/VarHandle" ∧ (parseMethodDescriptor yX0_choose.desc).map (fun d => d.parameters.length) = some 2 := by decide +kernel
set_option maxHeartbeats 4000000 in
set_option maxRecDepth 100000 in
theorem wk_X0_choose_L9 {p : Program} {l : Launch} {e : Env} {s : State} {m : MethodId} {args : Array Value} {below : List Frame} {meth : Method} {c : Code}   {Post : Int64 → Prop}   (X : CxP p s m args meth c cX0_choose 5 (some .long) RX0)    (w : wp_X0_choose_L9  Post  ) : ∀ (ls : Array Slot), lv_has ls 5 [] → W p l e rm_X0_choose s m args below meth c s.heap [] 0 0 (MQ below (vp_Sl Post) args s 0 0 (fun _ => False)) (F0 m 9 ls []) := by
  intro ls hl
  have X0 := X
  obtain ⟨hx, hb, hml, hr, hlk, hown, hts⟩ := X0
  unfold wp_X0_choose_L9 at w
  refine lv_lconst (v := 0) hx hb dX0_choose_9 (by decide) ?_
  exact W.lret (v := (0 : Int64)) hx hb hr (fun t ht hW => ⟨(0 : Int64), rfl, w, ht⟩) (fun _ h => by cases h) dX0_choose_10 hlk
set_option maxHeartbeats 4000000 in
set_option maxRecDepth 100000 in
theorem wk_X0_choose_S16 {p : Program} {l : Launch} {e : Env} {s : State} {m : MethodId} {args : Array Value} {below : List Frame} {meth : Method} {c : Code}   {Post : Int64 → Prop} {K16 : Int32 → Int32 → Int64 → Int32 → Prop}  (X : CxP p s m args meth c cX0_choose 5 (some .long) RX0)  (hK16 : ∀ (i0 : Int32) (i1 : Int32) (l2 : Int64) (i4 : Int32), K16 i0 i1 l2 i4 → ∀ (ls : Array Slot), lv_has ls 5 [(0, .int i0), (1, .int i1), (2, .long l2), (4, .int i4)] → W p l e rm_X0_choose s m args below meth c s.heap [] 0 0 (MQ below (vp_Sl Post) args s 0 0 (fun _ => False)) (F0 m 16 ls [])) (i0 : Int32) (i1 : Int32) (l2 : Int64) (i4 : Int32) (w : wp_X0_choose_S16  Post K16 i0 i1 l2 i4) : ∀ (ls : Array Slot), lv_has ls 5 [(0, .int i0), (1, .int i1), (2, .long l2), (4, .int i4)] → W p l e rm_X0_choose s m args below meth c s.heap [] 0 0 (MQ below (vp_Sl Post) args s 0 0 (fun _ => False)) (F0 m 16 ls []) := by
  intro ls hl
  have X0 := X
  obtain ⟨hx, hb, hml, hr, hlk, hown, hts⟩ := X0
  unfold wp_X0_choose_S16 at w
  refine lv_iload hx hb dX0_choose_16 (lv_at hl 3 rfl) ?_
  refine lv_iload_n hx hb dX0_choose_18 rfl (lv_at hl 1 rfl) ?_
  refine lv_icmp_ge (tgt := 42) hx hb dX0_choose_19 (by decide) (fun c => ?_) (fun c => ?_)
  · have w := And.left w c
    refine lv_lload_n hx hb dX0_choose_42 rfl (lv_at hl 2 rfl) ?_
    exact W.lret (v := l2) hx hb hr (fun t ht hW => ⟨l2, rfl, w, ht⟩) (fun _ h => by cases h) dX0_choose_43 hlk
  · have w := And.right w c
    refine lv_lload_n hx hb dX0_choose_22 rfl (lv_at hl 2 rfl) ?_
    refine lv_iload_n hx hb dX0_choose_23 rfl (lv_at hl 0 rfl) ?_
    refine lv_iload hx hb dX0_choose_24 (lv_at hl 3 rfl) ?_
    refine lv_isub hx hb dX0_choose_26 ?_
    refine lv_i2l hx hb dX0_choose_27 rfl ?_
    refine lv_lmul hx hb dX0_choose_28 ?_
    refine lv_iload hx hb dX0_choose_29 (lv_at hl 3 rfl) ?_
    refine lv_iconst (v := 1) hx hb dX0_choose_31 (by decide) ?_
    refine lv_iadd hx hb dX0_choose_32 ?_
    refine lv_i2l hx hb dX0_choose_33 rfl ?_
    obtain ⟨g0, w⟩ := w
    refine lv_ldiv hx hb dX0_choose_34 g0 ?_
    refine lv_lstore_n (lv' := [(2, .long ((l2 * (i0 - i4).toInt64) / (i4 + (1 : Int32)).toInt64)), (0, .int i0), (1, .int i1), (4, .int i4)]) hx hb dX0_choose_35 rfl hl (by decide) rfl (fun ls hl => ?_)
    refine lv_iinc (v := (i4 + 1)) (lv' := [(4, .int (i4 + 1)), (2, .long ((l2 * (i0 - i4).toInt64) / (i4 + (1 : Int32)).toInt64)), (0, .int i0), (1, .int i1)]) hx hb dX0_choose_36 hl (k := 3) rfl rfl (by decide) rfl (fun ls hl => ?_)
    refine lv_goto (tgt := 16) hx hb dX0_choose_39 (by decide) ?_
    exact hK16 _ _ _ _ w _ (lv_sub hl [2, 3, 1, 0] rfl)
set_option maxHeartbeats 4000000 in
set_option maxRecDepth 100000 in
theorem wk_X0_choose_L16 {p : Program} {l : Launch} {e : Env} {s : State} {m : MethodId} {args : Array Value} {below : List Frame} {meth : Method} {c : Code}   {Post : Int64 → Prop}   (X : CxP p s m args meth c cX0_choose 5 (some .long) RX0)   : ∀ (n : Nat) (i0 : Int32) (i1 : Int32) (l2 : Int64) (i4 : Int32), wp_X0_choose_L16  Post  n i0 i1 l2 i4 → ∀ (ls : Array Slot), lv_has ls 5 [(0, .int i0), (1, .int i1), (2, .long l2), (4, .int i4)] → W p l e rm_X0_choose s m args below meth c s.heap [] 0 0 (MQ below (vp_Sl Post) args s 0 0 (fun _ => False)) (F0 m 16 ls []) := by
  intro n
  induction n with
  | zero => intro i0 i1 l2 i4 w; exact False.elim w
  | succ n ih => intro i0 i1 l2 i4 w ls hl; exact wk_X0_choose_S16 X  ih i0 i1 l2 i4 w ls hl
set_option maxHeartbeats 4000000 in
set_option maxRecDepth 100000 in
theorem met_X0_choose (l : Launch) {i0 : Int32} {i1 : Int32} {Post : Int64 → Prop} (w : wp_X0_choose i0 i1 Post) : Met l yX0_choose (ws_ yX0_choose cX0_choose 5 (some .long)) rm_X0_choose (va_Pc [.int i0, .int i1] (fun _ => True)) (vp_Sl Post) 0 0 (fun _ => False) := by
  refine open_P (by decide) (Nat.le_of_ble_eq_true rfl) ?_
  intro p e s m args below meth c ls X hl
  have X0 := X
  obtain ⟨hx, hb, hml, hr, hlk, hown, hts⟩ := X0
  have hl : lv_has ls 5 [(0, .int i0), (1, .int i1)] := hl
  unfold wp_X0_choose at w
  refine lv_iload_n hx hb dX0_choose_0 rfl (lv_at hl 1 rfl) ?_
  refine lv_if_lt (tgt := 9) hx hb dX0_choose_1 (by decide) (fun c => ?_) (fun c => ?_)
  · have w := And.left w c
    exact wk_X0_choose_L9 X   w _ (lv_sub hl [] rfl)
  · have w := And.right w c
    refine lv_iload_n hx hb dX0_choose_4 rfl (lv_at hl 1 rfl) ?_
    refine lv_iload_n hx hb dX0_choose_5 rfl (lv_at hl 0 rfl) ?_
    refine lv_icmp_le (tgt := 11) hx hb dX0_choose_6 (by decide) (fun c => ?_) (fun c => ?_)
    · have w := And.left w c
      refine lv_lconst (v := 1) hx hb dX0_choose_11 (by decide) ?_
      refine lv_lstore_n (lv' := [(2, .long (1 : Int64)), (0, .int i0), (1, .int i1)]) hx hb dX0_choose_12 rfl hl (by decide) rfl (fun ls hl => ?_)
      refine lv_iconst (v := 0) hx hb dX0_choose_13 (by decide) ?_
      refine lv_istore (lv' := [(4, .int (0 : Int32)), (2, .long (1 : Int64)), (0, .int i0), (1, .int i1)]) hx hb dX0_choose_14 hl (by decide) rfl (fun ls hl => ?_)
      obtain ⟨n, w⟩ := w
      exact wk_X0_choose_L16 X  n _ _ _ _ w _ (lv_sub hl [2, 3, 1, 0] rfl)
    · have w := And.right w c
      exact wk_X0_choose_L9 X   w _ (lv_sub hl [] rfl)
abbrev rm_X2_in : Room := { frames := 0, cells := 0, slots := 0, locals := 0 }
theorem hd_X2_in : yX2_in.cls ≠ "java/lang/invoke/MethodHandle" ∧ yX2_in.cls ≠ "java/lang/invoke/VarHandle" ∧ (parseMethodDescriptor yX2_in.desc).map (fun d => d.parameters.length) = some 3 := by decide +kernel
set_option maxHeartbeats 4000000 in
set_option maxRecDepth 100000 in
theorem wk_X2_in_L18 {p : Program} {l : Launch} {e : Env} {s : State} {m : MethodId} {args : Array Value} {below : List Frame} {meth : Method} {c : Code}   {Post : Int32 → Prop}   (X : CxP p s m args meth c cX2_in 6 (some .boolean) RX2)   (is0 : Int32) (w : wp_X2_in_L18  Post  is0) : ∀ (ls : Array Slot), lv_has ls 6 [] → W p l e rm_X2_in s m args below meth c s.heap [] 0 0 (MQ below (vp_Si Post) args s 0 0 (fun _ => False)) (F0 m 18 ls [.int is0]) := by
  intro ls hl
  have X0 := X
  obtain ⟨hx, hb, hml, hr, hlk, hown, hts⟩ := X0
  unfold wp_X2_in_L18 at w
  obtain ⟨gn, w⟩ := w
  exact W.zret (v := is0) hx hb hr gn (fun t ht hW => ⟨is0, rfl, w, ht⟩) (fun _ h => by cases h) dX2_in_18 hlk
set_option maxHeartbeats 4000000 in
set_option maxRecDepth 100000 in
theorem wk_X2_in_L17 {p : Program} {l : Launch} {e : Env} {s : State} {m : MethodId} {args : Array Value} {below : List Frame} {meth : Method} {c : Code}   {Post : Int32 → Prop}   (X : CxP p s m args meth c cX2_in 6 (some .boolean) RX2)    (w : wp_X2_in_L17  Post  ) : ∀ (ls : Array Slot), lv_has ls 6 [] → W p l e rm_X2_in s m args below meth c s.heap [] 0 0 (MQ below (vp_Si Post) args s 0 0 (fun _ => False)) (F0 m 17 ls []) := by
  intro ls hl
  have X0 := X
  obtain ⟨hx, hb, hml, hr, hlk, hown, hts⟩ := X0
  unfold wp_X2_in_L17 at w
  refine lv_iconst (v := 0) hx hb dX2_in_17 (by decide) ?_
  exact wk_X2_in_L18 X  _ w _ (lv_sub hl [] rfl)
set_option maxHeartbeats 4000000 in
set_option maxRecDepth 100000 in
theorem met_X2_in (l : Launch) {l0 : Int64} {l2 : Int64} {l4 : Int64} {Post : Int32 → Prop} (w : wp_X2_in l0 l2 l4 Post) : Met l yX2_in (ws_ yX2_in cX2_in 6 (some .boolean)) rm_X2_in (va_Pc [.long l0, .long l2, .long l4] (fun _ => True)) (vp_Si Post) 0 0 (fun _ => False) := by
  refine open_P (by decide) (Nat.le_of_ble_eq_true rfl) ?_
  intro p e s m args below meth c ls X hl
  have X0 := X
  obtain ⟨hx, hb, hml, hr, hlk, hown, hts⟩ := X0
  have hl : lv_has ls 6 [(0, .long l0), (2, .long l2), (4, .long l4)] := hl
  unfold wp_X2_in at w
  refine lv_lload_n hx hb dX2_in_0 rfl (lv_at hl 0 rfl) ?_
  refine lv_lload_n hx hb dX2_in_1 rfl (lv_at hl 1 rfl) ?_
  refine W.lcmp hx hb dX2_in_2 ?_
  refine lv_if_lt (tgt := 17) hx hb dX2_in_3 (by decide) (fun c => ?_) (fun c => ?_)
  · have w := And.left w c
    exact wk_X2_in_L17 X   w _ (lv_sub hl [] rfl)
  · have w := And.right w c
    refine lv_lload_n hx hb dX2_in_6 rfl (lv_at hl 0 rfl) ?_
    refine lv_lload hx hb dX2_in_7 (lv_at hl 2 rfl) ?_
    refine W.lcmp hx hb dX2_in_9 ?_
    refine lv_if_gt (tgt := 17) hx hb dX2_in_10 (by decide) (fun c => ?_) (fun c => ?_)
    · have w := And.left w c
      exact wk_X2_in_L17 X   w _ (lv_sub hl [] rfl)
    · have w := And.right w c
      refine lv_iconst (v := 1) hx hb dX2_in_13 (by decide) ?_
      refine lv_goto (tgt := 18) hx hb dX2_in_14 (by decide) ?_
      exact wk_X2_in_L18 X  _ w _ (lv_sub hl [] rfl)
abbrev rm_X2_isOne : Room := { frames := 1, cells := 0, slots := 0, locals := 25 }
theorem hd_X2_isOne : yX2_isOne.cls ≠ "java/lang/invoke/MethodHandle" ∧ yX2_isOne.cls ≠ "java/lang/invoke/VarHandle" ∧ (parseMethodDescriptor yX2_isOne.desc).map (fun d => d.parameters.length) = some 1 := by decide +kernel
set_option maxHeartbeats 4000000 in
set_option maxRecDepth 100000 in
theorem met_X2_isOne (l : Launch) {i0 : Int32} {Post : Int32 → Prop} (w : wp_X2_isOne i0 Post) : Met l yX2_isOne (ws_ yX2_isOne cX2_isOne 1 (some .boolean)) rm_X2_isOne (va_Pc [.int i0] (fun _ => True)) (vp_Si Post) 0 0 (fun _ => False) := by
  refine open_P (by decide) (Nat.le_of_ble_eq_true rfl) ?_
  intro p e s m args below meth c ls X hl
  have X0 := X
  obtain ⟨hx, hb, hml, hr, hlk, hown, hts⟩ := X0
  have hl : lv_has ls 1 [(0, .int i0)] := hl
  unfold wp_X2_isOne at w
  refine lv_iload_n hx hb dX2_isOne_0 rfl (lv_at hl 0 rfl) ?_
  refine lv_i2l hx hb dX2_isOne_1 rfl ?_
  refine lv_lconst (v := 0) hx hb dX2_isOne_2 (by decide) ?_
  refine lv_ldc2 (v := 5) hx hb hown (hts _ q569) dX2_isOne_3 ?_
  refine vp_callSi (W.runS (As := [.long i0.toInt64, .long (0 : Int64), .long (5 : Int64)]) (rest := []) ⟨hx, hb, hml, hown, hts⟩ (met_X2_in l w) (va_cwS 3 hts (lw_S q570 q571 q51 q572) rfl rfl rfl hd_X2_in ⟨Nat.le_of_ble_eq_true rfl, Nat.le_of_ble_eq_true rfl⟩) pre_S rfl rfl hl.1 rfl (lv_room (Nat.le_of_ble_eq_true rfl)) dX2_isOne_6 ⟨Nat.le_refl _, Nat.le_refl _⟩) (fun r1 w => ?_)
  obtain ⟨gn, w⟩ := w
  exact W.zret (v := r1) hx hb hr gn (fun t ht hW => ⟨r1, rfl, w, ht⟩) (fun _ h => by cases h) dX2_isOne_9 hlk
abbrev rm_X2_isLetter : Room := { frames := 1, cells := 0, slots := 0, locals := 25 }
theorem hd_X2_isLetter : yX2_isLetter.cls ≠ "java/lang/invoke/MethodHandle" ∧ yX2_isLetter.cls ≠ "java/lang/invoke/VarHandle" ∧ (parseMethodDescriptor yX2_isLetter.desc).map (fun d => d.parameters.length) = some 1 := by decide +kernel
set_option maxHeartbeats 4000000 in
set_option maxRecDepth 100000 in
theorem met_X2_isLetter (l : Launch) {i0 : Int32} {Post : Int32 → Prop} (w : wp_X2_isLetter i0 Post) : Met l yX2_isLetter (ws_ yX2_isLetter cX2_isLetter 1 (some .boolean)) rm_X2_isLetter (va_Pc [.int i0] (fun _ => True)) (vp_Si Post) 0 0 (fun _ => False) := by
  refine open_P (by decide) (Nat.le_of_ble_eq_true rfl) ?_
  intro p e s m args below meth c ls X hl
  have X0 := X
  obtain ⟨hx, hb, hml, hr, hlk, hown, hts⟩ := X0
  have hl : lv_has ls 1 [(0, .int i0)] := hl
  unfold wp_X2_isLetter at w
  refine lv_iload_n hx hb dX2_isLetter_0 rfl (lv_at hl 0 rfl) ?_
  refine lv_i2l hx hb dX2_isLetter_1 rfl ?_
  refine lv_ldc2 (v := 65) hx hb hown (hts _ q615) dX2_isLetter_2 ?_
  refine lv_ldc2 (v := 70) hx hb hown (hts _ q616) dX2_isLetter_5 ?_
  refine vp_callSi (W.runS (As := [.long i0.toInt64, .long (65 : Int64), .long (70 : Int64)]) (rest := []) ⟨hx, hb, hml, hown, hts⟩ (met_X2_in l w) (va_cwS 3 hts (lw_S q570 q571 q51 q572) rfl rfl rfl hd_X2_in ⟨Nat.le_of_ble_eq_true rfl, Nat.le_of_ble_eq_true rfl⟩) pre_S rfl rfl hl.1 rfl (lv_room (Nat.le_of_ble_eq_true rfl)) dX2_isLetter_8 ⟨Nat.le_refl _, Nat.le_refl _⟩) (fun r1 w => ?_)
  obtain ⟨gn, w⟩ := w
  exact W.zret (v := r1) hx hb hr gn (fun t ht hW => ⟨r1, rfl, w, ht⟩) (fun _ h => by cases h) dX2_isLetter_11 hlk
abbrev rm_X2_deed : Room := { frames := 0, cells := 0, slots := 0, locals := 0 }
theorem hd_X2_deed : yX2_deed.cls ≠ "java/lang/invoke/MethodHandle" ∧ yX2_deed.cls ≠ "java/lang/invoke/VarHandle" ∧ (parseMethodDescriptor yX2_deed.desc).map (fun d => d.parameters.length) = some 1 := by decide +kernel
set_option maxHeartbeats 4000000 in
set_option maxRecDepth 100000 in
theorem met_X2_deed (l : Launch) {i0 : Int32} {Post : Int32 → Prop} (w : wp_X2_deed i0 Post) : Met l yX2_deed (ws_ yX2_deed cX2_deed 1 (some .int)) rm_X2_deed (va_Pc [.int i0] (fun _ => True)) (vp_Si Post) 0 0 (fun _ => False) := by
  refine open_P (by decide) (Nat.le_of_ble_eq_true rfl) ?_
  intro p e s m args below meth c ls X hl
  have X0 := X
  obtain ⟨hx, hb, hml, hr, hlk, hown, hts⟩ := X0
  have hl : lv_has ls 1 [(0, .int i0)] := hl
  unfold wp_X2_deed at w
  refine lv_iload_n hx hb dX2_deed_0 rfl (lv_at hl 0 rfl) ?_
  by_cases c1_0 : i0 = 36
  · have w := And.left w c1_0
    refine lv_lookup (off := 43) (tgt := 44) hx hb dX2_deed_1 rfl (by rw [c1_0] <;> rfl) (by decide) ?_
    refine lv_iconst (v := 5) hx hb dX2_deed_44 (by decide) ?_
    exact W.iret (v := (5 : Int32)) hx hb hr (fun t ht hW => ⟨(5 : Int32), rfl, w, ht⟩) (fun _ h => by cases h) dX2_deed_45 hlk
  have w := And.right w c1_0
  by_cases c1_1 : i0 = 47
  · have w := And.left w c1_1
    refine lv_lookup (off := 45) (tgt := 46) hx hb dX2_deed_1 rfl (by rw [c1_1] <;> rfl) (by decide) ?_
    refine lv_bipush (v := 6) hx hb dX2_deed_46 (by decide) ?_
    exact W.iret (v := (6 : Int32)) hx hb hr (fun t ht hW => ⟨(6 : Int32), rfl, w, ht⟩) (fun _ h => by cases h) dX2_deed_48 hlk
  have w := And.right w c1_1
  by_cases c1_2 : i0 = 62
  · have w := And.left w c1_2
    refine lv_lookup (off := 48) (tgt := 49) hx hb dX2_deed_1 rfl (by rw [c1_2] <;> rfl) (by decide) ?_
    refine lv_bipush (v := 7) hx hb dX2_deed_49 (by decide) ?_
    exact W.iret (v := (7 : Int32)) hx hb hr (fun t ht hW => ⟨(7 : Int32), rfl, w, ht⟩) (fun _ h => by cases h) dX2_deed_51 hlk
  have w := And.right w c1_2
  by_cases c1_3 : i0 = 64
  · have w := And.left w c1_3
    refine lv_lookup (off := 51) (tgt := 52) hx hb dX2_deed_1 rfl (by rw [c1_3] <;> rfl) (by decide) ?_
    refine lv_bipush (v := 8) hx hb dX2_deed_52 (by decide) ?_
    exact W.iret (v := (8 : Int32)) hx hb hr (fun t ht hW => ⟨(8 : Int32), rfl, w, ht⟩) (fun _ h => by cases h) dX2_deed_54 hlk
  have w := And.right w c1_3
  refine lv_lookup (off := 54) (tgt := 55) hx hb dX2_deed_1 rfl (by show Op.lookupswitch.offset [(36, 43), (47, 45), (62, 48), (64, 51)] (54) _ = _; rw [lv_osw (a := 36) (k := 36) c1_0 rfl, lv_osw (a := 47) (k := 47) c1_1 rfl, lv_osw (a := 62) (k := 62) c1_2 rfl, lv_osw (a := 64) (k := 64) c1_3 rfl] <;> rfl) (by decide) ?_
  refine lv_bipush (v := -6) hx hb dX2_deed_55 (by decide) ?_
  exact W.iret (v := (-6 : Int32)) hx hb hr (fun t ht hW => ⟨(-6 : Int32), rfl, w, ht⟩) (fun _ h => by cases h) dX2_deed_57 hlk
abbrev rm_X2_rateOf : Room := { frames := 0, cells := 0, slots := 0, locals := 0 }
theorem hd_X2_rateOf : yX2_rateOf.cls ≠ "java/lang/invoke/MethodHandle" ∧ yX2_rateOf.cls ≠ "java/lang/invoke/VarHandle" ∧ (parseMethodDescriptor yX2_rateOf.desc).map (fun d => d.parameters.length) = some 2 := by decide +kernel
set_option maxHeartbeats 4000000 in
set_option maxRecDepth 100000 in
theorem wk_X2_rateOf_L36 {p : Program} {l : Launch} {e : Env} {s : State} {m : MethodId} {args : Array Value} {below : List Frame} {meth : Method} {c : Code}   {Post : Int32 → Prop}   (X : CxP p s m args meth c cX2_rateOf 5 (some .int) RX2)   (is0 : Int32) (w : wp_X2_rateOf_L36  Post  is0) : ∀ (ls : Array Slot), lv_has ls 5 [] → W p l e rm_X2_rateOf s m args below meth c s.heap [] 0 0 (MQ below (vp_Si Post) args s 0 0 (fun _ => False)) (F0 m 36 ls [.int is0]) := by
  intro ls hl
  have X0 := X
  obtain ⟨hx, hb, hml, hr, hlk, hown, hts⟩ := X0
  unfold wp_X2_rateOf_L36 at w
  exact W.iret (v := is0) hx hb hr (fun t ht hW => ⟨is0, rfl, w, ht⟩) (fun _ h => by cases h) dX2_rateOf_36 hlk
set_option maxHeartbeats 4000000 in
set_option maxRecDepth 100000 in
theorem wk_X2_rateOf_L20 {p : Program} {l : Launch} {e : Env} {s : State} {m : MethodId} {args : Array Value} {below : List Frame} {meth : Method} {c : Code}   {Post : Int32 → Prop}   (X : CxP p s m args meth c cX2_rateOf 5 (some .int) RX2)   (ls0 : Int64) (w : wp_X2_rateOf_L20  Post  ls0) : ∀ (ls : Array Slot), lv_has ls 5 [] → W p l e rm_X2_rateOf s m args below meth c s.heap [] 0 0 (MQ below (vp_Si Post) args s 0 0 (fun _ => False)) (F0 m 20 ls [.long ls0]) := by
  intro ls hl
  have X0 := X
  obtain ⟨hx, hb, hml, hr, hlk, hown, hts⟩ := X0
  unfold wp_X2_rateOf_L20 at w
  refine lv_lstore_n (lv' := [(3, .long ls0)]) hx hb dX2_rateOf_20 rfl hl (by decide) rfl (fun ls hl => ?_)
  refine lv_lload_n hx hb dX2_rateOf_21 rfl (lv_at hl 0 rfl) ?_
  refine lv_ldc2 (v := 100) hx hb hown (hts _ q682) dX2_rateOf_22 ?_
  refine W.lcmp hx hb dX2_rateOf_25 ?_
  refine lv_if_le (tgt := 34) hx hb dX2_rateOf_26 (by decide) (fun c => ?_) (fun c => ?_)
  · have w := And.left w c
    refine lv_lload_n hx hb dX2_rateOf_34 rfl (lv_at hl 0 rfl) ?_
    refine lv_l2i hx hb dX2_rateOf_35 rfl ?_
    exact wk_X2_rateOf_L36 X  _ w _ (lv_sub hl [] rfl)
  · have w := And.right w c
    refine lv_bipush (v := 100) hx hb dX2_rateOf_29 (by decide) ?_
    refine lv_goto (tgt := 36) hx hb dX2_rateOf_31 (by decide) ?_
    exact wk_X2_rateOf_L36 X  _ w _ (lv_sub hl [] rfl)
set_option maxHeartbeats 4000000 in
set_option maxRecDepth 100000 in
theorem met_X2_rateOf (l : Launch) {i0 : Int32} {l1 : Int64} {Post : Int32 → Prop} (w : wp_X2_rateOf i0 l1 Post) : Met l yX2_rateOf (ws_ yX2_rateOf cX2_rateOf 5 (some .int)) rm_X2_rateOf (va_Pc [.int i0, .long l1] (fun _ => True)) (vp_Si Post) 0 0 (fun _ => False) := by
  refine open_P (by decide) (Nat.le_of_ble_eq_true rfl) ?_
  intro p e s m args below meth c ls X hl
  have X0 := X
  obtain ⟨hx, hb, hml, hr, hlk, hown, hts⟩ := X0
  have hl : lv_has ls 5 [(0, .int i0), (1, .long l1)] := hl
  unfold wp_X2_rateOf at w
  refine lv_lload_n hx hb dX2_rateOf_0 rfl (lv_at hl 1 rfl) ?_
  refine lv_lconst (v := 0) hx hb dX2_rateOf_1 (by decide) ?_
  refine W.lcmp hx hb dX2_rateOf_2 ?_
  refine lv_if_ne (tgt := 12) hx hb dX2_rateOf_3 (by decide) (fun c => ?_) (fun c => ?_)
  · have w := And.right w c
    refine lv_ldc2 (v := 100) hx hb hown (hts _ q682) dX2_rateOf_12 ?_
    refine lv_iload_n hx hb dX2_rateOf_15 rfl (lv_at hl 0 rfl) ?_
    refine lv_i2l hx hb dX2_rateOf_16 rfl ?_
    refine lv_lmul hx hb dX2_rateOf_17 ?_
    refine lv_lload_n hx hb dX2_rateOf_18 rfl (lv_at hl 1 rfl) ?_
    obtain ⟨g0, w⟩ := w
    refine lv_ldiv hx hb dX2_rateOf_19 g0 ?_
    exact wk_X2_rateOf_L20 X  _ w _ (lv_sub hl [] rfl)
  · have w := And.left w c
    refine lv_ldc2 (v := 100) hx hb hown (hts _ q682) dX2_rateOf_6 ?_
    refine lv_goto (tgt := 20) hx hb dX2_rateOf_9 (by decide) ?_
    exact wk_X2_rateOf_L20 X  _ w _ (lv_sub hl [] rfl)
abbrev rm_X2_lowest : Room := { frames := 0, cells := 0, slots := 0, locals := 0 }
theorem hd_X2_lowest : yX2_lowest.cls ≠ "java/lang/invoke/MethodHandle" ∧ yX2_lowest.cls ≠ "java/lang/invoke/VarHandle" ∧ (parseMethodDescriptor yX2_lowest.desc).map (fun d => d.parameters.length) = some 3 := by decide +kernel
set_option maxHeartbeats 4000000 in
set_option maxRecDepth 100000 in
theorem wk_X2_lowest_L47 {p : Program} {l : Launch} {e : Env} {s : State} {m : MethodId} {args : Array Value} {below : List Frame} {meth : Method} {c : Code}   {Post : Int64 → Prop}   (X : CxP p s m args meth c cX2_lowest 11 (some .long) RX2)   (ls0 : Int64) (w : wp_X2_lowest_L47  Post  ls0) : ∀ (ls : Array Slot), lv_has ls 11 [] → W p l e rm_X2_lowest s m args below meth c s.heap [] 0 0 (MQ below (vp_Sl Post) args s 0 0 (fun _ => False)) (F0 m 47 ls [.long ls0]) := by
  intro ls hl
  have X0 := X
  obtain ⟨hx, hb, hml, hr, hlk, hown, hts⟩ := X0
  unfold wp_X2_lowest_L47 at w
  exact W.lret (v := ls0) hx hb hr (fun t ht hW => ⟨ls0, rfl, w, ht⟩) (fun _ h => by cases h) dX2_lowest_47 hlk
set_option maxHeartbeats 4000000 in
set_option maxRecDepth 100000 in
theorem wk_X2_lowest_S6 {p : Program} {l : Launch} {e : Env} {s : State} {m : MethodId} {args : Array Value} {below : List Frame} {meth : Method} {c : Code}   {Post : Int64 → Prop} {K6 : Int64 → Int64 → Int32 → Int64 → Int64 → Prop}  (X : CxP p s m args meth c cX2_lowest 11 (some .long) RX2)  (hK6 : ∀ (l0 : Int64) (l2 : Int64) (i4 : Int32) (l5 : Int64) (l7 : Int64), K6 l0 l2 i4 l5 l7 → ∀ (ls : Array Slot), lv_has ls 11 [(0, .long l0), (2, .long l2), (4, .int i4), (5, .long l5), (7, .long l7)] → W p l e rm_X2_lowest s m args below meth c s.heap [] 0 0 (MQ below (vp_Sl Post) args s 0 0 (fun _ => False)) (F0 m 6 ls [])) (l0 : Int64) (l2 : Int64) (i4 : Int32) (l5 : Int64) (l7 : Int64) (w : wp_X2_lowest_S6  Post K6 l0 l2 i4 l5 l7) : ∀ (ls : Array Slot), lv_has ls 11 [(0, .long l0), (2, .long l2), (4, .int i4), (5, .long l5), (7, .long l7)] → W p l e rm_X2_lowest s m args below meth c s.heap [] 0 0 (MQ below (vp_Sl Post) args s 0 0 (fun _ => False)) (F0 m 6 ls []) := by
  intro ls hl
  have X0 := X
  obtain ⟨hx, hb, hml, hr, hlk, hown, hts⟩ := X0
  unfold wp_X2_lowest_S6 at w
  refine lv_lload hx hb dX2_lowest_6 (lv_at hl 4 rfl) ?_
  refine lv_lconst (v := 0) hx hb dX2_lowest_8 (by decide) ?_
  refine W.lcmp hx hb dX2_lowest_9 ?_
  refine lv_if_eq (tgt := 31) hx hb dX2_lowest_10 (by decide) (fun c => ?_) (fun c => ?_)
  · have w := And.left w c
    refine lv_iload hx hb dX2_lowest_31 (lv_at hl 2 rfl) ?_
    refine lv_if_ne (tgt := 43) hx hb dX2_lowest_33 (by decide) (fun c => ?_) (fun c => ?_)
    · have w := And.right w c
      refine lv_lload_n hx hb dX2_lowest_43 rfl (lv_at hl 1 rfl) ?_
      refine lv_lload hx hb dX2_lowest_44 (lv_at hl 3 rfl) ?_
      obtain ⟨g0, w⟩ := w
      refine lv_ldiv hx hb dX2_lowest_46 g0 ?_
      exact wk_X2_lowest_L47 X  _ w _ (lv_sub hl [] rfl)
    · have w := And.left w c
      refine lv_lload_n hx hb dX2_lowest_36 rfl (lv_at hl 0 rfl) ?_
      refine lv_lload hx hb dX2_lowest_37 (lv_at hl 3 rfl) ?_
      obtain ⟨g0, w⟩ := w
      refine lv_ldiv hx hb dX2_lowest_39 g0 ?_
      refine lv_goto (tgt := 47) hx hb dX2_lowest_40 (by decide) ?_
      exact wk_X2_lowest_L47 X  _ w _ (lv_sub hl [] rfl)
  · have w := And.right w c
    refine lv_lload hx hb dX2_lowest_13 (lv_at hl 3 rfl) ?_
    refine lv_lload hx hb dX2_lowest_15 (lv_at hl 4 rfl) ?_
    obtain ⟨g0, w⟩ := w
    refine lv_lrem hx hb dX2_lowest_17 g0 ?_
    refine lv_lstore (lv' := [(9, .long (l5 - l5 / l7 * l7)), (0, .long l0), (2, .long l2), (4, .int i4), (5, .long l5), (7, .long l7)]) hx hb dX2_lowest_18 hl (by decide) rfl (fun ls hl => ?_)
    refine lv_lload hx hb dX2_lowest_20 (lv_at hl 5 rfl) ?_
    refine lv_lstore (lv' := [(5, .long l7), (9, .long (l5 - l5 / l7 * l7)), (0, .long l0), (2, .long l2), (4, .int i4), (7, .long l7)]) hx hb dX2_lowest_22 hl (by decide) rfl (fun ls hl => ?_)
    refine lv_lload hx hb dX2_lowest_24 (lv_at hl 1 rfl) ?_
    refine lv_lstore (lv' := [(7, .long (l5 - l5 / l7 * l7)), (5, .long l7), (9, .long (l5 - l5 / l7 * l7)), (0, .long l0), (2, .long l2), (4, .int i4)]) hx hb dX2_lowest_26 hl (by decide) rfl (fun ls hl => ?_)
    refine lv_goto (tgt := 6) hx hb dX2_lowest_28 (by decide) ?_
    exact hK6 _ _ _ _ _ w _ (lv_sub hl [3, 4, 5, 1, 0] rfl)
set_option maxHeartbeats 4000000 in
set_option maxRecDepth 100000 in
theorem wk_X2_lowest_L6 {p : Program} {l : Launch} {e : Env} {s : State} {m : MethodId} {args : Array Value} {below : List Frame} {meth : Method} {c : Code}   {Post : Int64 → Prop}   (X : CxP p s m args meth c cX2_lowest 11 (some .long) RX2)   : ∀ (n : Nat) (l0 : Int64) (l2 : Int64) (i4 : Int32) (l5 : Int64) (l7 : Int64), wp_X2_lowest_L6  Post  n l0 l2 i4 l5 l7 → ∀ (ls : Array Slot), lv_has ls 11 [(0, .long l0), (2, .long l2), (4, .int i4), (5, .long l5), (7, .long l7)] → W p l e rm_X2_lowest s m args below meth c s.heap [] 0 0 (MQ below (vp_Sl Post) args s 0 0 (fun _ => False)) (F0 m 6 ls []) := by
  intro n
  induction n with
  | zero => intro l0 l2 i4 l5 l7 w; exact False.elim w
  | succ n ih => intro l0 l2 i4 l5 l7 w ls hl; exact wk_X2_lowest_S6 X  ih l0 l2 i4 l5 l7 w ls hl
set_option maxHeartbeats 4000000 in
set_option maxRecDepth 100000 in
theorem met_X2_lowest (l : Launch) {l0 : Int64} {l2 : Int64} {i4 : Int32} {Post : Int64 → Prop} (w : wp_X2_lowest l0 l2 i4 Post) : Met l yX2_lowest (ws_ yX2_lowest cX2_lowest 11 (some .long)) rm_X2_lowest (va_Pc [.long l0, .long l2, .int i4] (fun _ => True)) (vp_Sl Post) 0 0 (fun _ => False) := by
  refine open_P (by decide) (Nat.le_of_ble_eq_true rfl) ?_
  intro p e s m args below meth c ls X hl
  have X0 := X
  obtain ⟨hx, hb, hml, hr, hlk, hown, hts⟩ := X0
  have hl : lv_has ls 11 [(0, .long l0), (2, .long l2), (4, .int i4)] := hl
  unfold wp_X2_lowest at w
  refine lv_lload_n hx hb dX2_lowest_0 rfl (lv_at hl 1 rfl) ?_
  refine lv_lstore (lv' := [(5, .long l2), (0, .long l0), (2, .long l2), (4, .int i4)]) hx hb dX2_lowest_1 hl (by decide) rfl (fun ls hl => ?_)
  refine lv_lload_n hx hb dX2_lowest_3 rfl (lv_at hl 1 rfl) ?_
  refine lv_lstore (lv' := [(7, .long l0), (5, .long l2), (0, .long l0), (2, .long l2), (4, .int i4)]) hx hb dX2_lowest_4 hl (by decide) rfl (fun ls hl => ?_)
  obtain ⟨n, w⟩ := w
  exact wk_X2_lowest_L6 X  n _ _ _ _ _ w _ (lv_sub hl [2, 3, 4, 1, 0] rfl)
abbrev rm_X2_bitsOf : Room := { frames := 0, cells := 0, slots := 0, locals := 0 }
theorem hd_X2_bitsOf : yX2_bitsOf.cls ≠ "java/lang/invoke/MethodHandle" ∧ yX2_bitsOf.cls ≠ "java/lang/invoke/VarHandle" ∧ (parseMethodDescriptor yX2_bitsOf.desc).map (fun d => d.parameters.length) = some 1 := by decide +kernel
set_option maxHeartbeats 4000000 in
set_option maxRecDepth 100000 in
theorem wk_X2_bitsOf_S4 {p : Program} {l : Launch} {e : Env} {s : State} {m : MethodId} {args : Array Value} {below : List Frame} {meth : Method} {c : Code}   {Post : Int32 → Prop} {K4 : Int32 → Int32 → Prop}  (X : CxP p s m args meth c cX2_bitsOf 3 (some .int) RX2)  (hK4 : ∀ (i1 : Int32) (i2 : Int32), K4 i1 i2 → ∀ (ls : Array Slot), lv_has ls 3 [(1, .int i1), (2, .int i2)] → W p l e rm_X2_bitsOf s m args below meth c s.heap [] 0 0 (MQ below (vp_Si Post) args s 0 0 (fun _ => False)) (F0 m 4 ls [])) (i1 : Int32) (i2 : Int32) (w : wp_X2_bitsOf_S4  Post K4 i1 i2) : ∀ (ls : Array Slot), lv_has ls 3 [(1, .int i1), (2, .int i2)] → W p l e rm_X2_bitsOf s m args below meth c s.heap [] 0 0 (MQ below (vp_Si Post) args s 0 0 (fun _ => False)) (F0 m 4 ls []) := by
  intro ls hl
  have X0 := X
  obtain ⟨hx, hb, hml, hr, hlk, hown, hts⟩ := X0
  unfold wp_X2_bitsOf_S4 at w
  refine lv_iload_n hx hb dX2_bitsOf_4 rfl (lv_at hl 1 rfl) ?_
  refine lv_if_eq (tgt := 20) hx hb dX2_bitsOf_5 (by decide) (fun c => ?_) (fun c => ?_)
  · have w := And.left w c
    refine lv_iload_n hx hb dX2_bitsOf_20 rfl (lv_at hl 0 rfl) ?_
    exact W.iret (v := i1) hx hb hr (fun t ht hW => ⟨i1, rfl, w, ht⟩) (fun _ h => by cases h) dX2_bitsOf_21 hlk
  · have w := And.right w c
    refine lv_iinc (v := (i1 + 1)) (lv' := [(1, .int (i1 + 1)), (2, .int i2)]) hx hb dX2_bitsOf_8 hl (k := 0) rfl rfl (by decide) rfl (fun ls hl => ?_)
    refine lv_iload_n hx hb dX2_bitsOf_11 rfl (lv_at hl 1 rfl) ?_
    refine lv_iload_n hx hb dX2_bitsOf_12 rfl (lv_at hl 1 rfl) ?_
    refine lv_iconst (v := 1) hx hb dX2_bitsOf_13 (by decide) ?_
    refine lv_isub hx hb dX2_bitsOf_14 ?_
    refine lv_iand hx hb dX2_bitsOf_15 ?_
    refine lv_istore_n (lv' := [(2, .int (i2 &&& (i2 - (1 : Int32)))), (1, .int (i1 + 1))]) hx hb dX2_bitsOf_16 rfl hl (by decide) rfl (fun ls hl => ?_)
    refine lv_goto (tgt := 4) hx hb dX2_bitsOf_17 (by decide) ?_
    exact hK4 _ _ w _ (lv_sub hl [1, 0] rfl)
set_option maxHeartbeats 4000000 in
set_option maxRecDepth 100000 in
theorem wk_X2_bitsOf_L4 {p : Program} {l : Launch} {e : Env} {s : State} {m : MethodId} {args : Array Value} {below : List Frame} {meth : Method} {c : Code}   {Post : Int32 → Prop}   (X : CxP p s m args meth c cX2_bitsOf 3 (some .int) RX2)   : ∀ (n : Nat) (i1 : Int32) (i2 : Int32), wp_X2_bitsOf_L4  Post  n i1 i2 → ∀ (ls : Array Slot), lv_has ls 3 [(1, .int i1), (2, .int i2)] → W p l e rm_X2_bitsOf s m args below meth c s.heap [] 0 0 (MQ below (vp_Si Post) args s 0 0 (fun _ => False)) (F0 m 4 ls []) := by
  intro n
  induction n with
  | zero => intro i1 i2 w; exact False.elim w
  | succ n ih => intro i1 i2 w ls hl; exact wk_X2_bitsOf_S4 X  ih i1 i2 w ls hl
set_option maxHeartbeats 4000000 in
set_option maxRecDepth 100000 in
theorem met_X2_bitsOf (l : Launch) {i0 : Int32} {Post : Int32 → Prop} (w : wp_X2_bitsOf i0 Post) : Met l yX2_bitsOf (ws_ yX2_bitsOf cX2_bitsOf 3 (some .int)) rm_X2_bitsOf (va_Pc [.int i0] (fun _ => True)) (vp_Si Post) 0 0 (fun _ => False) := by
  refine open_P (by decide) (Nat.le_of_ble_eq_true rfl) ?_
  intro p e s m args below meth c ls X hl
  have X0 := X
  obtain ⟨hx, hb, hml, hr, hlk, hown, hts⟩ := X0
  have hl : lv_has ls 3 [(0, .int i0)] := hl
  unfold wp_X2_bitsOf at w
  refine lv_iconst (v := 0) hx hb dX2_bitsOf_0 (by decide) ?_
  refine lv_istore_n (lv' := [(1, .int (0 : Int32)), (0, .int i0)]) hx hb dX2_bitsOf_1 rfl hl (by decide) rfl (fun ls hl => ?_)
  refine lv_iload_n hx hb dX2_bitsOf_2 rfl (lv_at hl 1 rfl) ?_
  refine lv_istore_n (lv' := [(2, .int i0), (1, .int (0 : Int32)), (0, .int i0)]) hx hb dX2_bitsOf_3 rfl hl (by decide) rfl (fun ls hl => ?_)
  obtain ⟨n, w⟩ := w
  exact wk_X2_bitsOf_L4 X  n _ _ w _ (lv_sub hl [1, 0] rfl)
abbrev rm_X2_actBy : Room := { frames := 0, cells := 0, slots := 0, locals := 0 }
theorem hd_X2_actBy : yX2_actBy.cls ≠ "java/lang/invoke/MethodHandle" ∧ yX2_actBy.cls ≠ "java/lang/invoke/VarHandle" ∧ (parseMethodDescriptor yX2_actBy.desc).map (fun d => d.parameters.length) = some 1 := by decide +kernel
set_option maxHeartbeats 4000000 in
set_option maxRecDepth 100000 in
theorem wk_X2_actBy_L48 {p : Program} {l : Launch} {e : Env} {s : State} {m : MethodId} {args : Array Value} {below : List Frame} {meth : Method} {c : Code}   {Post : Int32 → Prop}   (X : CxP p s m args meth c cX2_actBy 1 (some .int) RX2)    (w : wp_X2_actBy_L48  Post  ) : ∀ (ls : Array Slot), lv_has ls 1 [] → W p l e rm_X2_actBy s m args below meth c s.heap [] 0 0 (MQ below (vp_Si Post) args s 0 0 (fun _ => False)) (F0 m 48 ls []) := by
  intro ls hl
  have X0 := X
  obtain ⟨hx, hb, hml, hr, hlk, hown, hts⟩ := X0
  unfold wp_X2_actBy_L48 at w
  refine lv_iconst (v := 2) hx hb dX2_actBy_48 (by decide) ?_
  exact W.iret (v := (2 : Int32)) hx hb hr (fun t ht hW => ⟨(2 : Int32), rfl, w, ht⟩) (fun _ h => by cases h) dX2_actBy_49 hlk
set_option maxHeartbeats 4000000 in
set_option maxRecDepth 100000 in
theorem met_X2_actBy (l : Launch) {i0 : Int32} {Post : Int32 → Prop} (w : wp_X2_actBy i0 Post) : Met l yX2_actBy (ws_ yX2_actBy cX2_actBy 1 (some .int)) rm_X2_actBy (va_Pc [.int i0] (fun _ => True)) (vp_Si Post) 0 0 (fun _ => False) := by
  refine open_P (by decide) (Nat.le_of_ble_eq_true rfl) ?_
  intro p e s m args below meth c ls X hl
  have X0 := X
  obtain ⟨hx, hb, hml, hr, hlk, hown, hts⟩ := X0
  have hl : lv_has ls 1 [(0, .int i0)] := hl
  unfold wp_X2_actBy at w
  refine lv_iload_n hx hb dX2_actBy_0 rfl (lv_at hl 0 rfl) ?_
  by_cases c1_0 : i0 = 0
  · have w := And.left w c1_0
    refine lv_tableIn (tgt := 44) hx hb dX2_actBy_1 (by rw [c1_0]; decide) (by rw [c1_0]; decide) (by rw [c1_0]; rfl) (by decide) ?_
    refine lv_iconst (v := 0) hx hb dX2_actBy_44 (by decide) ?_
    exact W.iret (v := (0 : Int32)) hx hb hr (fun t ht hW => ⟨(0 : Int32), rfl, w, ht⟩) (fun _ h => by cases h) dX2_actBy_45 hlk
  have w := And.right w c1_0
  by_cases c1_1 : i0 = 1
  · have w := And.left w c1_1
    refine lv_tableIn (tgt := 46) hx hb dX2_actBy_1 (by rw [c1_1]; decide) (by rw [c1_1]; decide) (by rw [c1_1]; rfl) (by decide) ?_
    refine lv_iconst (v := 5) hx hb dX2_actBy_46 (by decide) ?_
    exact W.iret (v := (5 : Int32)) hx hb hr (fun t ht hW => ⟨(5 : Int32), rfl, w, ht⟩) (fun _ h => by cases h) dX2_actBy_47 hlk
  have w := And.right w c1_1
  by_cases c1_2 : i0 = 2
  · have w := And.left w c1_2
    refine lv_tableIn (tgt := 48) hx hb dX2_actBy_1 (by rw [c1_2]; decide) (by rw [c1_2]; decide) (by rw [c1_2]; rfl) (by decide) ?_
    exact wk_X2_actBy_L48 X   w _ (lv_sub hl [] rfl)
  have w := And.right w c1_2
  by_cases c1_3 : i0 = 3
  · have w := And.left w c1_3
    refine lv_tableIn (tgt := 48) hx hb dX2_actBy_1 (by rw [c1_3]; decide) (by rw [c1_3]; decide) (by rw [c1_3]; rfl) (by decide) ?_
    exact wk_X2_actBy_L48 X   w _ (lv_sub hl [] rfl)
  have w := And.right w c1_3
  by_cases c1_4 : i0 = 4
  · have w := And.left w c1_4
    refine lv_tableIn (tgt := 50) hx hb dX2_actBy_1 (by rw [c1_4]; decide) (by rw [c1_4]; decide) (by rw [c1_4]; rfl) (by decide) ?_
    refine lv_iconst (v := 3) hx hb dX2_actBy_50 (by decide) ?_
    exact W.iret (v := (3 : Int32)) hx hb hr (fun t ht hW => ⟨(3 : Int32), rfl, w, ht⟩) (fun _ h => by cases h) dX2_actBy_51 hlk
  have w := And.right w c1_4
  by_cases c1_5 : i0 = 5
  · have w := And.left w c1_5
    refine lv_tableIn (tgt := 52) hx hb dX2_actBy_1 (by rw [c1_5]; decide) (by rw [c1_5]; decide) (by rw [c1_5]; rfl) (by decide) ?_
    refine lv_iconst (v := 4) hx hb dX2_actBy_52 (by decide) ?_
    exact W.iret (v := (4 : Int32)) hx hb hr (fun t ht hW => ⟨(4 : Int32), rfl, w, ht⟩) (fun _ h => by cases h) dX2_actBy_53 hlk
  have w := And.right w c1_5
  by_cases c1_6 : i0 = 6
  · have w := And.left w c1_6
    refine lv_tableIn (tgt := 54) hx hb dX2_actBy_1 (by rw [c1_6]; decide) (by rw [c1_6]; decide) (by rw [c1_6]; rfl) (by decide) ?_
    refine lv_iconst (v := 1) hx hb dX2_actBy_54 (by decide) ?_
    exact W.iret (v := (1 : Int32)) hx hb hr (fun t ht hW => ⟨(1 : Int32), rfl, w, ht⟩) (fun _ h => by cases h) dX2_actBy_55 hlk
  have w := And.right w c1_6
  refine lv_tableOut (tgt := 56) hx hb dX2_actBy_1 (by have h0 := lv_neT c1_0 (a := 0) (by decide); have h1 := lv_neT c1_1 (a := 1) (by decide); have h2 := lv_neT c1_2 (a := 2) (by decide); have h3 := lv_neT c1_3 (a := 3) (by decide); have h4 := lv_neT c1_4 (a := 4) (by decide); have h5 := lv_neT c1_5 (a := 5) (by decide); have h6 := lv_neT c1_6 (a := 6) (by decide); omega) (by decide) ?_
  refine lv_bipush (v := 6) hx hb dX2_actBy_56 (by decide) ?_
  exact W.iret (v := (6 : Int32)) hx hb hr (fun t ht hW => ⟨(6 : Int32), rfl, w, ht⟩) (fun _ h => by cases h) dX2_actBy_58 hlk
abbrev rm_X2_muchBy : Room := { frames := 0, cells := 0, slots := 0, locals := 0 }
theorem hd_X2_muchBy : yX2_muchBy.cls ≠ "java/lang/invoke/MethodHandle" ∧ yX2_muchBy.cls ≠ "java/lang/invoke/VarHandle" ∧ (parseMethodDescriptor yX2_muchBy.desc).map (fun d => d.parameters.length) = some 2 := by decide +kernel
set_option maxHeartbeats 4000000 in
set_option maxRecDepth 100000 in
theorem met_X2_muchBy (l : Launch) {i0 : Int32} {i1 : Int32} {Post : Int32 → Prop} (w : wp_X2_muchBy i0 i1 Post) : Met l yX2_muchBy (ws_ yX2_muchBy cX2_muchBy 2 (some .int)) rm_X2_muchBy (va_Pc [.int i0, .int i1] (fun _ => True)) (vp_Si Post) 0 0 (fun _ => False) := by
  refine open_P (by decide) (Nat.le_of_ble_eq_true rfl) ?_
  intro p e s m args below meth c ls X hl
  have X0 := X
  obtain ⟨hx, hb, hml, hr, hlk, hown, hts⟩ := X0
  have hl : lv_has ls 2 [(0, .int i0), (1, .int i1)] := hl
  unfold wp_X2_muchBy at w
  refine lv_iload_n hx hb dX2_muchBy_0 rfl (lv_at hl 0 rfl) ?_
  by_cases c1_0 : i0 = 2
  · have w := And.left w c1_0
    refine lv_tableIn (tgt := 28) hx hb dX2_muchBy_1 (by rw [c1_0]; decide) (by rw [c1_0]; decide) (by rw [c1_0]; rfl) (by decide) ?_
    refine lv_iload_n hx hb dX2_muchBy_28 rfl (lv_at hl 1 rfl) ?_
    refine lv_bipush (v := 8) hx hb dX2_muchBy_29 (by decide) ?_
    refine lv_irem hx hb dX2_muchBy_31 (by decide) ?_
    exact W.iret (v := (i1 - i1 / (8 : Int32) * (8 : Int32))) hx hb hr (fun t ht hW => ⟨(i1 - i1 / (8 : Int32) * (8 : Int32)), rfl, w, ht⟩) (fun _ h => by cases h) dX2_muchBy_32 hlk
  have w := And.right w c1_0
  by_cases c1_1 : i0 = 3
  · have w := And.left w c1_1
    refine lv_tableIn (tgt := 38) hx hb dX2_muchBy_1 (by rw [c1_1]; decide) (by rw [c1_1]; decide) (by rw [c1_1]; rfl) (by decide) ?_
    refine lv_bipush (v := 10) hx hb dX2_muchBy_38 (by decide) ?_
    refine lv_iconst (v := 1) hx hb dX2_muchBy_40 (by decide) ?_
    refine lv_iload_n hx hb dX2_muchBy_41 rfl (lv_at hl 1 rfl) ?_
    refine lv_bipush (v := 9) hx hb dX2_muchBy_42 (by decide) ?_
    refine lv_irem hx hb dX2_muchBy_44 (by decide) ?_
    refine lv_iadd hx hb dX2_muchBy_45 ?_
    refine lv_imul hx hb dX2_muchBy_46 ?_
    exact W.iret (v := ((10 : Int32) * ((1 : Int32) + (i1 - i1 / (9 : Int32) * (9 : Int32))))) hx hb hr (fun t ht hW => ⟨((10 : Int32) * ((1 : Int32) + (i1 - i1 / (9 : Int32) * (9 : Int32)))), rfl, w, ht⟩) (fun _ h => by cases h) dX2_muchBy_47 hlk
  have w := And.right w c1_1
  by_cases c1_2 : i0 = 4
  · have w := And.left w c1_2
    refine lv_tableIn (tgt := 33) hx hb dX2_muchBy_1 (by rw [c1_2]; decide) (by rw [c1_2]; decide) (by rw [c1_2]; rfl) (by decide) ?_
    refine lv_iload_n hx hb dX2_muchBy_33 rfl (lv_at hl 1 rfl) ?_
    refine lv_bipush (v := 6) hx hb dX2_muchBy_34 (by decide) ?_
    refine lv_irem hx hb dX2_muchBy_36 (by decide) ?_
    exact W.iret (v := (i1 - i1 / (6 : Int32) * (6 : Int32))) hx hb hr (fun t ht hW => ⟨(i1 - i1 / (6 : Int32) * (6 : Int32)), rfl, w, ht⟩) (fun _ h => by cases h) dX2_muchBy_37 hlk
  have w := And.right w c1_2
  refine lv_tableOut (tgt := 48) hx hb dX2_muchBy_1 (by have h0 := lv_neT c1_0 (a := 2) (by decide); have h1 := lv_neT c1_1 (a := 3) (by decide); have h2 := lv_neT c1_2 (a := 4) (by decide); omega) (by decide) ?_
  refine lv_bipush (v := 100) hx hb dX2_muchBy_48 (by decide) ?_
  refine lv_iconst (v := 1) hx hb dX2_muchBy_50 (by decide) ?_
  refine lv_iload_n hx hb dX2_muchBy_51 rfl (lv_at hl 1 rfl) ?_
  refine lv_bipush (v := 9) hx hb dX2_muchBy_52 (by decide) ?_
  refine lv_irem hx hb dX2_muchBy_54 (by decide) ?_
  refine lv_iadd hx hb dX2_muchBy_55 ?_
  refine lv_imul hx hb dX2_muchBy_56 ?_
  exact W.iret (v := ((100 : Int32) * ((1 : Int32) + (i1 - i1 / (9 : Int32) * (9 : Int32))))) hx hb hr (fun t ht hW => ⟨((100 : Int32) * ((1 : Int32) + (i1 - i1 / (9 : Int32) * (9 : Int32)))), rfl, w, ht⟩) (fun _ h => by cases h) dX2_muchBy_57 hlk
abbrev rm_X1_copy : Room := { frames := 1, cells := 0, slots := 0, locals := 120 }
theorem hd_X1_copy : yX1_copy.cls = RX1 ∧ yX1_copy.cls ≠ "java/lang/invoke/MethodHandle" ∧ yX1_copy.cls ≠ "java/lang/invoke/VarHandle" ∧ (parseMethodDescriptor yX1_copy.desc).map (fun d => d.parameters.length) = some 1 := by decide +kernel
set_option maxHeartbeats 4000000 in
set_option maxRecDepth 100000 in
theorem wk_X1_copy_S32 {p : Program} {l : Launch} {e : Env} {s : State} {m : MethodId} {args : Array Value} {below : List Frame} {meth : Method} {c : Code} {dC : Nat → ClassId} {dI : Nat → Nat → Nat} {ct : Nat → ClassId} {A : Nat → Prop} {a : Nat → Nat} {b : Nat → Nat} {Post : V → Prop} {K32 : Int32 → V → V → Prop}  (X : CxW p s m args meth c cX1_copy 3 none RX1 dC dI ct A) (hD : ∀ (v : V) (vb : V), va_D A (LW a ct v ++ LW b ct vb)) (hK32 : ∀ (i2 : Int32) (v : V) (vb : V), K32 i2 v vb → ∀ (H : Heap) (locs : List Loc) (ls : Array Slot), va_P (dC, dI) vwCl (LW a ct v ++ LW b ct vb) H → va_S A s.heap H locs → lv_has ls 3 [(0, .ref (a 0)), (1, .ref (b 0)), (2, .int i2)] → W p l e rm_X1_copy s m args below meth c H locs 0 0 (MQ below (va_Qv (fun (u : V) => Post u) (fun (u : V) t => WPos dC dI ct (LW a ct u ++ LW b ct vb) A t) A) args s 0 0 A) (F0 m 32 ls [])) (i2 : Int32) (v : V) (vb : V) (w : wp_X1_copy_S32  Post K32 i2 v vb) : ∀ (H : Heap) (locs : List Loc) (ls : Array Slot), va_P (dC, dI) vwCl (LW a ct v ++ LW b ct vb) H → va_S A s.heap H locs → lv_has ls 3 [(0, .ref (a 0)), (1, .ref (b 0)), (2, .int i2)] → W p l e rm_X1_copy s m args below meth c H locs 0 0 (MQ below (va_Qv (fun (u : V) => Post u) (fun (u : V) t => WPos dC dI ct (LW a ct u ++ LW b ct vb) A t) A) args s 0 0 A) (F0 m 32 ls []) := by
  intro H locs ls hP hS hl
  have X0 := X
  obtain ⟨⟨hx, hb, hml, hr, hlk, hown, hts⟩, hA, hK, hN⟩ := X0
  unfold wp_X1_copy_S32 at w
  refine lv_iload_n hx hb dX1_copy_32 rfl (lv_at hl 2 rfl) ?_
  refine lv_bipush (v := 6) hx hb dX1_copy_33 (by decide) ?_
  refine lv_icmp_ge (tgt := 63) hx hb dX1_copy_35 (by decide) (fun c => ?_) (fun c => ?_)
  · have w := And.left w c
    refine lv_aload_n hx hb dX1_copy_63 rfl (lv_at hl 1 rfl) ?_
    refine va_get (D := (dC, dI)) (ci := 1) (v := .ref (b 10)) (C := RX1) (T := TX1) (N := 13) hx hb hts in_X1 hown hK hP 16 rfl rfl 3 (by decide) (hts _ q80) (fun _ h9 => h9) rfl dX1_copy_64 ?_
    refine lv_iconst (v := 0) hx hb dX1_copy_67 (by decide) ?_
    refine lv_aload_n hx hb dX1_copy_68 rfl (lv_at hl 0 rfl) ?_
    refine va_get (D := (dC, dI)) (ci := 1) (v := .ref (a 10)) (C := RX1) (T := TX1) (N := 13) hx hb hts in_X1 hown hK hP 0 rfl rfl 3 (by decide) (hts _ q80) (fun _ h9 => h9) rfl dX1_copy_69 ?_
    refine lv_iconst (v := 0) hx hb dX1_copy_72 (by decide) ?_
    refine lv_bipush (v := 8) hx hb dX1_copy_73 (by decide) ?_
    refine va_copyi hx hb (hml.trans hl.1.symm) hown (hts _ q233) (hts _ q235) (hts _ q234) (hts _ q52) hK hP (hD _ _) hS 26 10 0 0 rfl rfl rfl rfl rfl (by decide) (by decide) (by decide) (by decide) (by decide) (fun _ _ => rfl) (Nat.le_of_ble_eq_true rfl) (by decide +kernel) dX1_copy_75 (fun H locs hP _ hS => ?_)
    have hP : va_P (dC, dI) vwCl (LW a ct (upRg v 8 (va_cpy (vb 8) (v 8) 0 0 8)) ++ LW b ct vb) H := LC_r_v_8 hP
    refine lv_aload_n hx hb dX1_copy_78 rfl (lv_at hl 1 rfl) ?_
    refine va_get (D := (dC, dI)) (ci := 1) (v := .ref (b 11)) (C := RX1) (T := TX1) (N := 13) hx hb hts in_X1 hown hK hP 16 rfl rfl 4 (by decide) (hts _ q82) (fun _ h9 => h9) rfl dX1_copy_79 ?_
    refine lv_iconst (v := 0) hx hb dX1_copy_82 (by decide) ?_
    refine lv_aload_n hx hb dX1_copy_83 rfl (lv_at hl 0 rfl) ?_
    refine va_get (D := (dC, dI)) (ci := 1) (v := .ref (a 11)) (C := RX1) (T := TX1) (N := 13) hx hb hts in_X1 hown hK hP 0 rfl rfl 4 (by decide) (hts _ q82) (fun _ h9 => h9) rfl dX1_copy_84 ?_
    refine lv_iconst (v := 0) hx hb dX1_copy_87 (by decide) ?_
    refine lv_bipush (v := 8) hx hb dX1_copy_88 (by decide) ?_
    refine va_copyi hx hb (hml.trans hl.1.symm) hown (hts _ q233) (hts _ q235) (hts _ q234) (hts _ q52) hK hP (hD _ _) hS 27 11 0 0 rfl rfl rfl rfl rfl (by decide) (by decide) (by decide) (by decide) (by decide) (fun _ _ => rfl) (Nat.le_of_ble_eq_true rfl) (by decide +kernel) dX1_copy_90 (fun H locs hP _ hS => ?_)
    have hP : va_P (dC, dI) vwCl (LW a ct (upRg (upRg v 8 (va_cpy (vb 8) (v 8) 0 0 8)) 9 (va_cpy (vb 9) (v 9) 0 0 8)) ++ LW b ct vb) H := LC_r_v_9 hP
    refine lv_aload_n hx hb dX1_copy_93 rfl (lv_at hl 1 rfl) ?_
    refine va_get (D := (dC, dI)) (ci := 1) (v := .ref (b 12)) (C := RX1) (T := TX1) (N := 13) hx hb hts in_X1 hown hK hP 16 rfl rfl 5 (by decide) (hts _ q84) (fun _ h9 => h9) rfl dX1_copy_94 ?_
    refine lv_iconst (v := 0) hx hb dX1_copy_97 (by decide) ?_
    refine lv_aload_n hx hb dX1_copy_98 rfl (lv_at hl 0 rfl) ?_
    refine va_get (D := (dC, dI)) (ci := 1) (v := .ref (a 12)) (C := RX1) (T := TX1) (N := 13) hx hb hts in_X1 hown hK hP 0 rfl rfl 5 (by decide) (hts _ q84) (fun _ h9 => h9) rfl dX1_copy_99 ?_
    refine lv_iconst (v := 0) hx hb dX1_copy_102 (by decide) ?_
    refine lv_aload_n hx hb dX1_copy_103 rfl (lv_at hl 0 rfl) ?_
    refine va_get (D := (dC, dI)) (ci := 1) (v := .ref (a 12)) (C := RX1) (T := TX1) (N := 13) hx hb hts in_X1 hown hK hP 0 rfl rfl 5 (by decide) (hts _ q84) (fun _ h9 => h9) rfl dX1_copy_104 ?_
    refine va_alen (v := 2) hx hb hK hP 12 0 rfl rfl rfl dX1_copy_107 ?_
    refine va_copyi hx hb (hml.trans hl.1.symm) hown (hts _ q233) (hts _ q235) (hts _ q234) (hts _ q52) hK hP (hD _ _) hS 28 12 0 0 rfl rfl rfl rfl rfl (by decide) (by decide) (by decide) (by decide) (by decide) (fun _ _ => rfl) (Nat.le_of_ble_eq_true rfl) (by decide +kernel) dX1_copy_108 (fun H locs hP _ hS => ?_)
    have hP : va_P (dC, dI) vwCl (LW a ct (upRg (upRg (upRg v 8 (va_cpy (vb 8) (v 8) 0 0 8)) 9 (va_cpy (vb 9) (v 9) 0 0 8)) 10 (va_cpy (vb 10) (v 10) 0 0 2)) ++ LW b ct vb) H := LC_r_v_10 hP
    refine lv_aload_n hx hb dX1_copy_111 rfl (lv_at hl 0 rfl) ?_
    refine lv_aload_n hx hb dX1_copy_112 rfl (lv_at hl 1 rfl) ?_
    refine va_get (D := (dC, dI)) (ci := 1) (v := .int (vb 14 0)) (C := RX1) (T := TX1) (N := 13) hx hb hts in_X1 hown hK hP 16 rfl rfl 6 (by decide) (hts _ q86) (fun _ h9 => h9) rfl dX1_copy_113 ?_
    refine va_put (D := (dC, dI)) (ci := 1) (v := .int (vb 14 0)) (ty := .int) (C := RX1) (T := TX1) (N := 13) hx hb hts in_X1 tyX1 tyX1_ok nmX1 hown hK hP (hD _ _) hS 0 rfl rfl 6 (by decide) (hts _ q86) (fun _ h9 => h9) rfl (by decide +kernel) rfl rfl (Nat.le_of_ble_eq_true rfl) dX1_copy_116 (fun H locs hP _ hS => ?_)
    have hP : va_P (dC, dI) vwCl (LW a ct (up2 (upRg (upRg (upRg v 8 (va_cpy (vb 8) (v 8) 0 0 8)) 9 (va_cpy (vb 9) (v 9) 0 0 8)) 10 (va_cpy (vb 10) (v 10) 0 0 2)) 14 0 (vb 14 0)) ++ LW b ct vb) H := LC_s_v_0 hP
    refine lv_aload_n hx hb dX1_copy_119 rfl (lv_at hl 0 rfl) ?_
    refine lv_aload_n hx hb dX1_copy_120 rfl (lv_at hl 1 rfl) ?_
    refine va_get (D := (dC, dI)) (ci := 1) (v := .int (vb 14 1)) (C := RX1) (T := TX1) (N := 13) hx hb hts in_X1 hown hK hP 16 rfl rfl 7 (by decide) (hts _ q88) (fun _ h9 => h9) rfl dX1_copy_121 ?_
    refine va_put (D := (dC, dI)) (ci := 1) (v := .int (vb 14 1)) (ty := .int) (C := RX1) (T := TX1) (N := 13) hx hb hts in_X1 tyX1 tyX1_ok nmX1 hown hK hP (hD _ _) hS 0 rfl rfl 7 (by decide) (hts _ q88) (fun _ h9 => h9) rfl (by decide +kernel) rfl rfl (Nat.le_of_ble_eq_true rfl) dX1_copy_124 (fun H locs hP _ hS => ?_)
    have hP : va_P (dC, dI) vwCl (LW a ct (up2 (up2 (upRg (upRg (upRg v 8 (va_cpy (vb 8) (v 8) 0 0 8)) 9 (va_cpy (vb 9) (v 9) 0 0 8)) 10 (va_cpy (vb 10) (v 10) 0 0 2)) 14 0 (vb 14 0)) 14 1 (vb 14 1)) ++ LW b ct vb) H := LC_s_v_1 hP
    refine lv_aload_n hx hb dX1_copy_127 rfl (lv_at hl 0 rfl) ?_
    refine lv_aload_n hx hb dX1_copy_128 rfl (lv_at hl 1 rfl) ?_
    refine va_get (D := (dC, dI)) (ci := 1) (v := .int (vb 14 2)) (C := RX1) (T := TX1) (N := 13) hx hb hts in_X1 hown hK hP 16 rfl rfl 8 (by decide) (hts _ q90) (fun _ h9 => h9) rfl dX1_copy_129 ?_
    refine va_put (D := (dC, dI)) (ci := 1) (v := .int (vb 14 2)) (ty := .int) (C := RX1) (T := TX1) (N := 13) hx hb hts in_X1 tyX1 tyX1_ok nmX1 hown hK hP (hD _ _) hS 0 rfl rfl 8 (by decide) (hts _ q90) (fun _ h9 => h9) rfl (by decide +kernel) rfl rfl (Nat.le_of_ble_eq_true rfl) dX1_copy_132 (fun H locs hP _ hS => ?_)
    have hP : va_P (dC, dI) vwCl (LW a ct (up2 (up2 (up2 (upRg (upRg (upRg v 8 (va_cpy (vb 8) (v 8) 0 0 8)) 9 (va_cpy (vb 9) (v 9) 0 0 8)) 10 (va_cpy (vb 10) (v 10) 0 0 2)) 14 0 (vb 14 0)) 14 1 (vb 14 1)) 14 2 (vb 14 2)) ++ LW b ct vb) H := LC_s_v_2 hP
    refine lv_aload_n hx hb dX1_copy_135 rfl (lv_at hl 1 rfl) ?_
    refine va_get (D := (dC, dI)) (ci := 1) (v := .ref (b 13)) (C := RX1) (T := TX1) (N := 13) hx hb hts in_X1 hown hK hP 16 rfl rfl 9 (by decide) (hts _ q92) (fun _ h9 => h9) rfl dX1_copy_136 ?_
    refine lv_iconst (v := 0) hx hb dX1_copy_139 (by decide) ?_
    refine lv_aload_n hx hb dX1_copy_140 rfl (lv_at hl 0 rfl) ?_
    refine va_get (D := (dC, dI)) (ci := 1) (v := .ref (a 13)) (C := RX1) (T := TX1) (N := 13) hx hb hts in_X1 hown hK hP 0 rfl rfl 9 (by decide) (hts _ q92) (fun _ h9 => h9) rfl dX1_copy_141 ?_
    refine lv_iconst (v := 0) hx hb dX1_copy_144 (by decide) ?_
    refine lv_bipush (v := 8) hx hb dX1_copy_145 (by decide) ?_
    refine va_copyi hx hb (hml.trans hl.1.symm) hown (hts _ q233) (hts _ q235) (hts _ q234) (hts _ q52) hK hP (hD _ _) hS 29 13 0 0 rfl rfl rfl rfl rfl (by decide) (by decide) (by decide) (by decide) (by decide) (fun _ _ => rfl) (Nat.le_of_ble_eq_true rfl) (by decide +kernel) dX1_copy_147 (fun H locs hP _ hS => ?_)
    have hP : va_P (dC, dI) vwCl (LW a ct (upRg (up2 (up2 (up2 (upRg (upRg (upRg v 8 (va_cpy (vb 8) (v 8) 0 0 8)) 9 (va_cpy (vb 9) (v 9) 0 0 8)) 10 (va_cpy (vb 10) (v 10) 0 0 2)) 14 0 (vb 14 0)) 14 1 (vb 14 1)) 14 2 (vb 14 2)) 11 (va_cpy (vb 11) (v 11) 0 0 8)) ++ LW b ct vb) H := LC_r_v_11 hP
    refine lv_aload_n hx hb dX1_copy_150 rfl (lv_at hl 1 rfl) ?_
    refine va_get (D := (dC, dI)) (ci := 1) (v := .ref (b 14)) (C := RX1) (T := TX1) (N := 13) hx hb hts in_X1 hown hK hP 16 rfl rfl 10 (by decide) (hts _ q94) (fun _ h9 => h9) rfl dX1_copy_151 ?_
    refine lv_iconst (v := 0) hx hb dX1_copy_154 (by decide) ?_
    refine lv_aload_n hx hb dX1_copy_155 rfl (lv_at hl 0 rfl) ?_
    refine va_get (D := (dC, dI)) (ci := 1) (v := .ref (a 14)) (C := RX1) (T := TX1) (N := 13) hx hb hts in_X1 hown hK hP 0 rfl rfl 10 (by decide) (hts _ q94) (fun _ h9 => h9) rfl dX1_copy_156 ?_
    refine lv_iconst (v := 0) hx hb dX1_copy_159 (by decide) ?_
    refine lv_bipush (v := 8) hx hb dX1_copy_160 (by decide) ?_
    refine va_copyi hx hb (hml.trans hl.1.symm) hown (hts _ q233) (hts _ q235) (hts _ q234) (hts _ q52) hK hP (hD _ _) hS 30 14 0 0 rfl rfl rfl rfl rfl (by decide) (by decide) (by decide) (by decide) (by decide) (fun _ _ => rfl) (Nat.le_of_ble_eq_true rfl) (by decide +kernel) dX1_copy_162 (fun H locs hP _ hS => ?_)
    have hP : va_P (dC, dI) vwCl (LW a ct (upRg (upRg (up2 (up2 (up2 (upRg (upRg (upRg v 8 (va_cpy (vb 8) (v 8) 0 0 8)) 9 (va_cpy (vb 9) (v 9) 0 0 8)) 10 (va_cpy (vb 10) (v 10) 0 0 2)) 14 0 (vb 14 0)) 14 1 (vb 14 1)) 14 2 (vb 14 2)) 11 (va_cpy (vb 11) (v 11) 0 0 8)) 12 (va_cpy (vb 12) (v 12) 0 0 8)) ++ LW b ct vb) H := LC_r_v_12 hP
    refine lv_aload_n hx hb dX1_copy_165 rfl (lv_at hl 1 rfl) ?_
    refine va_get (D := (dC, dI)) (ci := 1) (v := .ref (b 15)) (C := RX1) (T := TX1) (N := 13) hx hb hts in_X1 hown hK hP 16 rfl rfl 11 (by decide) (hts _ q96) (fun _ h9 => h9) rfl dX1_copy_166 ?_
    refine lv_iconst (v := 0) hx hb dX1_copy_169 (by decide) ?_
    refine lv_aload_n hx hb dX1_copy_170 rfl (lv_at hl 0 rfl) ?_
    refine va_get (D := (dC, dI)) (ci := 1) (v := .ref (a 15)) (C := RX1) (T := TX1) (N := 13) hx hb hts in_X1 hown hK hP 0 rfl rfl 11 (by decide) (hts _ q96) (fun _ h9 => h9) rfl dX1_copy_171 ?_
    refine lv_iconst (v := 0) hx hb dX1_copy_174 (by decide) ?_
    refine lv_bipush (v := 8) hx hb dX1_copy_175 (by decide) ?_
    refine va_copyi hx hb (hml.trans hl.1.symm) hown (hts _ q233) (hts _ q235) (hts _ q234) (hts _ q52) hK hP (hD _ _) hS 31 15 0 0 rfl rfl rfl rfl rfl (by decide) (by decide) (by decide) (by decide) (by decide) (fun _ _ => rfl) (Nat.le_of_ble_eq_true rfl) (by decide +kernel) dX1_copy_177 (fun H locs hP _ hS => ?_)
    have hP : va_P (dC, dI) vwCl (LW a ct (upRg (upRg (upRg (up2 (up2 (up2 (upRg (upRg (upRg v 8 (va_cpy (vb 8) (v 8) 0 0 8)) 9 (va_cpy (vb 9) (v 9) 0 0 8)) 10 (va_cpy (vb 10) (v 10) 0 0 2)) 14 0 (vb 14 0)) 14 1 (vb 14 1)) 14 2 (vb 14 2)) 11 (va_cpy (vb 11) (v 11) 0 0 8)) 12 (va_cpy (vb 12) (v 12) 0 0 8)) 13 (va_cpy (vb 13) (v 13) 0 0 8)) ++ LW b ct vb) H := LC_r_v_13 hP
    exact W.vret hx hb hr (fun t ht hW => ⟨⟨(upRg (upRg (upRg (up2 (up2 (up2 (upRg (upRg (upRg v 8 (va_cpy (vb 8) (v 8) 0 0 8)) 9 (va_cpy (vb 9) (v 9) 0 0 8)) 10 (va_cpy (vb 10) (v 10) 0 0 2)) 14 0 (vb 14 0)) 14 1 (vb 14 1)) 14 2 (vb 14 2)) 11 (va_cpy (vb 11) (v 11) 0 0 8)) 12 (va_cpy (vb 12) (v 12) 0 0 8)) 13 (va_cpy (vb 13) (v 13) 0 0 8)), rfl, w, by rw [ht]; exact hP, va_K.moved hW.alike hK, (hD _ _)⟩, hS.F ht⟩) hS.2.2 dX1_copy_180 hlk
  · have w := And.right w c
    refine lv_aload_n hx hb dX1_copy_38 rfl (lv_at hl 1 rfl) ?_
    refine va_get (D := (dC, dI)) (ci := 1) (v := .ref (b 3)) (C := RX1) (T := TX1) (N := 13) hx hb hts in_X1 hown hK hP 16 rfl rfl 2 (by decide) (hts _ q78) (fun _ h9 => h9) rfl dX1_copy_39 ?_
    refine lv_iload_n hx hb dX1_copy_42 rfl (lv_at hl 2 rfl) ?_
    obtain ⟨gi, w⟩ := w
    refine x_aald hx hb hK hP 19 5 rfl rfl rfl gi rfl dX1_copy_43 ?_
    have gk1 := x_vlt gi
    refine lv_iconst (v := 0) hx hb dX1_copy_44 (by decide) ?_
    refine lv_aload_n hx hb dX1_copy_45 rfl (lv_at hl 0 rfl) ?_
    refine va_get (D := (dC, dI)) (ci := 1) (v := .ref (a 3)) (C := RX1) (T := TX1) (N := 13) hx hb hts in_X1 hown hK hP 0 rfl rfl 2 (by decide) (hts _ q78) (fun _ h9 => h9) rfl dX1_copy_46 ?_
    refine lv_iload_n hx hb dX1_copy_49 rfl (lv_at hl 2 rfl) ?_
    obtain ⟨gi, w⟩ := w
    refine x_aald hx hb hK hP 3 5 rfl rfl rfl gi rfl dX1_copy_50 ?_
    have gk2 := x_vlt gi
    refine lv_iconst (v := 0) hx hb dX1_copy_51 (by decide) ?_
    refine lv_bipush (v := 6) hx hb dX1_copy_52 (by decide) ?_
    have gr := gk1
    have gr2 := gk2
    refine va_copyi hx hb (hml.trans hl.1.symm) hown (hts _ q233) (hts _ q235) (hts _ q234) (hts _ q52) hK hP (hD _ _) hS (20 + i2.toNatClampNeg) (4 + i2.toNatClampNeg) 0 0 (LC_rowb gr) (LC_row gr2) rfl rfl rfl (by decide) (by decide) (by decide) (by decide) (by decide) (fun _ _ => rfl) (Nat.le_of_ble_eq_true rfl) (by decide +kernel) dX1_copy_54 (fun H locs hP _ hS => ?_)
    rw [LC_rowset gr2] at hP
    have hP : va_P (dC, dI) vwCl (LW a ct (upRg v (2 + i2.toNatClampNeg) (va_cpy (vb (2 + i2.toNatClampNeg)) (v (2 + i2.toNatClampNeg)) 0 0 6)) ++ LW b ct vb) H := hP
    refine lv_iinc (v := (i2 + 1)) (lv' := [(2, .int (i2 + 1)), (0, .ref (a 0)), (1, .ref (b 0))]) hx hb dX1_copy_57 hl (k := 2) rfl rfl (by decide) rfl (fun ls hl => ?_)
    refine lv_goto (tgt := 32) hx hb dX1_copy_60 (by decide) ?_
    exact hK32 _ _ _ w _ _ _ hP hS (lv_sub hl [1, 2, 0] rfl)
set_option maxHeartbeats 4000000 in
set_option maxRecDepth 100000 in
theorem wk_X1_copy_L32 {p : Program} {l : Launch} {e : Env} {s : State} {m : MethodId} {args : Array Value} {below : List Frame} {meth : Method} {c : Code} {dC : Nat → ClassId} {dI : Nat → Nat → Nat} {ct : Nat → ClassId} {A : Nat → Prop} {a : Nat → Nat} {b : Nat → Nat} {Post : V → Prop}   (X : CxW p s m args meth c cX1_copy 3 none RX1 dC dI ct A) (hD : ∀ (v : V) (vb : V), va_D A (LW a ct v ++ LW b ct vb))  : ∀ (n : Nat) (i2 : Int32) (v : V) (vb : V), wp_X1_copy_L32  Post  n i2 v vb → ∀ (H : Heap) (locs : List Loc) (ls : Array Slot), va_P (dC, dI) vwCl (LW a ct v ++ LW b ct vb) H → va_S A s.heap H locs → lv_has ls 3 [(0, .ref (a 0)), (1, .ref (b 0)), (2, .int i2)] → W p l e rm_X1_copy s m args below meth c H locs 0 0 (MQ below (va_Qv (fun (u : V) => Post u) (fun (u : V) t => WPos dC dI ct (LW a ct u ++ LW b ct vb) A t) A) args s 0 0 A) (F0 m 32 ls []) := by
  intro n
  induction n with
  | zero => intro i2 v vb w; exact False.elim w
  | succ n ih => intro i2 v vb w H locs ls hP hS hl; exact wk_X1_copy_S32 X hD  ih i2 v vb w H locs ls hP hS hl
set_option maxHeartbeats 4000000 in
set_option maxRecDepth 100000 in
theorem met_X1_copy (l : Launch) (dC : Nat → ClassId) (dI : Nat → Nat → Nat) (ct : Nat → ClassId) (a : Nat → Nat) (b : Nat → Nat) (sz : Nat)  {v : V} {vb : V} {Post : V → Prop} (w : wp_X1_copy v vb Post) : Met l yX1_copy (ws_ yX1_copy cX1_copy 3 none) rm_X1_copy (va_Pc [.ref (a 0), .ref (b 0)] (fun U => WPre dC dI ct (LW a ct v ++ LW b ct vb) sz U)) ((fun A => (va_Qv (fun (u : V) => Post u) (fun (u : V) t => WPos dC dI ct (LW a ct u ++ LW b ct vb) A t) A)) (va_A (LW a ct v ++ LW b ct vb) sz)) 0 0 (va_A (LW a ct v ++ LW b ct vb) sz) := by
  refine open_W (fun A => (va_Qv (fun (u : V) => Post u) (fun (u : V) t => WPos dC dI ct (LW a ct u ++ LW b ct vb) A t) A)) (by decide) (Nat.le_of_ble_eq_true rfl) ?_
  intro p e s m args below meth c ls A X hD0 hP hS hl
  have X0 := X
  obtain ⟨⟨hx, hb, hml, hr, hlk, hown, hts⟩, hA, hK, hN⟩ := X0
  have hD : ∀ (v' : V) (vb' : V), va_D A (LW a ct v' ++ LW b ct vb') := fun v' vb' => va_D_addr hD0 rfl
  have hl : lv_has ls 3 [(0, .ref (a 0)), (1, .ref (b 0))] := hl
  unfold wp_X1_copy at w
  have hS0 := hS
  refine lv_aload_n hx hb dX1_copy_0 rfl (lv_at hl 1 rfl) ?_
  refine va_get (D := (dC, dI)) (ci := 1) (v := .ref (b 1)) (C := RX1) (T := TX1) (N := 13) hx hb hts in_X1 hown hK hP 16 rfl rfl 0 (by decide) (hts _ q74) (fun _ h9 => h9) rfl dX1_copy_1 ?_
  refine lv_iconst (v := 0) hx hb dX1_copy_4 (by decide) ?_
  refine lv_aload_n hx hb dX1_copy_5 rfl (lv_at hl 0 rfl) ?_
  refine va_get (D := (dC, dI)) (ci := 1) (v := .ref (a 1)) (C := RX1) (T := TX1) (N := 13) hx hb hts in_X1 hown hK hP 0 rfl rfl 0 (by decide) (hts _ q74) (fun _ h9 => h9) rfl dX1_copy_6 ?_
  refine lv_iconst (v := 0) hx hb dX1_copy_9 (by decide) ?_
  refine lv_bipush (v := 6) hx hb dX1_copy_10 (by decide) ?_
  refine va_copyi hx hb (hml.trans hl.1.symm) hown (hts _ q233) (hts _ q235) (hts _ q234) (hts _ q52) hK hP (hD _ _) hS 17 1 0 0 rfl rfl rfl rfl rfl (by decide) (by decide) (by decide) (by decide) (by decide) (fun _ _ => rfl) (Nat.le_of_ble_eq_true rfl) (by decide +kernel) dX1_copy_12 (fun H locs hP _ hS => ?_)
  have hP : va_P (dC, dI) vwCl (LW a ct (upRg v 0 (va_cpy (vb 0) (v 0) 0 0 6)) ++ LW b ct vb) H := LC_r_v_0 hP
  refine lv_aload_n hx hb dX1_copy_15 rfl (lv_at hl 1 rfl) ?_
  refine va_get (D := (dC, dI)) (ci := 1) (v := .ref (b 2)) (C := RX1) (T := TX1) (N := 13) hx hb hts in_X1 hown hK hP 16 rfl rfl 1 (by decide) (hts _ q76) (fun _ h9 => h9) rfl dX1_copy_16 ?_
  refine lv_iconst (v := 0) hx hb dX1_copy_19 (by decide) ?_
  refine lv_aload_n hx hb dX1_copy_20 rfl (lv_at hl 0 rfl) ?_
  refine va_get (D := (dC, dI)) (ci := 1) (v := .ref (a 2)) (C := RX1) (T := TX1) (N := 13) hx hb hts in_X1 hown hK hP 0 rfl rfl 1 (by decide) (hts _ q76) (fun _ h9 => h9) rfl dX1_copy_21 ?_
  refine lv_iconst (v := 0) hx hb dX1_copy_24 (by decide) ?_
  refine lv_bipush (v := 6) hx hb dX1_copy_25 (by decide) ?_
  refine va_copyi hx hb (hml.trans hl.1.symm) hown (hts _ q233) (hts _ q235) (hts _ q234) (hts _ q52) hK hP (hD _ _) hS 18 2 0 0 rfl rfl rfl rfl rfl (by decide) (by decide) (by decide) (by decide) (by decide) (fun _ _ => rfl) (Nat.le_of_ble_eq_true rfl) (by decide +kernel) dX1_copy_27 (fun H locs hP _ hS => ?_)
  have hP : va_P (dC, dI) vwCl (LW a ct (upRg (upRg v 0 (va_cpy (vb 0) (v 0) 0 0 6)) 1 (va_cpy (vb 1) (v 1) 0 0 6)) ++ LW b ct vb) H := LC_r_v_1 hP
  refine lv_iconst (v := 0) hx hb dX1_copy_30 (by decide) ?_
  refine lv_istore_n (lv' := [(2, .int (0 : Int32)), (0, .ref (a 0)), (1, .ref (b 0))]) hx hb dX1_copy_31 rfl hl (by decide) rfl (fun ls hl => ?_)
  obtain ⟨n, w⟩ := w
  exact wk_X1_copy_L32 X hD  n _ _ _ w _ _ _ hP hS (lv_sub hl [1, 2, 0] rfl)
abbrev rm_X1_print : Room := { frames := 0, cells := 0, slots := 0, locals := 0 }
theorem hd_X1_print : yX1_print.cls = RX1 ∧ yX1_print.cls ≠ "java/lang/invoke/MethodHandle" ∧ yX1_print.cls ≠ "java/lang/invoke/VarHandle" ∧ (parseMethodDescriptor yX1_print.desc).map (fun d => d.parameters.length) = some 1 := by decide +kernel
set_option maxHeartbeats 4000000 in
set_option maxRecDepth 100000 in
theorem met_X1_print (l : Launch) (dC : Nat → ClassId) (dI : Nat → Nat → Nat) (ct : Nat → ClassId) (a : Nat → Nat) (sz : Nat) {i1 : Int32} {v : V} {Post : Int32 → V → Prop} (w : wp_X1_print i1 v Post) : Met l yX1_print (ws_ yX1_print cX1_print 2 (some .int)) rm_X1_print (va_Pc [.ref (a 0), .int i1] (fun U => WPre dC dI ct (LW a ct v) sz U)) ((fun A => (va_Qi (fun (r : Int32) (u : V) => Post r u) (fun (u : V) t => WPos dC dI ct (LW a ct u) A t) A)) (va_A (LW a ct v) sz)) 0 0 (va_A (LW a ct v) sz) := by
  refine open_W (fun A => (va_Qi (fun (r : Int32) (u : V) => Post r u) (fun (u : V) t => WPos dC dI ct (LW a ct u) A t) A)) (by decide) (Nat.le_of_ble_eq_true rfl) ?_
  intro p e s m args below meth c ls A X hD0 hP hS hl
  have X0 := X
  obtain ⟨⟨hx, hb, hml, hr, hlk, hown, hts⟩, hA, hK, hN⟩ := X0
  have hD : ∀ (v' : V), va_D A (LW a ct v') := fun v' => va_D_addr hD0 rfl
  have hl : lv_has ls 2 [(0, .ref (a 0)), (1, .int i1)] := hl
  unfold wp_X1_print at w
  have hS0 := hS
  refine lv_aload_n hx hb dX1_print_0 rfl (lv_at hl 0 rfl) ?_
  refine va_get (D := (dC, dI)) (ci := 1) (v := .ref (a 12)) (C := RX1) (T := TX1) (N := 13) hx hb hts in_X1 hown hK hP 0 rfl rfl 5 (by decide) (hts _ q84) (fun _ h9 => h9) rfl dX1_print_1 ?_
  refine lv_iconst (v := 0) hx hb dX1_print_4 (by decide) ?_
  refine va_iald hx hb hK hP 12 0 rfl rfl (x_vin (by decide)) dX1_print_5 ?_
  refine lv_iload_n hx hb dX1_print_6 rfl (lv_at hl 1 rfl) ?_
  refine lv_iadd hx hb dX1_print_7 ?_
  refine lv_ldc (v := 99999) hx hb hown (hts _ q244) dX1_print_8 ?_
  refine lv_icmp_le (tgt := 15) hx hb dX1_print_10 (by decide) (fun c => ?_) (fun c => ?_)
  · have w := And.left w c
    refine lv_aload_n hx hb dX1_print_15 rfl (lv_at hl 0 rfl) ?_
    refine va_get (D := (dC, dI)) (ci := 1) (v := .ref (a 12)) (C := RX1) (T := TX1) (N := 13) hx hb hts in_X1 hown hK hP 0 rfl rfl 5 (by decide) (hts _ q84) (fun _ h9 => h9) rfl dX1_print_16 ?_
    refine lv_iconst (v := 0) hx hb dX1_print_19 (by decide) ?_
    refine lv_dup2_11 hx hb dX1_print_20 rfl rfl ?_
    refine va_iald hx hb hK hP 12 0 rfl rfl (x_vin (by decide)) dX1_print_21 ?_
    refine lv_iload_n hx hb dX1_print_22 rfl (lv_at hl 1 rfl) ?_
    refine lv_iadd hx hb dX1_print_23 ?_
    refine va_iast hx hb hK hP (hD _) hS 12 0 rfl rfl (x_vin (by decide)) dX1_print_24 (fun H locs hP _ hS => ?_)
    have hP : va_P (dC, dI) vwCl (LW a ct (up2 v 10 (0 : Int32).toNatClampNeg ((v 10 (0 : Int32).toNatClampNeg) + i1))) H := LW_u_v_10 hP
    refine lv_iconst (v := 0) hx hb dX1_print_25 (by decide) ?_
    exact W.iret (v := (0 : Int32)) hx hb hr (fun t ht hW => ⟨⟨(0 : Int32), (up2 v 10 (0 : Int32).toNatClampNeg ((v 10 (0 : Int32).toNatClampNeg) + i1)), rfl, w, by rw [ht]; exact hP, va_K.moved hW.alike hK, (hD _)⟩, hS.F ht⟩) hS.2.2 dX1_print_26 hlk
  · have w := And.right w c
    refine lv_iconst (v := 5) hx hb dX1_print_13 (by decide) ?_
    exact W.iret (v := (5 : Int32)) hx hb hr (fun t ht hW => ⟨⟨(5 : Int32), v, rfl, w, by rw [ht]; exact hP, va_K.moved hW.alike hK, (hD _)⟩, hS.F ht⟩) hS.2.2 dX1_print_14 hlk
abbrev rm_X1_forge : Room := { frames := 0, cells := 0, slots := 0, locals := 0 }
theorem hd_X1_forge : yX1_forge.cls = RX1 ∧ yX1_forge.cls ≠ "java/lang/invoke/MethodHandle" ∧ yX1_forge.cls ≠ "java/lang/invoke/VarHandle" ∧ (parseMethodDescriptor yX1_forge.desc).map (fun d => d.parameters.length) = some 2 := by decide +kernel
set_option maxHeartbeats 4000000 in
set_option maxRecDepth 100000 in
theorem wk_X1_forge_L27 {p : Program} {l : Launch} {e : Env} {s : State} {m : MethodId} {args : Array Value} {below : List Frame} {meth : Method} {c : Code} {dC : Nat → ClassId} {dI : Nat → Nat → Nat} {ct : Nat → ClassId} {A : Nat → Prop} {a : Nat → Nat} {Post : Int32 → V → Prop}   (X : CxW p s m args meth c cX1_forge 3 (some .int) RX1 dC dI ct A) (hD : ∀ (v : V), va_D A (LW a ct v))  (v : V) (w : wp_X1_forge_L27  Post  v) : ∀ (H : Heap) (locs : List Loc) (ls : Array Slot), va_P (dC, dI) vwCl (LW a ct v) H → va_S A s.heap H locs → lv_has ls 3 [] → W p l e rm_X1_forge s m args below meth c H locs 0 0 (MQ below (va_Qi (fun (r : Int32) (u : V) => Post r u) (fun (u : V) t => WPos dC dI ct (LW a ct u) A t) A) args s 0 0 A) (F0 m 27 ls []) := by
  intro H locs ls hP hS hl
  have X0 := X
  obtain ⟨⟨hx, hb, hml, hr, hlk, hown, hts⟩, hA, hK, hN⟩ := X0
  unfold wp_X1_forge_L27 at w
  refine lv_iconst (v := 5) hx hb dX1_forge_27 (by decide) ?_
  exact W.iret (v := (5 : Int32)) hx hb hr (fun t ht hW => ⟨⟨(5 : Int32), v, rfl, w, by rw [ht]; exact hP, va_K.moved hW.alike hK, (hD _)⟩, hS.F ht⟩) hS.2.2 dX1_forge_28 hlk
set_option maxHeartbeats 4000000 in
set_option maxRecDepth 100000 in
theorem met_X1_forge (l : Launch) (dC : Nat → ClassId) (dI : Nat → Nat → Nat) (ct : Nat → ClassId) (a : Nat → Nat) (sz : Nat) {i1 : Int32} {i2 : Int32} {v : V} {Post : Int32 → V → Prop} (w : wp_X1_forge i1 i2 v Post) : Met l yX1_forge (ws_ yX1_forge cX1_forge 3 (some .int)) rm_X1_forge (va_Pc [.ref (a 0), .int i1, .int i2] (fun U => WPre dC dI ct (LW a ct v) sz U)) ((fun A => (va_Qi (fun (r : Int32) (u : V) => Post r u) (fun (u : V) t => WPos dC dI ct (LW a ct u) A t) A)) (va_A (LW a ct v) sz)) 0 0 (va_A (LW a ct v) sz) := by
  refine open_W (fun A => (va_Qi (fun (r : Int32) (u : V) => Post r u) (fun (u : V) t => WPos dC dI ct (LW a ct u) A t) A)) (by decide) (Nat.le_of_ble_eq_true rfl) ?_
  intro p e s m args below meth c ls A X hD0 hP hS hl
  have X0 := X
  obtain ⟨⟨hx, hb, hml, hr, hlk, hown, hts⟩, hA, hK, hN⟩ := X0
  have hD : ∀ (v' : V), va_D A (LW a ct v') := fun v' => va_D_addr hD0 rfl
  have hl : lv_has ls 3 [(0, .ref (a 0)), (1, .int i1), (2, .int i2)] := hl
  unfold wp_X1_forge at w
  have hS0 := hS
  refine lv_aload_n hx hb dX1_forge_0 rfl (lv_at hl 0 rfl) ?_
  refine va_get (D := (dC, dI)) (ci := 1) (v := .ref (a 1)) (C := RX1) (T := TX1) (N := 13) hx hb hts in_X1 hown hK hP 0 rfl rfl 0 (by decide) (hts _ q74) (fun _ h9 => h9) rfl dX1_forge_1 ?_
  refine lv_iload_n hx hb dX1_forge_4 rfl (lv_at hl 1 rfl) ?_
  obtain ⟨gi, w⟩ := w
  refine va_iald hx hb hK hP 1 0 rfl rfl gi dX1_forge_5 ?_
  refine lv_iload_n hx hb dX1_forge_6 rfl (lv_at hl 2 rfl) ?_
  refine lv_iadd hx hb dX1_forge_7 ?_
  refine lv_sipush (v := 9999) hx hb dX1_forge_8 (by decide) ?_
  refine lv_icmp_gt (tgt := 27) hx hb dX1_forge_11 (by decide) (fun c => ?_) (fun c => ?_)
  · have w := And.left w c
    exact wk_X1_forge_L27 X hD  _ w _ _ _ hP hS (lv_sub hl [] rfl)
  · have w := And.right w c
    refine lv_aload_n hx hb dX1_forge_14 rfl (lv_at hl 0 rfl) ?_
    refine va_get (D := (dC, dI)) (ci := 1) (v := .ref (a 12)) (C := RX1) (T := TX1) (N := 13) hx hb hts in_X1 hown hK hP 0 rfl rfl 5 (by decide) (hts _ q84) (fun _ h9 => h9) rfl dX1_forge_15 ?_
    refine lv_iconst (v := 1) hx hb dX1_forge_18 (by decide) ?_
    refine va_iald hx hb hK hP 12 0 rfl rfl (x_vin (by decide)) dX1_forge_19 ?_
    refine lv_iload_n hx hb dX1_forge_20 rfl (lv_at hl 2 rfl) ?_
    refine lv_iadd hx hb dX1_forge_21 ?_
    refine lv_ldc (v := 99999) hx hb hown (hts _ q244) dX1_forge_22 ?_
    refine lv_icmp_le (tgt := 29) hx hb dX1_forge_24 (by decide) (fun c => ?_) (fun c => ?_)
    · have w := And.left w c
      refine lv_aload_n hx hb dX1_forge_29 rfl (lv_at hl 0 rfl) ?_
      refine va_get (D := (dC, dI)) (ci := 1) (v := .ref (a 1)) (C := RX1) (T := TX1) (N := 13) hx hb hts in_X1 hown hK hP 0 rfl rfl 0 (by decide) (hts _ q74) (fun _ h9 => h9) rfl dX1_forge_30 ?_
      refine lv_iload_n hx hb dX1_forge_33 rfl (lv_at hl 1 rfl) ?_
      refine lv_dup2_11 hx hb dX1_forge_34 rfl rfl ?_
      obtain ⟨gi, w⟩ := w
      refine va_iald hx hb hK hP 1 0 rfl rfl gi dX1_forge_35 ?_
      refine lv_iload_n hx hb dX1_forge_36 rfl (lv_at hl 2 rfl) ?_
      refine lv_iadd hx hb dX1_forge_37 ?_
      obtain ⟨gi, w⟩ := w
      refine va_iast hx hb hK hP (hD _) hS 1 0 rfl rfl gi dX1_forge_38 (fun H locs hP _ hS => ?_)
      have hP : va_P (dC, dI) vwCl (LW a ct (up2 v 0 i1.toNatClampNeg ((v 0 i1.toNatClampNeg) + i2))) H := LW_u_v_0 hP
      refine lv_aload_n hx hb dX1_forge_39 rfl (lv_at hl 0 rfl) ?_
      refine va_get (D := (dC, dI)) (ci := 1) (v := .ref (a 12)) (C := RX1) (T := TX1) (N := 13) hx hb hts in_X1 hown hK hP 0 rfl rfl 5 (by decide) (hts _ q84) (fun _ h9 => h9) rfl dX1_forge_40 ?_
      refine lv_iconst (v := 1) hx hb dX1_forge_43 (by decide) ?_
      refine lv_dup2_11 hx hb dX1_forge_44 rfl rfl ?_
      refine va_iald hx hb hK hP 12 0 rfl rfl (x_vin (by decide)) dX1_forge_45 ?_
      refine lv_iload_n hx hb dX1_forge_46 rfl (lv_at hl 2 rfl) ?_
      refine lv_iadd hx hb dX1_forge_47 ?_
      refine va_iast hx hb hK hP (hD _) hS 12 0 rfl rfl (x_vin (by decide)) dX1_forge_48 (fun H locs hP _ hS => ?_)
      have hP : va_P (dC, dI) vwCl (LW a ct (up2 (up2 v 0 i1.toNatClampNeg ((v 0 i1.toNatClampNeg) + i2)) 10 (1 : Int32).toNatClampNeg ((v 10 (1 : Int32).toNatClampNeg) + i2))) H := LW_u_v_10 hP
      refine lv_iconst (v := 0) hx hb dX1_forge_49 (by decide) ?_
      exact W.iret (v := (0 : Int32)) hx hb hr (fun t ht hW => ⟨⟨(0 : Int32), (up2 (up2 v 0 i1.toNatClampNeg ((v 0 i1.toNatClampNeg) + i2)) 10 (1 : Int32).toNatClampNeg ((v 10 (1 : Int32).toNatClampNeg) + i2)), rfl, w, by rw [ht]; exact hP, va_K.moved hW.alike hK, (hD _)⟩, hS.F ht⟩) hS.2.2 dX1_forge_50 hlk
    · have w := And.right w c
      exact wk_X1_forge_L27 X hD  _ w _ _ _ hP hS (lv_sub hl [] rfl)
abbrev rm_X1_month : Room := { frames := 0, cells := 0, slots := 0, locals := 0 }
theorem hd_X1_month : yX1_month.cls = RX1 ∧ yX1_month.cls ≠ "java/lang/invoke/MethodHandle" ∧ yX1_month.cls ≠ "java/lang/invoke/VarHandle" ∧ (parseMethodDescriptor yX1_month.desc).map (fun d => d.parameters.length) = some 0 := by decide +kernel
set_option maxHeartbeats 4000000 in
set_option maxRecDepth 100000 in
theorem met_X1_month (l : Launch) (dC : Nat → ClassId) (dI : Nat → Nat → Nat) (ct : Nat → ClassId) (a : Nat → Nat) (sz : Nat)  {v : V} {Post : Int32 → V → Prop} (w : wp_X1_month v Post) : Met l yX1_month (ws_ yX1_month cX1_month 1 (some .int)) rm_X1_month (va_Pc [.ref (a 0)] (fun U => WPre dC dI ct (LW a ct v) sz U)) ((fun A => (va_Qi (fun (r : Int32) (u : V) => Post r u) (fun (u : V) t => WPos dC dI ct (LW a ct u) A t) A)) (va_A (LW a ct v) sz)) 0 0 (va_A (LW a ct v) sz) := by
  refine open_W (fun A => (va_Qi (fun (r : Int32) (u : V) => Post r u) (fun (u : V) t => WPos dC dI ct (LW a ct u) A t) A)) (by decide) (Nat.le_of_ble_eq_true rfl) ?_
  intro p e s m args below meth c ls A X hD0 hP hS hl
  have X0 := X
  obtain ⟨⟨hx, hb, hml, hr, hlk, hown, hts⟩, hA, hK, hN⟩ := X0
  have hD : ∀ (v' : V), va_D A (LW a ct v') := fun v' => va_D_addr hD0 rfl
  have hl : lv_has ls 1 [(0, .ref (a 0))] := hl
  unfold wp_X1_month at w
  have hS0 := hS
  refine lv_aload_n hx hb dX1_month_0 rfl (lv_at hl 0 rfl) ?_
  refine va_get (D := (dC, dI)) (ci := 1) (v := .int (v 14 1)) (C := RX1) (T := TX1) (N := 13) hx hb hts in_X1 hown hK hP 0 rfl rfl 7 (by decide) (hts _ q88) (fun _ h9 => h9) rfl dX1_month_1 ?_
  refine lv_bipush (v := 99) hx hb dX1_month_4 (by decide) ?_
  refine lv_icmp_ne (tgt := 12) hx hb dX1_month_6 (by decide) (fun c => ?_) (fun c => ?_)
  · have w := And.right w c
    refine lv_aload_n hx hb dX1_month_12 rfl (lv_at hl 0 rfl) ?_
    refine lv_dup hx hb dX1_month_13 rfl ?_
    refine va_get (D := (dC, dI)) (ci := 1) (v := .int (v 14 1)) (C := RX1) (T := TX1) (N := 13) hx hb hts in_X1 hown hK hP 0 rfl rfl 7 (by decide) (hts _ q88) (fun _ h9 => h9) rfl dX1_month_14 ?_
    refine lv_iconst (v := 1) hx hb dX1_month_17 (by decide) ?_
    refine lv_iadd hx hb dX1_month_18 ?_
    refine va_put (D := (dC, dI)) (ci := 1) (v := .int ((v 14 1) + (1 : Int32))) (ty := .int) (C := RX1) (T := TX1) (N := 13) hx hb hts in_X1 tyX1 tyX1_ok nmX1 hown hK hP (hD _) hS 0 rfl rfl 7 (by decide) (hts _ q88) (fun _ h9 => h9) rfl (by decide +kernel) rfl rfl (Nat.le_of_ble_eq_true rfl) dX1_month_19 (fun H locs hP _ hS => ?_)
    have hP : va_P (dC, dI) vwCl (LW a ct (up2 v 14 1 ((v 14 1) + (1 : Int32)))) H := LW_s_v_1 hP
    refine lv_iconst (v := 0) hx hb dX1_month_22 (by decide) ?_
    exact W.iret (v := (0 : Int32)) hx hb hr (fun t ht hW => ⟨⟨(0 : Int32), (up2 v 14 1 ((v 14 1) + (1 : Int32))), rfl, w, by rw [ht]; exact hP, va_K.moved hW.alike hK, (hD _)⟩, hS.F ht⟩) hS.2.2 dX1_month_23 hlk
  · have w := And.left w c
    refine lv_bipush (v := 6) hx hb dX1_month_9 (by decide) ?_
    exact W.iret (v := (6 : Int32)) hx hb hr (fun t ht hW => ⟨⟨(6 : Int32), v, rfl, w, by rw [ht]; exact hP, va_K.moved hW.alike hK, (hD _)⟩, hS.F ht⟩) hS.2.2 dX1_month_11 hlk
abbrev rm_X1_land : Room := { frames := 0, cells := 0, slots := 0, locals := 0 }
theorem hd_X1_land : yX1_land.cls = RX1 ∧ yX1_land.cls ≠ "java/lang/invoke/MethodHandle" ∧ yX1_land.cls ≠ "java/lang/invoke/VarHandle" ∧ (parseMethodDescriptor yX1_land.desc).map (fun d => d.parameters.length) = some 0 := by decide +kernel
set_option maxHeartbeats 4000000 in
set_option maxRecDepth 100000 in
theorem wk_X1_land_L30 {p : Program} {l : Launch} {e : Env} {s : State} {m : MethodId} {args : Array Value} {below : List Frame} {meth : Method} {c : Code} {dC : Nat → ClassId} {dI : Nat → Nat → Nat} {ct : Nat → ClassId} {A : Nat → Prop} {a : Nat → Nat} {Post : Int32 → V → Prop} {K4 : Int32 → Int32 → V → Prop}  (X : CxW p s m args meth c cX1_land 3 (some .int) RX1 dC dI ct A) (hD : ∀ (v : V), va_D A (LW a ct v)) (hK4 : ∀ (i1 : Int32) (i2 : Int32) (v : V), K4 i1 i2 v → ∀ (H : Heap) (locs : List Loc) (ls : Array Slot), va_P (dC, dI) vwCl (LW a ct v) H → va_S A s.heap H locs → lv_has ls 3 [(0, .ref (a 0)), (1, .int i1), (2, .int i2)] → W p l e rm_X1_land s m args below meth c H locs 0 0 (MQ below (va_Qi (fun (r : Int32) (u : V) => Post r u) (fun (u : V) t => WPos dC dI ct (LW a ct u) A t) A) args s 0 0 A) (F0 m 4 ls [])) (i2 : Int32) (is0 : Int32) (is1 : Int32) (v : V) (w : wp_X1_land_L30  Post K4 i2 is0 is1 v) : ∀ (H : Heap) (locs : List Loc) (ls : Array Slot), va_P (dC, dI) vwCl (LW a ct v) H → va_S A s.heap H locs → lv_has ls 3 [(0, .ref (a 0)), (2, .int i2)] → W p l e rm_X1_land s m args below meth c H locs 0 0 (MQ below (va_Qi (fun (r : Int32) (u : V) => Post r u) (fun (u : V) t => WPos dC dI ct (LW a ct u) A t) A) args s 0 0 A) (F0 m 30 ls [.int is0, .int is1]) := by
  intro H locs ls hP hS hl
  have X0 := X
  obtain ⟨⟨hx, hb, hml, hr, hlk, hown, hts⟩, hA, hK, hN⟩ := X0
  unfold wp_X1_land_L30 at w
  refine lv_iadd hx hb dX1_land_30 ?_
  refine lv_istore_n (lv' := [(1, .int (is1 + is0)), (0, .ref (a 0)), (2, .int i2)]) hx hb dX1_land_31 rfl hl (by decide) rfl (fun ls hl => ?_)
  refine lv_iinc (v := (i2 + 1)) (lv' := [(2, .int (i2 + 1)), (1, .int (is1 + is0)), (0, .ref (a 0))]) hx hb dX1_land_32 hl (k := 2) rfl rfl (by decide) rfl (fun ls hl => ?_)
  refine lv_goto (tgt := 4) hx hb dX1_land_35 (by decide) ?_
  exact hK4 _ _ _ w _ _ _ hP hS (lv_sub hl [2, 1, 0] rfl)
set_option maxHeartbeats 4000000 in
set_option maxRecDepth 100000 in
theorem wk_X1_land_S4 {p : Program} {l : Launch} {e : Env} {s : State} {m : MethodId} {args : Array Value} {below : List Frame} {meth : Method} {c : Code} {dC : Nat → ClassId} {dI : Nat → Nat → Nat} {ct : Nat → ClassId} {A : Nat → Prop} {a : Nat → Nat} {Post : Int32 → V → Prop} {K4 : Int32 → Int32 → V → Prop}  (X : CxW p s m args meth c cX1_land 3 (some .int) RX1 dC dI ct A) (hD : ∀ (v : V), va_D A (LW a ct v)) (hK4 : ∀ (i1 : Int32) (i2 : Int32) (v : V), K4 i1 i2 v → ∀ (H : Heap) (locs : List Loc) (ls : Array Slot), va_P (dC, dI) vwCl (LW a ct v) H → va_S A s.heap H locs → lv_has ls 3 [(0, .ref (a 0)), (1, .int i1), (2, .int i2)] → W p l e rm_X1_land s m args below meth c H locs 0 0 (MQ below (va_Qi (fun (r : Int32) (u : V) => Post r u) (fun (u : V) t => WPos dC dI ct (LW a ct u) A t) A) args s 0 0 A) (F0 m 4 ls [])) (i1 : Int32) (i2 : Int32) (v : V) (w : wp_X1_land_S4  Post K4 i1 i2 v) : ∀ (H : Heap) (locs : List Loc) (ls : Array Slot), va_P (dC, dI) vwCl (LW a ct v) H → va_S A s.heap H locs → lv_has ls 3 [(0, .ref (a 0)), (1, .int i1), (2, .int i2)] → W p l e rm_X1_land s m args below meth c H locs 0 0 (MQ below (va_Qi (fun (r : Int32) (u : V) => Post r u) (fun (u : V) t => WPos dC dI ct (LW a ct u) A t) A) args s 0 0 A) (F0 m 4 ls []) := by
  intro H locs ls hP hS hl
  have X0 := X
  obtain ⟨⟨hx, hb, hml, hr, hlk, hown, hts⟩, hA, hK, hN⟩ := X0
  unfold wp_X1_land_S4 at w
  refine lv_iload_n hx hb dX1_land_4 rfl (lv_at hl 2 rfl) ?_
  refine lv_bipush (v := 8) hx hb dX1_land_5 (by decide) ?_
  refine lv_icmp_ge (tgt := 38) hx hb dX1_land_7 (by decide) (fun c => ?_) (fun c => ?_)
  · have w := And.left w c
    refine lv_iload_n hx hb dX1_land_38 rfl (lv_at hl 1 rfl) ?_
    exact W.iret (v := i1) hx hb hr (fun t ht hW => ⟨⟨i1, v, rfl, w, by rw [ht]; exact hP, va_K.moved hW.alike hK, (hD _)⟩, hS.F ht⟩) hS.2.2 dX1_land_39 hlk
  · have w := And.right w c
    refine lv_iload_n hx hb dX1_land_10 rfl (lv_at hl 1 rfl) ?_
    refine lv_aload_n hx hb dX1_land_11 rfl (lv_at hl 0 rfl) ?_
    refine va_get (D := (dC, dI)) (ci := 1) (v := .ref (a 11)) (C := RX1) (T := TX1) (N := 13) hx hb hts in_X1 hown hK hP 0 rfl rfl 4 (by decide) (hts _ q82) (fun _ h9 => h9) rfl dX1_land_12 ?_
    refine lv_iload_n hx hb dX1_land_15 rfl (lv_at hl 2 rfl) ?_
    obtain ⟨gi, w⟩ := w
    refine va_iald hx hb hK hP 11 0 rfl rfl gi dX1_land_16 ?_
    refine lv_if_ge (tgt := 29) hx hb dX1_land_17 (by decide) (fun c => ?_) (fun c => ?_)
    · have w := And.left w c
      refine lv_iconst (v := 0) hx hb dX1_land_29 (by decide) ?_
      exact wk_X1_land_L30 X hD hK4 _ _ _ _ w _ _ _ hP hS (lv_sub hl [0, 2] rfl)
    · have w := And.right w c
      refine lv_aload_n hx hb dX1_land_20 rfl (lv_at hl 0 rfl) ?_
      refine va_get (D := (dC, dI)) (ci := 1) (v := .ref (a 10)) (C := RX1) (T := TX1) (N := 13) hx hb hts in_X1 hown hK hP 0 rfl rfl 3 (by decide) (hts _ q80) (fun _ h9 => h9) rfl dX1_land_21 ?_
      refine lv_iload_n hx hb dX1_land_24 rfl (lv_at hl 2 rfl) ?_
      obtain ⟨gi, w⟩ := w
      refine va_iald hx hb hK hP 10 0 rfl rfl gi dX1_land_25 ?_
      refine lv_goto (tgt := 30) hx hb dX1_land_26 (by decide) ?_
      exact wk_X1_land_L30 X hD hK4 _ _ _ _ w _ _ _ hP hS (lv_sub hl [0, 2] rfl)
set_option maxHeartbeats 4000000 in
set_option maxRecDepth 100000 in
theorem wk_X1_land_L4 {p : Program} {l : Launch} {e : Env} {s : State} {m : MethodId} {args : Array Value} {below : List Frame} {meth : Method} {c : Code} {dC : Nat → ClassId} {dI : Nat → Nat → Nat} {ct : Nat → ClassId} {A : Nat → Prop} {a : Nat → Nat} {Post : Int32 → V → Prop}   (X : CxW p s m args meth c cX1_land 3 (some .int) RX1 dC dI ct A) (hD : ∀ (v : V), va_D A (LW a ct v))  : ∀ (n : Nat) (i1 : Int32) (i2 : Int32) (v : V), wp_X1_land_L4  Post  n i1 i2 v → ∀ (H : Heap) (locs : List Loc) (ls : Array Slot), va_P (dC, dI) vwCl (LW a ct v) H → va_S A s.heap H locs → lv_has ls 3 [(0, .ref (a 0)), (1, .int i1), (2, .int i2)] → W p l e rm_X1_land s m args below meth c H locs 0 0 (MQ below (va_Qi (fun (r : Int32) (u : V) => Post r u) (fun (u : V) t => WPos dC dI ct (LW a ct u) A t) A) args s 0 0 A) (F0 m 4 ls []) := by
  intro n
  induction n with
  | zero => intro i1 i2 v w; exact False.elim w
  | succ n ih => intro i1 i2 v w H locs ls hP hS hl; exact wk_X1_land_S4 X hD  ih i1 i2 v w H locs ls hP hS hl
set_option maxHeartbeats 4000000 in
set_option maxRecDepth 100000 in
theorem met_X1_land (l : Launch) (dC : Nat → ClassId) (dI : Nat → Nat → Nat) (ct : Nat → ClassId) (a : Nat → Nat) (sz : Nat)  {v : V} {Post : Int32 → V → Prop} (w : wp_X1_land v Post) : Met l yX1_land (ws_ yX1_land cX1_land 3 (some .int)) rm_X1_land (va_Pc [.ref (a 0)] (fun U => WPre dC dI ct (LW a ct v) sz U)) ((fun A => (va_Qi (fun (r : Int32) (u : V) => Post r u) (fun (u : V) t => WPos dC dI ct (LW a ct u) A t) A)) (va_A (LW a ct v) sz)) 0 0 (va_A (LW a ct v) sz) := by
  refine open_W (fun A => (va_Qi (fun (r : Int32) (u : V) => Post r u) (fun (u : V) t => WPos dC dI ct (LW a ct u) A t) A)) (by decide) (Nat.le_of_ble_eq_true rfl) ?_
  intro p e s m args below meth c ls A X hD0 hP hS hl
  have X0 := X
  obtain ⟨⟨hx, hb, hml, hr, hlk, hown, hts⟩, hA, hK, hN⟩ := X0
  have hD : ∀ (v' : V), va_D A (LW a ct v') := fun v' => va_D_addr hD0 rfl
  have hl : lv_has ls 3 [(0, .ref (a 0))] := hl
  unfold wp_X1_land at w
  have hS0 := hS
  refine lv_iconst (v := 0) hx hb dX1_land_0 (by decide) ?_
  refine lv_istore_n (lv' := [(1, .int (0 : Int32)), (0, .ref (a 0))]) hx hb dX1_land_1 rfl hl (by decide) rfl (fun ls hl => ?_)
  refine lv_iconst (v := 0) hx hb dX1_land_2 (by decide) ?_
  refine lv_istore_n (lv' := [(2, .int (0 : Int32)), (1, .int (0 : Int32)), (0, .ref (a 0))]) hx hb dX1_land_3 rfl hl (by decide) rfl (fun ls hl => ?_)
  obtain ⟨n, w⟩ := w
  exact wk_X1_land_L4 X hD  n _ _ _ w _ _ _ hP hS (lv_sub hl [2, 1, 0] rfl)
abbrev rm_X1_notes : Room := { frames := 0, cells := 0, slots := 0, locals := 0 }
theorem hd_X1_notes : yX1_notes.cls = RX1 ∧ yX1_notes.cls ≠ "java/lang/invoke/MethodHandle" ∧ yX1_notes.cls ≠ "java/lang/invoke/VarHandle" ∧ (parseMethodDescriptor yX1_notes.desc).map (fun d => d.parameters.length) = some 0 := by decide +kernel
set_option maxHeartbeats 4000000 in
set_option maxRecDepth 100000 in
theorem wk_X1_notes_S18 {p : Program} {l : Launch} {e : Env} {s : State} {m : MethodId} {args : Array Value} {below : List Frame} {meth : Method} {c : Code} {dC : Nat → ClassId} {dI : Nat → Nat → Nat} {ct : Nat → ClassId} {A : Nat → Prop} {a : Nat → Nat} {Post : Int32 → V → Prop} {K18 : Int32 → Int32 → V → Prop}  (X : CxW p s m args meth c cX1_notes 6 (some .int) RX1 dC dI ct A) (hD : ∀ (v : V), va_D A (LW a ct v)) (hK18 : ∀ (i1 : Int32) (i4 : Int32) (v : V), K18 i1 i4 v → ∀ (H : Heap) (locs : List Loc) (ls : Array Slot), va_P (dC, dI) vwCl (LW a ct v) H → va_S A s.heap H locs → lv_has ls 6 [(1, .int i1), (2, .ref (a 1)), (3, .int (6 : Int32)), (4, .int i4)] → W p l e rm_X1_notes s m args below meth c H locs 0 0 (MQ below (va_Qi (fun (r : Int32) (u : V) => Post r u) (fun (u : V) t => WPos dC dI ct (LW a ct u) A t) A) args s 0 0 A) (F0 m 18 ls [])) (i1 : Int32) (i4 : Int32) (v : V) (w : wp_X1_notes_S18  Post K18 i1 i4 v) : ∀ (H : Heap) (locs : List Loc) (ls : Array Slot), va_P (dC, dI) vwCl (LW a ct v) H → va_S A s.heap H locs → lv_has ls 6 [(1, .int i1), (2, .ref (a 1)), (3, .int (6 : Int32)), (4, .int i4)] → W p l e rm_X1_notes s m args below meth c H locs 0 0 (MQ below (va_Qi (fun (r : Int32) (u : V) => Post r u) (fun (u : V) t => WPos dC dI ct (LW a ct u) A t) A) args s 0 0 A) (F0 m 18 ls []) := by
  intro H locs ls hP hS hl
  have X0 := X
  obtain ⟨⟨hx, hb, hml, hr, hlk, hown, hts⟩, hA, hK, hN⟩ := X0
  unfold wp_X1_notes_S18 at w
  refine lv_iload hx hb dX1_notes_18 (lv_at hl 3 rfl) ?_
  refine lv_iload_n hx hb dX1_notes_20 rfl (lv_at hl 2 rfl) ?_
  refine lv_icmp_ge (tgt := 41) hx hb dX1_notes_21 (by decide) (fun c => ?_) (fun c => ?_)
  · have w := And.left w c
    refine lv_iload_n hx hb dX1_notes_41 rfl (lv_at hl 0 rfl) ?_
    exact W.iret (v := i1) hx hb hr (fun t ht hW => ⟨⟨i1, v, rfl, w, by rw [ht]; exact hP, va_K.moved hW.alike hK, (hD _)⟩, hS.F ht⟩) hS.2.2 dX1_notes_42 hlk
  · have w := And.right w c
    refine lv_aload_n hx hb dX1_notes_24 rfl (lv_at hl 1 rfl) ?_
    refine lv_iload hx hb dX1_notes_25 (lv_at hl 3 rfl) ?_
    obtain ⟨gi, w⟩ := w
    refine va_iald hx hb hK hP 1 0 rfl rfl gi dX1_notes_27 ?_
    refine lv_istore (lv' := [(5, .int (v 0 i4.toNatClampNeg)), (1, .int i1), (2, .ref (a 1)), (3, .int (6 : Int32)), (4, .int i4)]) hx hb dX1_notes_28 hl (by decide) rfl (fun ls hl => ?_)
    refine lv_iload_n hx hb dX1_notes_30 rfl (lv_at hl 1 rfl) ?_
    refine lv_iload hx hb dX1_notes_31 (lv_at hl 0 rfl) ?_
    refine lv_iadd hx hb dX1_notes_33 ?_
    refine lv_istore_n (lv' := [(1, .int (i1 + (v 0 i4.toNatClampNeg))), (5, .int (v 0 i4.toNatClampNeg)), (2, .ref (a 1)), (3, .int (6 : Int32)), (4, .int i4)]) hx hb dX1_notes_34 rfl hl (by decide) rfl (fun ls hl => ?_)
    refine lv_iinc (v := (i4 + 1)) (lv' := [(4, .int (i4 + 1)), (1, .int (i1 + (v 0 i4.toNatClampNeg))), (5, .int (v 0 i4.toNatClampNeg)), (2, .ref (a 1)), (3, .int (6 : Int32))]) hx hb dX1_notes_35 hl (k := 4) rfl rfl (by decide) rfl (fun ls hl => ?_)
    refine lv_goto (tgt := 18) hx hb dX1_notes_38 (by decide) ?_
    exact hK18 _ _ _ w _ _ _ hP hS (lv_sub hl [1, 3, 4, 0] rfl)
set_option maxHeartbeats 4000000 in
set_option maxRecDepth 100000 in
theorem wk_X1_notes_L18 {p : Program} {l : Launch} {e : Env} {s : State} {m : MethodId} {args : Array Value} {below : List Frame} {meth : Method} {c : Code} {dC : Nat → ClassId} {dI : Nat → Nat → Nat} {ct : Nat → ClassId} {A : Nat → Prop} {a : Nat → Nat} {Post : Int32 → V → Prop}   (X : CxW p s m args meth c cX1_notes 6 (some .int) RX1 dC dI ct A) (hD : ∀ (v : V), va_D A (LW a ct v))  : ∀ (n : Nat) (i1 : Int32) (i4 : Int32) (v : V), wp_X1_notes_L18  Post  n i1 i4 v → ∀ (H : Heap) (locs : List Loc) (ls : Array Slot), va_P (dC, dI) vwCl (LW a ct v) H → va_S A s.heap H locs → lv_has ls 6 [(1, .int i1), (2, .ref (a 1)), (3, .int (6 : Int32)), (4, .int i4)] → W p l e rm_X1_notes s m args below meth c H locs 0 0 (MQ below (va_Qi (fun (r : Int32) (u : V) => Post r u) (fun (u : V) t => WPos dC dI ct (LW a ct u) A t) A) args s 0 0 A) (F0 m 18 ls []) := by
  intro n
  induction n with
  | zero => intro i1 i4 v w; exact False.elim w
  | succ n ih => intro i1 i4 v w H locs ls hP hS hl; exact wk_X1_notes_S18 X hD  ih i1 i4 v w H locs ls hP hS hl
set_option maxHeartbeats 4000000 in
set_option maxRecDepth 100000 in
theorem met_X1_notes (l : Launch) (dC : Nat → ClassId) (dI : Nat → Nat → Nat) (ct : Nat → ClassId) (a : Nat → Nat) (sz : Nat)  {v : V} {Post : Int32 → V → Prop} (w : wp_X1_notes v Post) : Met l yX1_notes (ws_ yX1_notes cX1_notes 6 (some .int)) rm_X1_notes (va_Pc [.ref (a 0)] (fun U => WPre dC dI ct (LW a ct v) sz U)) ((fun A => (va_Qi (fun (r : Int32) (u : V) => Post r u) (fun (u : V) t => WPos dC dI ct (LW a ct u) A t) A)) (va_A (LW a ct v) sz)) 0 0 (va_A (LW a ct v) sz) := by
  refine open_W (fun A => (va_Qi (fun (r : Int32) (u : V) => Post r u) (fun (u : V) t => WPos dC dI ct (LW a ct u) A t) A)) (by decide) (Nat.le_of_ble_eq_true rfl) ?_
  intro p e s m args below meth c ls A X hD0 hP hS hl
  have X0 := X
  obtain ⟨⟨hx, hb, hml, hr, hlk, hown, hts⟩, hA, hK, hN⟩ := X0
  have hD : ∀ (v' : V), va_D A (LW a ct v') := fun v' => va_D_addr hD0 rfl
  have hl : lv_has ls 6 [(0, .ref (a 0))] := hl
  unfold wp_X1_notes at w
  have hS0 := hS
  refine lv_aload_n hx hb dX1_notes_0 rfl (lv_at hl 0 rfl) ?_
  refine va_get (D := (dC, dI)) (ci := 1) (v := .ref (a 12)) (C := RX1) (T := TX1) (N := 13) hx hb hts in_X1 hown hK hP 0 rfl rfl 5 (by decide) (hts _ q84) (fun _ h9 => h9) rfl dX1_notes_1 ?_
  refine lv_iconst (v := 0) hx hb dX1_notes_4 (by decide) ?_
  refine va_iald hx hb hK hP 12 0 rfl rfl (x_vin (by decide)) dX1_notes_5 ?_
  refine lv_istore_n (lv' := [(1, .int (v 10 (0 : Int32).toNatClampNeg)), (0, .ref (a 0))]) hx hb dX1_notes_6 rfl hl (by decide) rfl (fun ls hl => ?_)
  refine lv_aload_n hx hb dX1_notes_7 rfl (lv_at hl 1 rfl) ?_
  refine va_get (D := (dC, dI)) (ci := 1) (v := .ref (a 1)) (C := RX1) (T := TX1) (N := 13) hx hb hts in_X1 hown hK hP 0 rfl rfl 0 (by decide) (hts _ q74) (fun _ h9 => h9) rfl dX1_notes_8 ?_
  refine lv_astore_n (lv' := [(2, .ref (a 1)), (1, .int (v 10 (0 : Int32).toNatClampNeg)), (0, .ref (a 0))]) hx hb dX1_notes_11 rfl hl (by decide) rfl (fun ls hl => ?_)
  refine lv_aload_n hx hb dX1_notes_12 rfl (lv_at hl 0 rfl) ?_
  refine va_alen (v := 6) hx hb hK hP 1 0 rfl rfl rfl dX1_notes_13 ?_
  refine lv_istore_n (lv' := [(3, .int (6 : Int32)), (2, .ref (a 1)), (1, .int (v 10 (0 : Int32).toNatClampNeg)), (0, .ref (a 0))]) hx hb dX1_notes_14 rfl hl (by decide) rfl (fun ls hl => ?_)
  refine lv_iconst (v := 0) hx hb dX1_notes_15 (by decide) ?_
  refine lv_istore (lv' := [(4, .int (0 : Int32)), (3, .int (6 : Int32)), (2, .ref (a 1)), (1, .int (v 10 (0 : Int32).toNatClampNeg)), (0, .ref (a 0))]) hx hb dX1_notes_16 hl (by decide) rfl (fun ls hl => ?_)
  obtain ⟨n, w⟩ := w
  exact wk_X1_notes_L18 X hD  n _ _ _ w _ _ _ hP hS (lv_sub hl [3, 2, 1, 0] rfl)
abbrev rm_X1_rate : Room := { frames := 2, cells := 0, slots := 0, locals := 52 }
theorem hd_X1_rate : yX1_rate.cls = RX1 ∧ yX1_rate.cls ≠ "java/lang/invoke/MethodHandle" ∧ yX1_rate.cls ≠ "java/lang/invoke/VarHandle" ∧ (parseMethodDescriptor yX1_rate.desc).map (fun d => d.parameters.length) = some 0 := by decide +kernel
set_option maxHeartbeats 4000000 in
set_option maxRecDepth 100000 in
theorem met_X1_rate (l : Launch) (dC : Nat → ClassId) (dI : Nat → Nat → Nat) (ct : Nat → ClassId) (a : Nat → Nat) (sz : Nat)  {v : V} {Post : Int32 → V → Prop} (w : wp_X1_rate v Post) : Met l yX1_rate (ws_ yX1_rate cX1_rate 1 (some .int)) rm_X1_rate (va_Pc [.ref (a 0)] (fun U => WPre dC dI ct (LW a ct v) sz U)) ((fun A => (va_Qi (fun (r : Int32) (u : V) => Post r u) (fun (u : V) t => WPos dC dI ct (LW a ct u) A t) A)) (va_A (LW a ct v) sz)) 0 0 (va_A (LW a ct v) sz) := by
  refine open_W (fun A => (va_Qi (fun (r : Int32) (u : V) => Post r u) (fun (u : V) t => WPos dC dI ct (LW a ct u) A t) A)) (by decide) (Nat.le_of_ble_eq_true rfl) ?_
  intro p e s m args below meth c ls A X hD0 hP hS hl
  have X0 := X
  obtain ⟨⟨hx, hb, hml, hr, hlk, hown, hts⟩, hA, hK, hN⟩ := X0
  have hD : ∀ (v' : V), va_D A (LW a ct v') := fun v' => va_D_addr hD0 rfl
  have hl : lv_has ls 1 [(0, .ref (a 0))] := hl
  unfold wp_X1_rate at w
  have hS0 := hS
  refine lv_aload_n hx hb dX1_rate_0 rfl (lv_at hl 0 rfl) ?_
  refine va_calli (va_runV (As := []) (rest := []) ⟨hx, hb, hml, hown, hts⟩ (met_X1_land l dC dI ct a _ w) (cwV 0 hts (lw_V q257 q258 q259 q49 q260) rfl rfl rfl hd_X1_land ⟨Nat.le_of_ble_eq_true rfl, Nat.le_of_ble_eq_true rfl⟩) (pre_V hK hP (hD _) hN (va_recv hK hP (ci := 1) (q0 := 0) rfl rfl)) rfl rfl hl.1 rfl (lv_room (Nat.le_of_ble_eq_true rfl)) dX1_rate_1 ⟨Nat.le_refl _, Nat.le_refl _⟩) hS (fun q _ h => x_free (hD _) hS hA q h) (x_free (hD _) hS hA) (fun r1 u t H locs ht hvm w hB hz hk hS => ?_)
  obtain ⟨v_1, rfl⟩ : ∃ z, z = u := ⟨_, rfl⟩
  have hP : va_P (dC, dI) vwCl (LW a ct v_1) H := post_P hB ht
  refine lv_aload_n hx hb dX1_rate_4 rfl (lv_at hl 0 rfl) ?_
  refine va_calli (va_runV (As := []) (rest := [.int r1]) ⟨hx, hb, hml, hown, hts⟩ (met_X1_notes l dC dI ct a _ w) (cwV 0 hts (lw_V q261 q262 q263 q49 q264) rfl rfl rfl hd_X1_notes ⟨Nat.le_of_ble_eq_true rfl, Nat.le_of_ble_eq_true rfl⟩) (pre_V hK hP (hD _) hN (va_recv hK hP (ci := 1) (q0 := 0) rfl rfl)) rfl rfl hl.1 rfl (lv_room (Nat.le_of_ble_eq_true rfl)) dX1_rate_5 ⟨Nat.le_refl _, Nat.le_refl _⟩) hS (fun q _ h => x_free (hD _) hS hA q h) (x_free (hD _) hS hA) (fun r2 u t H locs ht hvm w hB hz hk hS => ?_)
  obtain ⟨v_2, rfl⟩ : ∃ z, z = u := ⟨_, rfl⟩
  have hP : va_P (dC, dI) vwCl (LW a ct v_2) H := post_P hB ht
  refine lv_i2l hx hb dX1_rate_8 rfl ?_
  refine vp_callSi (va_runSN (As := [.int r1, .long r2.toInt64]) (rest := []) ⟨hx, hb, hml, hown, hts⟩ (met_X0_rateOf l w) ⟨va_cnB 2 hts (lw_meth q267) rfl rfl rfl hN.2.2.2.2.2.2.2.2.2.2.2.2.2.1 (hts _ q48) hd_X0_rateOf ⟨Nat.le_of_ble_eq_true rfl, Nat.le_of_ble_eq_true rfl⟩, hts _ q266, trivial⟩ pre_S rfl rfl hl.1 rfl (lv_room (Nat.le_of_ble_eq_true rfl)) dX1_rate_9 ⟨Nat.le_refl _, Nat.le_refl _⟩).run (fun r3 w => ?_)
  exact W.iret (v := r3) hx hb hr (fun t ht hW => ⟨⟨r3, v_2, rfl, w, by rw [ht]; exact hP, va_K.moved hW.alike hK, (hD _)⟩, hS.F ht⟩) hS.2.2 dX1_rate_12 hlk
abbrev rm_X1_buy : Room := { frames := 0, cells := 0, slots := 0, locals := 0 }
theorem hd_X1_buy : yX1_buy.cls = RX1 ∧ yX1_buy.cls ≠ "java/lang/invoke/MethodHandle" ∧ yX1_buy.cls ≠ "java/lang/invoke/VarHandle" ∧ (parseMethodDescriptor yX1_buy.desc).map (fun d => d.parameters.length) = some 2 := by decide +kernel
set_option maxHeartbeats 4000000 in
set_option maxRecDepth 100000 in
theorem met_X1_buy (l : Launch) (dC : Nat → ClassId) (dI : Nat → Nat → Nat) (ct : Nat → ClassId) (a : Nat → Nat) (sz : Nat) {i1 : Int32} {i2 : Int32} {v : V} {Post : Int32 → V → Prop} (w : wp_X1_buy i1 i2 v Post) : Met l yX1_buy (ws_ yX1_buy cX1_buy 3 (some .int)) rm_X1_buy (va_Pc [.ref (a 0), .int i1, .int i2] (fun U => WPre dC dI ct (LW a ct v) sz U)) ((fun A => (va_Qi (fun (r : Int32) (u : V) => Post r u) (fun (u : V) t => WPos dC dI ct (LW a ct u) A t) A)) (va_A (LW a ct v) sz)) 0 0 (va_A (LW a ct v) sz) := by
  refine open_W (fun A => (va_Qi (fun (r : Int32) (u : V) => Post r u) (fun (u : V) t => WPos dC dI ct (LW a ct u) A t) A)) (by decide) (Nat.le_of_ble_eq_true rfl) ?_
  intro p e s m args below meth c ls A X hD0 hP hS hl
  have X0 := X
  obtain ⟨⟨hx, hb, hml, hr, hlk, hown, hts⟩, hA, hK, hN⟩ := X0
  have hD : ∀ (v' : V), va_D A (LW a ct v') := fun v' => va_D_addr hD0 rfl
  have hl : lv_has ls 3 [(0, .ref (a 0)), (1, .int i1), (2, .int i2)] := hl
  unfold wp_X1_buy at w
  have hS0 := hS
  refine lv_aload_n hx hb dX1_buy_0 rfl (lv_at hl 0 rfl) ?_
  refine va_get (D := (dC, dI)) (ci := 1) (v := .ref (a 11)) (C := RX1) (T := TX1) (N := 13) hx hb hts in_X1 hown hK hP 0 rfl rfl 4 (by decide) (hts _ q82) (fun _ h9 => h9) rfl dX1_buy_1 ?_
  refine lv_iload_n hx hb dX1_buy_4 rfl (lv_at hl 2 rfl) ?_
  obtain ⟨gi, w⟩ := w
  refine va_iald hx hb hK hP 11 0 rfl rfl gi dX1_buy_5 ?_
  refine lv_if_lt (tgt := 11) hx hb dX1_buy_6 (by decide) (fun c => ?_) (fun c => ?_)
  · have w := And.left w c
    refine lv_aload_n hx hb dX1_buy_11 rfl (lv_at hl 0 rfl) ?_
    refine va_get (D := (dC, dI)) (ci := 1) (v := .ref (a 1)) (C := RX1) (T := TX1) (N := 13) hx hb hts in_X1 hown hK hP 0 rfl rfl 0 (by decide) (hts _ q74) (fun _ h9 => h9) rfl dX1_buy_12 ?_
    refine lv_iload_n hx hb dX1_buy_15 rfl (lv_at hl 1 rfl) ?_
    obtain ⟨gi, w⟩ := w
    refine va_iald hx hb hK hP 1 0 rfl rfl gi dX1_buy_16 ?_
    refine lv_aload_n hx hb dX1_buy_17 rfl (lv_at hl 0 rfl) ?_
    refine va_get (D := (dC, dI)) (ci := 1) (v := .ref (a 10)) (C := RX1) (T := TX1) (N := 13) hx hb hts in_X1 hown hK hP 0 rfl rfl 3 (by decide) (hts _ q80) (fun _ h9 => h9) rfl dX1_buy_18 ?_
    refine lv_iload_n hx hb dX1_buy_21 rfl (lv_at hl 2 rfl) ?_
    obtain ⟨gi, w⟩ := w
    refine va_iald hx hb hK hP 10 0 rfl rfl gi dX1_buy_22 ?_
    refine lv_icmp_ge (tgt := 28) hx hb dX1_buy_23 (by decide) (fun c => ?_) (fun c => ?_)
    · have w := And.left w c
      refine lv_aload_n hx hb dX1_buy_28 rfl (lv_at hl 0 rfl) ?_
      refine va_get (D := (dC, dI)) (ci := 1) (v := .ref (a 1)) (C := RX1) (T := TX1) (N := 13) hx hb hts in_X1 hown hK hP 0 rfl rfl 0 (by decide) (hts _ q74) (fun _ h9 => h9) rfl dX1_buy_29 ?_
      refine lv_iload_n hx hb dX1_buy_32 rfl (lv_at hl 1 rfl) ?_
      refine lv_dup2_11 hx hb dX1_buy_33 rfl rfl ?_
      obtain ⟨gi, w⟩ := w
      refine va_iald hx hb hK hP 1 0 rfl rfl gi dX1_buy_34 ?_
      refine lv_aload_n hx hb dX1_buy_35 rfl (lv_at hl 0 rfl) ?_
      refine va_get (D := (dC, dI)) (ci := 1) (v := .ref (a 10)) (C := RX1) (T := TX1) (N := 13) hx hb hts in_X1 hown hK hP 0 rfl rfl 3 (by decide) (hts _ q80) (fun _ h9 => h9) rfl dX1_buy_36 ?_
      refine lv_iload_n hx hb dX1_buy_39 rfl (lv_at hl 2 rfl) ?_
      obtain ⟨gi, w⟩ := w
      refine va_iald hx hb hK hP 10 0 rfl rfl gi dX1_buy_40 ?_
      refine lv_isub hx hb dX1_buy_41 ?_
      obtain ⟨gi, w⟩ := w
      refine va_iast hx hb hK hP (hD _) hS 1 0 rfl rfl gi dX1_buy_42 (fun H locs hP _ hS => ?_)
      have hP : va_P (dC, dI) vwCl (LW a ct (up2 v 0 i1.toNatClampNeg ((v 0 i1.toNatClampNeg) - (v 8 i2.toNatClampNeg)))) H := LW_u_v_0 hP
      refine lv_aload_n hx hb dX1_buy_43 rfl (lv_at hl 0 rfl) ?_
      refine lv_dup hx hb dX1_buy_44 rfl ?_
      refine va_get (D := (dC, dI)) (ci := 1) (v := .int (v 14 0)) (C := RX1) (T := TX1) (N := 13) hx hb hts in_X1 hown hK hP 0 rfl rfl 6 (by decide) (hts _ q86) (fun _ h9 => h9) rfl dX1_buy_45 ?_
      refine lv_aload_n hx hb dX1_buy_48 rfl (lv_at hl 0 rfl) ?_
      refine va_get (D := (dC, dI)) (ci := 1) (v := .ref (a 10)) (C := RX1) (T := TX1) (N := 13) hx hb hts in_X1 hown hK hP 0 rfl rfl 3 (by decide) (hts _ q80) (fun _ h9 => h9) rfl dX1_buy_49 ?_
      refine lv_iload_n hx hb dX1_buy_52 rfl (lv_at hl 2 rfl) ?_
      obtain ⟨gi, w⟩ := w
      refine va_iald hx hb hK hP 10 0 rfl rfl gi dX1_buy_53 ?_
      refine lv_iadd hx hb dX1_buy_54 ?_
      refine va_put (D := (dC, dI)) (ci := 1) (v := .int ((v 14 0) + (v 8 i2.toNatClampNeg))) (ty := .int) (C := RX1) (T := TX1) (N := 13) hx hb hts in_X1 tyX1 tyX1_ok nmX1 hown hK hP (hD _) hS 0 rfl rfl 6 (by decide) (hts _ q86) (fun _ h9 => h9) rfl (by decide +kernel) rfl rfl (Nat.le_of_ble_eq_true rfl) dX1_buy_55 (fun H locs hP _ hS => ?_)
      have hP : va_P (dC, dI) vwCl (LW a ct (up2 (up2 v 0 i1.toNatClampNeg ((v 0 i1.toNatClampNeg) - (v 8 i2.toNatClampNeg))) 14 0 ((v 14 0) + (v 8 i2.toNatClampNeg)))) H := LW_s_v_0 hP
      refine lv_aload_n hx hb dX1_buy_58 rfl (lv_at hl 0 rfl) ?_
      refine va_get (D := (dC, dI)) (ci := 1) (v := .ref (a 11)) (C := RX1) (T := TX1) (N := 13) hx hb hts in_X1 hown hK hP 0 rfl rfl 4 (by decide) (hts _ q82) (fun _ h9 => h9) rfl dX1_buy_59 ?_
      refine lv_iload_n hx hb dX1_buy_62 rfl (lv_at hl 2 rfl) ?_
      refine lv_iload_n hx hb dX1_buy_63 rfl (lv_at hl 1 rfl) ?_
      obtain ⟨gi, w⟩ := w
      refine va_iast hx hb hK hP (hD _) hS 11 0 rfl rfl gi dX1_buy_64 (fun H locs hP _ hS => ?_)
      have hP : va_P (dC, dI) vwCl (LW a ct (up2 (up2 (up2 v 0 i1.toNatClampNeg ((v 0 i1.toNatClampNeg) - (v 8 i2.toNatClampNeg))) 14 0 ((v 14 0) + (v 8 i2.toNatClampNeg))) 9 i2.toNatClampNeg i1)) H := LW_u_v_9 hP
      refine lv_iconst (v := 0) hx hb dX1_buy_65 (by decide) ?_
      exact W.iret (v := (0 : Int32)) hx hb hr (fun t ht hW => ⟨⟨(0 : Int32), (up2 (up2 (up2 v 0 i1.toNatClampNeg ((v 0 i1.toNatClampNeg) - (v 8 i2.toNatClampNeg))) 14 0 ((v 14 0) + (v 8 i2.toNatClampNeg))) 9 i2.toNatClampNeg i1), rfl, w, by rw [ht]; exact hP, va_K.moved hW.alike hK, (hD _)⟩, hS.F ht⟩) hS.2.2 dX1_buy_66 hlk
    · have w := And.right w c
      refine lv_iconst (v := 3) hx hb dX1_buy_26 (by decide) ?_
      exact W.iret (v := (3 : Int32)) hx hb hr (fun t ht hW => ⟨⟨(3 : Int32), v, rfl, w, by rw [ht]; exact hP, va_K.moved hW.alike hK, (hD _)⟩, hS.F ht⟩) hS.2.2 dX1_buy_27 hlk
  · have w := And.right w c
    refine lv_iconst (v := 2) hx hb dX1_buy_9 (by decide) ?_
    exact W.iret (v := (2 : Int32)) hx hb hr (fun t ht hW => ⟨⟨(2 : Int32), v, rfl, w, by rw [ht]; exact hP, va_K.moved hW.alike hK, (hD _)⟩, hS.F ht⟩) hS.2.2 dX1_buy_10 hlk
abbrev rm_X1_change : Room := { frames := 3, cells := 0, slots := 0, locals := 72 }
theorem hd_X1_change : yX1_change.cls = RX1 ∧ yX1_change.cls ≠ "java/lang/invoke/MethodHandle" ∧ yX1_change.cls ≠ "java/lang/invoke/VarHandle" ∧ (parseMethodDescriptor yX1_change.desc).map (fun d => d.parameters.length) = some 2 := by decide +kernel
set_option maxHeartbeats 4000000 in
set_option maxRecDepth 100000 in
theorem wk_X1_change_L49 {p : Program} {l : Launch} {e : Env} {s : State} {m : MethodId} {args : Array Value} {below : List Frame} {meth : Method} {c : Code} {dC : Nat → ClassId} {dI : Nat → Nat → Nat} {ct : Nat → ClassId} {A : Nat → Prop} {a : Nat → Nat} {Post : Int32 → V → Prop}   (X : CxW p s m args meth c cX1_change 4 (some .int) RX1 dC dI ct A) (hD : ∀ (v : V), va_D A (LW a ct v))  (v : V) (w : wp_X1_change_L49  Post  v) : ∀ (H : Heap) (locs : List Loc) (ls : Array Slot), va_P (dC, dI) vwCl (LW a ct v) H → va_S A s.heap H locs → lv_has ls 4 [] → W p l e rm_X1_change s m args below meth c H locs 0 0 (MQ below (va_Qi (fun (r : Int32) (u : V) => Post r u) (fun (u : V) t => WPos dC dI ct (LW a ct u) A t) A) args s 0 0 A) (F0 m 49 ls []) := by
  intro H locs ls hP hS hl
  have X0 := X
  obtain ⟨⟨hx, hb, hml, hr, hlk, hown, hts⟩, hA, hK, hN⟩ := X0
  unfold wp_X1_change_L49 at w
  refine lv_iconst (v := 5) hx hb dX1_change_49 (by decide) ?_
  exact W.iret (v := (5 : Int32)) hx hb hr (fun t ht hW => ⟨⟨(5 : Int32), v, rfl, w, by rw [ht]; exact hP, va_K.moved hW.alike hK, (hD _)⟩, hS.F ht⟩) hS.2.2 dX1_change_50 hlk
set_option maxHeartbeats 4000000 in
set_option maxRecDepth 100000 in
theorem met_X1_change (l : Launch) (dC : Nat → ClassId) (dI : Nat → Nat → Nat) (ct : Nat → ClassId) (a : Nat → Nat) (sz : Nat) {i1 : Int32} {i2 : Int32} {v : V} {Post : Int32 → V → Prop} (w : wp_X1_change i1 i2 v Post) : Met l yX1_change (ws_ yX1_change cX1_change 4 (some .int)) rm_X1_change (va_Pc [.ref (a 0), .int i1, .int i2] (fun U => WPre dC dI ct (LW a ct v) sz U)) ((fun A => (va_Qi (fun (r : Int32) (u : V) => Post r u) (fun (u : V) t => WPos dC dI ct (LW a ct u) A t) A)) (va_A (LW a ct v) sz)) 0 0 (va_A (LW a ct v) sz) := by
  refine open_W (fun A => (va_Qi (fun (r : Int32) (u : V) => Post r u) (fun (u : V) t => WPos dC dI ct (LW a ct u) A t) A)) (by decide) (Nat.le_of_ble_eq_true rfl) ?_
  intro p e s m args below meth c ls A X hD0 hP hS hl
  have X0 := X
  obtain ⟨⟨hx, hb, hml, hr, hlk, hown, hts⟩, hA, hK, hN⟩ := X0
  have hD : ∀ (v' : V), va_D A (LW a ct v') := fun v' => va_D_addr hD0 rfl
  have hl : lv_has ls 4 [(0, .ref (a 0)), (1, .int i1), (2, .int i2)] := hl
  unfold wp_X1_change at w
  have hS0 := hS
  refine lv_aload_n hx hb dX1_change_0 rfl (lv_at hl 0 rfl) ?_
  refine va_get (D := (dC, dI)) (ci := 1) (v := .ref (a 1)) (C := RX1) (T := TX1) (N := 13) hx hb hts in_X1 hown hK hP 0 rfl rfl 0 (by decide) (hts _ q74) (fun _ h9 => h9) rfl dX1_change_1 ?_
  refine lv_iload_n hx hb dX1_change_4 rfl (lv_at hl 1 rfl) ?_
  obtain ⟨gi, w⟩ := w
  refine va_iald hx hb hK hP 1 0 rfl rfl gi dX1_change_5 ?_
  refine lv_iload_n hx hb dX1_change_6 rfl (lv_at hl 2 rfl) ?_
  refine lv_icmp_ge (tgt := 12) hx hb dX1_change_7 (by decide) (fun c => ?_) (fun c => ?_)
  · have w := And.left w c
    refine lv_aload_n hx hb dX1_change_12 rfl (lv_at hl 0 rfl) ?_
    refine va_calli (va_runV (As := []) (rest := []) ⟨hx, hb, hml, hown, hts⟩ (met_X1_rate l dC dI ct a _ w) (cwV 0 hts (lw_V q284 q254 q255 q49 q256) rfl rfl rfl hd_X1_rate ⟨Nat.le_of_ble_eq_true rfl, Nat.le_of_ble_eq_true rfl⟩) (pre_V hK hP (hD _) hN (va_recv hK hP (ci := 1) (q0 := 0) rfl rfl)) rfl rfl hl.1 rfl (lv_room (Nat.le_of_ble_eq_true rfl)) dX1_change_13 ⟨Nat.le_refl _, Nat.le_refl _⟩) hS (fun q _ h => x_free (hD _) hS hA q h) (x_free (hD _) hS hA) (fun r1 u t H locs ht hvm w hB hz hk hS => ?_)
    obtain ⟨v_1, rfl⟩ : ∃ z, z = u := ⟨_, rfl⟩
    have hP : va_P (dC, dI) vwCl (LW a ct v_1) H := post_P hB ht
    refine lv_iload_n hx hb dX1_change_16 rfl (lv_at hl 2 rfl) ?_
    refine lv_imul hx hb dX1_change_17 ?_
    refine lv_bipush (v := 100) hx hb dX1_change_18 (by decide) ?_
    refine lv_idiv hx hb dX1_change_20 (by decide) ?_
    refine lv_istore_n (lv' := [(3, .int ((r1 * i2) / (100 : Int32))), (0, .ref (a 0)), (1, .int i1), (2, .int i2)]) hx hb dX1_change_21 rfl hl (by decide) rfl (fun ls hl => ?_)
    refine lv_aload_n hx hb dX1_change_22 rfl (lv_at hl 1 rfl) ?_
    refine va_get (D := (dC, dI)) (ci := 1) (v := .ref (a 2)) (C := RX1) (T := TX1) (N := 13) hx hb hts in_X1 hown hK hP 0 rfl rfl 1 (by decide) (hts _ q76) (fun _ h9 => h9) rfl dX1_change_23 ?_
    refine lv_iload_n hx hb dX1_change_26 rfl (lv_at hl 2 rfl) ?_
    obtain ⟨gi, w⟩ := w
    refine va_iald hx hb hK hP 2 0 rfl rfl gi dX1_change_27 ?_
    refine lv_iload_n hx hb dX1_change_28 rfl (lv_at hl 0 rfl) ?_
    refine lv_iadd hx hb dX1_change_29 ?_
    refine lv_sipush (v := 9999) hx hb dX1_change_30 (by decide) ?_
    refine lv_icmp_gt (tgt := 49) hx hb dX1_change_33 (by decide) (fun c => ?_) (fun c => ?_)
    · have w := And.left w c
      exact wk_X1_change_L49 X hD  _ w _ _ _ hP hS (lv_sub hl [] rfl)
    · have w := And.right w c
      refine lv_aload_n hx hb dX1_change_36 rfl (lv_at hl 1 rfl) ?_
      refine va_get (D := (dC, dI)) (ci := 1) (v := .ref (a 12)) (C := RX1) (T := TX1) (N := 13) hx hb hts in_X1 hown hK hP 0 rfl rfl 5 (by decide) (hts _ q84) (fun _ h9 => h9) rfl dX1_change_37 ?_
      refine lv_iconst (v := 0) hx hb dX1_change_40 (by decide) ?_
      refine va_iald hx hb hK hP 12 0 rfl rfl (x_vin (by decide)) dX1_change_41 ?_
      refine lv_iload_n hx hb dX1_change_42 rfl (lv_at hl 3 rfl) ?_
      refine lv_iadd hx hb dX1_change_43 ?_
      refine lv_ldc (v := 99999) hx hb hown (hts _ q244) dX1_change_44 ?_
      refine lv_icmp_le (tgt := 51) hx hb dX1_change_46 (by decide) (fun c => ?_) (fun c => ?_)
      · have w := And.left w c
        refine lv_aload_n hx hb dX1_change_51 rfl (lv_at hl 1 rfl) ?_
        refine va_get (D := (dC, dI)) (ci := 1) (v := .ref (a 2)) (C := RX1) (T := TX1) (N := 13) hx hb hts in_X1 hown hK hP 0 rfl rfl 1 (by decide) (hts _ q76) (fun _ h9 => h9) rfl dX1_change_52 ?_
        refine lv_iload_n hx hb dX1_change_55 rfl (lv_at hl 2 rfl) ?_
        refine lv_dup2_11 hx hb dX1_change_56 rfl rfl ?_
        obtain ⟨gi, w⟩ := w
        refine va_iald hx hb hK hP 2 0 rfl rfl gi dX1_change_57 ?_
        refine lv_iload_n hx hb dX1_change_58 rfl (lv_at hl 0 rfl) ?_
        refine lv_iadd hx hb dX1_change_59 ?_
        obtain ⟨gi, w⟩ := w
        refine va_iast hx hb hK hP (hD _) hS 2 0 rfl rfl gi dX1_change_60 (fun H locs hP _ hS => ?_)
        have hP : va_P (dC, dI) vwCl (LW a ct (up2 v_1 1 i1.toNatClampNeg ((v_1 1 i1.toNatClampNeg) + ((r1 * i2) / (100 : Int32))))) H := LW_u_v_1 hP
        refine lv_aload_n hx hb dX1_change_61 rfl (lv_at hl 1 rfl) ?_
        refine va_get (D := (dC, dI)) (ci := 1) (v := .ref (a 1)) (C := RX1) (T := TX1) (N := 13) hx hb hts in_X1 hown hK hP 0 rfl rfl 0 (by decide) (hts _ q74) (fun _ h9 => h9) rfl dX1_change_62 ?_
        refine lv_iload_n hx hb dX1_change_65 rfl (lv_at hl 2 rfl) ?_
        refine lv_dup2_11 hx hb dX1_change_66 rfl rfl ?_
        obtain ⟨gi, w⟩ := w
        refine va_iald hx hb hK hP 1 0 rfl rfl gi dX1_change_67 ?_
        refine lv_iload_n hx hb dX1_change_68 rfl (lv_at hl 3 rfl) ?_
        refine lv_isub hx hb dX1_change_69 ?_
        obtain ⟨gi, w⟩ := w
        refine va_iast hx hb hK hP (hD _) hS 1 0 rfl rfl gi dX1_change_70 (fun H locs hP _ hS => ?_)
        have hP : va_P (dC, dI) vwCl (LW a ct (up2 (up2 v_1 1 i1.toNatClampNeg ((v_1 1 i1.toNatClampNeg) + ((r1 * i2) / (100 : Int32)))) 0 i1.toNatClampNeg ((v_1 0 i1.toNatClampNeg) - i2))) H := LW_u_v_0 hP
        refine lv_aload_n hx hb dX1_change_71 rfl (lv_at hl 1 rfl) ?_
        refine va_get (D := (dC, dI)) (ci := 1) (v := .ref (a 12)) (C := RX1) (T := TX1) (N := 13) hx hb hts in_X1 hown hK hP 0 rfl rfl 5 (by decide) (hts _ q84) (fun _ h9 => h9) rfl dX1_change_72 ?_
        refine lv_iconst (v := 0) hx hb dX1_change_75 (by decide) ?_
        refine lv_dup2_11 hx hb dX1_change_76 rfl rfl ?_
        refine va_iald hx hb hK hP 12 0 rfl rfl (x_vin (by decide)) dX1_change_77 ?_
        refine lv_iload_n hx hb dX1_change_78 rfl (lv_at hl 3 rfl) ?_
        refine lv_iadd hx hb dX1_change_79 ?_
        refine va_iast hx hb hK hP (hD _) hS 12 0 rfl rfl (x_vin (by decide)) dX1_change_80 (fun H locs hP _ hS => ?_)
        have hP : va_P (dC, dI) vwCl (LW a ct (up2 (up2 (up2 v_1 1 i1.toNatClampNeg ((v_1 1 i1.toNatClampNeg) + ((r1 * i2) / (100 : Int32)))) 0 i1.toNatClampNeg ((v_1 0 i1.toNatClampNeg) - i2)) 10 (0 : Int32).toNatClampNeg ((v_1 10 (0 : Int32).toNatClampNeg) + i2))) H := LW_u_v_10 hP
        refine lv_iconst (v := 0) hx hb dX1_change_81 (by decide) ?_
        exact W.iret (v := (0 : Int32)) hx hb hr (fun t ht hW => ⟨⟨(0 : Int32), (up2 (up2 (up2 v_1 1 i1.toNatClampNeg ((v_1 1 i1.toNatClampNeg) + ((r1 * i2) / (100 : Int32)))) 0 i1.toNatClampNeg ((v_1 0 i1.toNatClampNeg) - i2)) 10 (0 : Int32).toNatClampNeg ((v_1 10 (0 : Int32).toNatClampNeg) + i2)), rfl, w, by rw [ht]; exact hP, va_K.moved hW.alike hK, (hD _)⟩, hS.F ht⟩) hS.2.2 dX1_change_82 hlk
      · have w := And.right w c
        exact wk_X1_change_L49 X hD  _ w _ _ _ hP hS (lv_sub hl [] rfl)
  · have w := And.right w c
    refine lv_iconst (v := 3) hx hb dX1_change_10 (by decide) ?_
    exact W.iret (v := (3 : Int32)) hx hb hr (fun t ht hW => ⟨⟨(3 : Int32), v, rfl, w, by rw [ht]; exact hP, va_K.moved hW.alike hK, (hD _)⟩, hS.F ht⟩) hS.2.2 dX1_change_11 hlk
abbrev rm_X1_pay : Room := { frames := 1, cells := 0, slots := 0, locals := 30 }
theorem hd_X1_pay : yX1_pay.cls = RX1 ∧ yX1_pay.cls ≠ "java/lang/invoke/MethodHandle" ∧ yX1_pay.cls ≠ "java/lang/invoke/VarHandle" ∧ (parseMethodDescriptor yX1_pay.desc).map (fun d => d.parameters.length) = some 2 := by decide +kernel
set_option maxHeartbeats 4000000 in
set_option maxRecDepth 100000 in
theorem met_X1_pay (l : Launch) (dC : Nat → ClassId) (dI : Nat → Nat → Nat) (ct : Nat → ClassId) (a : Nat → Nat) (sz : Nat) {i1 : Int32} {i2 : Int32} {v : V} {Post : Int32 → V → Prop} (w : wp_X1_pay i1 i2 v Post) : Met l yX1_pay (ws_ yX1_pay cX1_pay 4 (some .int)) rm_X1_pay (va_Pc [.ref (a 0), .int i1, .int i2] (fun U => WPre dC dI ct (LW a ct v) sz U)) ((fun A => (va_Qi (fun (r : Int32) (u : V) => Post r u) (fun (u : V) t => WPos dC dI ct (LW a ct u) A t) A)) (va_A (LW a ct v) sz)) 0 0 (va_A (LW a ct v) sz) := by
  refine open_W (fun A => (va_Qi (fun (r : Int32) (u : V) => Post r u) (fun (u : V) t => WPos dC dI ct (LW a ct u) A t) A)) (by decide) (Nat.le_of_ble_eq_true rfl) ?_
  intro p e s m args below meth c ls A X hD0 hP hS hl
  have X0 := X
  obtain ⟨⟨hx, hb, hml, hr, hlk, hown, hts⟩, hA, hK, hN⟩ := X0
  have hD : ∀ (v' : V), va_D A (LW a ct v') := fun v' => va_D_addr hD0 rfl
  have hl : lv_has ls 4 [(0, .ref (a 0)), (1, .int i1), (2, .int i2)] := hl
  unfold wp_X1_pay at w
  have hS0 := hS
  refine lv_iload_n hx hb dX1_pay_0 rfl (lv_at hl 1 rfl) ?_
  refine lv_iload_n hx hb dX1_pay_1 rfl (lv_at hl 2 rfl) ?_
  refine lv_icmp_ne (tgt := 7) hx hb dX1_pay_2 (by decide) (fun c => ?_) (fun c => ?_)
  · have w := And.right w c
    refine lv_aload_n hx hb dX1_pay_7 rfl (lv_at hl 0 rfl) ?_
    refine va_get (D := (dC, dI)) (ci := 1) (v := .ref (a 3)) (C := RX1) (T := TX1) (N := 13) hx hb hts in_X1 hown hK hP 0 rfl rfl 2 (by decide) (hts _ q78) (fun _ h9 => h9) rfl dX1_pay_8 ?_
    refine lv_iload_n hx hb dX1_pay_11 rfl (lv_at hl 1 rfl) ?_
    obtain ⟨gi, w⟩ := w
    refine x_aald hx hb hK hP 3 5 rfl rfl rfl gi rfl dX1_pay_12 ?_
    have gk1 := x_vlt gi
    refine lv_iload_n hx hb dX1_pay_13 rfl (lv_at hl 2 rfl) ?_
    have gr := gk1
    obtain ⟨gi, w⟩ := w
    refine va_iald hx hb hK hP (4 + i1.toNatClampNeg) 0 (LW_row gr) rfl gi dX1_pay_14 ?_
    refine lv_aload_n hx hb dX1_pay_15 rfl (lv_at hl 0 rfl) ?_
    refine va_get (D := (dC, dI)) (ci := 1) (v := .ref (a 1)) (C := RX1) (T := TX1) (N := 13) hx hb hts in_X1 hown hK hP 0 rfl rfl 0 (by decide) (hts _ q74) (fun _ h9 => h9) rfl dX1_pay_16 ?_
    refine lv_iload_n hx hb dX1_pay_19 rfl (lv_at hl 1 rfl) ?_
    obtain ⟨gi, w⟩ := w
    refine va_iald hx hb hK hP 1 0 rfl rfl gi dX1_pay_20 ?_
    refine va_mmin hx hb (hml.trans hl.1.symm) hown (hts _ q289) (hts _ q290) (hts _ q53) (hts _ q291) (Nat.le_of_ble_eq_true rfl) (Nat.le_of_ble_eq_true rfl) (Nat.zero_le _) (Nat.zero_le _) dX1_pay_21 ?_
    refine lv_topi (fun n2 en2 => ?_)
    have w := w n2 en2
    refine lv_istore_n (lv' := [(3, .int n2), (0, .ref (a 0)), (1, .int i1), (2, .int i2)]) hx hb dX1_pay_24 rfl hl (by decide) rfl (fun ls hl => ?_)
    refine lv_iload_n hx hb dX1_pay_25 rfl (lv_at hl 0 rfl) ?_
    refine lv_if_ne (tgt := 31) hx hb dX1_pay_26 (by decide) (fun c => ?_) (fun c => ?_)
    · have w := And.right w c
      refine lv_aload_n hx hb dX1_pay_31 rfl (lv_at hl 1 rfl) ?_
      refine va_get (D := (dC, dI)) (ci := 1) (v := .ref (a 1)) (C := RX1) (T := TX1) (N := 13) hx hb hts in_X1 hown hK hP 0 rfl rfl 0 (by decide) (hts _ q74) (fun _ h9 => h9) rfl dX1_pay_32 ?_
      refine lv_iload_n hx hb dX1_pay_35 rfl (lv_at hl 3 rfl) ?_
      obtain ⟨gi, w⟩ := w
      refine va_iald hx hb hK hP 1 0 rfl rfl gi dX1_pay_36 ?_
      refine lv_iload_n hx hb dX1_pay_37 rfl (lv_at hl 0 rfl) ?_
      refine lv_iadd hx hb dX1_pay_38 ?_
      refine lv_sipush (v := 9999) hx hb dX1_pay_39 (by decide) ?_
      refine lv_icmp_le (tgt := 47) hx hb dX1_pay_42 (by decide) (fun c => ?_) (fun c => ?_)
      · have w := And.left w c
        refine lv_aload_n hx hb dX1_pay_47 rfl (lv_at hl 1 rfl) ?_
        refine va_get (D := (dC, dI)) (ci := 1) (v := .ref (a 1)) (C := RX1) (T := TX1) (N := 13) hx hb hts in_X1 hown hK hP 0 rfl rfl 0 (by decide) (hts _ q74) (fun _ h9 => h9) rfl dX1_pay_48 ?_
        refine lv_iload_n hx hb dX1_pay_51 rfl (lv_at hl 2 rfl) ?_
        refine lv_dup2_11 hx hb dX1_pay_52 rfl rfl ?_
        obtain ⟨gi, w⟩ := w
        refine va_iald hx hb hK hP 1 0 rfl rfl gi dX1_pay_53 ?_
        refine lv_iload_n hx hb dX1_pay_54 rfl (lv_at hl 0 rfl) ?_
        refine lv_isub hx hb dX1_pay_55 ?_
        obtain ⟨gi, w⟩ := w
        refine va_iast hx hb hK hP (hD _) hS 1 0 rfl rfl gi dX1_pay_56 (fun H locs hP _ hS => ?_)
        have hP : va_P (dC, dI) vwCl (LW a ct (up2 v 0 i1.toNatClampNeg ((v 0 i1.toNatClampNeg) - n2))) H := LW_u_v_0 hP
        refine lv_aload_n hx hb dX1_pay_57 rfl (lv_at hl 1 rfl) ?_
        refine va_get (D := (dC, dI)) (ci := 1) (v := .ref (a 1)) (C := RX1) (T := TX1) (N := 13) hx hb hts in_X1 hown hK hP 0 rfl rfl 0 (by decide) (hts _ q74) (fun _ h9 => h9) rfl dX1_pay_58 ?_
        refine lv_iload_n hx hb dX1_pay_61 rfl (lv_at hl 3 rfl) ?_
        refine lv_dup2_11 hx hb dX1_pay_62 rfl rfl ?_
        obtain ⟨gi, w⟩ := w
        refine va_iald hx hb hK hP 1 0 rfl rfl gi dX1_pay_63 ?_
        refine lv_iload_n hx hb dX1_pay_64 rfl (lv_at hl 0 rfl) ?_
        refine lv_iadd hx hb dX1_pay_65 ?_
        obtain ⟨gi, w⟩ := w
        refine va_iast hx hb hK hP (hD _) hS 1 0 rfl rfl gi dX1_pay_66 (fun H locs hP _ hS => ?_)
        have hP : va_P (dC, dI) vwCl (LW a ct (up2 (up2 v 0 i1.toNatClampNeg ((v 0 i1.toNatClampNeg) - n2)) 0 i2.toNatClampNeg (((up2 v 0 i1.toNatClampNeg ((v 0 i1.toNatClampNeg) - n2)) 0 i2.toNatClampNeg) + n2))) H := LW_u_v_0 hP
        refine lv_aload_n hx hb dX1_pay_67 rfl (lv_at hl 1 rfl) ?_
        refine va_get (D := (dC, dI)) (ci := 1) (v := .ref (a 3)) (C := RX1) (T := TX1) (N := 13) hx hb hts in_X1 hown hK hP 0 rfl rfl 2 (by decide) (hts _ q78) (fun _ h9 => h9) rfl dX1_pay_68 ?_
        refine lv_iload_n hx hb dX1_pay_71 rfl (lv_at hl 2 rfl) ?_
        obtain ⟨gi, w⟩ := w
        refine x_aald hx hb hK hP 3 5 rfl rfl rfl gi rfl dX1_pay_72 ?_
        have gk3 := x_vlt gi
        refine lv_iload_n hx hb dX1_pay_73 rfl (lv_at hl 3 rfl) ?_
        refine lv_dup2_11 hx hb dX1_pay_74 rfl rfl ?_
        have gr := gk3
        obtain ⟨gi, w⟩ := w
        refine va_iald hx hb hK hP (4 + i1.toNatClampNeg) 0 (LW_row gr) rfl gi dX1_pay_75 ?_
        refine lv_iload_n hx hb dX1_pay_76 rfl (lv_at hl 0 rfl) ?_
        refine lv_isub hx hb dX1_pay_77 ?_
        have gr := gk3
        obtain ⟨gi, w⟩ := w
        refine va_iast hx hb hK hP (hD _) hS (4 + i1.toNatClampNeg) 0 (LW_row gr) rfl gi dX1_pay_78 (fun H locs hP _ hS => ?_)
        rw [LW_rowset gr, ← up2_eq] at hP
        have hP : va_P (dC, dI) vwCl (LW a ct (up2 (up2 (up2 v 0 i1.toNatClampNeg ((v 0 i1.toNatClampNeg) - n2)) 0 i2.toNatClampNeg (((up2 v 0 i1.toNatClampNeg ((v 0 i1.toNatClampNeg) - n2)) 0 i2.toNatClampNeg) + n2)) (2 + i1.toNatClampNeg) i2.toNatClampNeg (((up2 (up2 v 0 i1.toNatClampNeg ((v 0 i1.toNatClampNeg) - n2)) 0 i2.toNatClampNeg (((up2 v 0 i1.toNatClampNeg ((v 0 i1.toNatClampNeg) - n2)) 0 i2.toNatClampNeg) + n2)) (2 + i1.toNatClampNeg) i2.toNatClampNeg) - n2))) H := hP
        refine lv_iconst (v := 0) hx hb dX1_pay_79 (by decide) ?_
        exact W.iret (v := (0 : Int32)) hx hb hr (fun t ht hW => ⟨⟨(0 : Int32), (up2 (up2 (up2 v 0 i1.toNatClampNeg ((v 0 i1.toNatClampNeg) - n2)) 0 i2.toNatClampNeg (((up2 v 0 i1.toNatClampNeg ((v 0 i1.toNatClampNeg) - n2)) 0 i2.toNatClampNeg) + n2)) (2 + i1.toNatClampNeg) i2.toNatClampNeg (((up2 (up2 v 0 i1.toNatClampNeg ((v 0 i1.toNatClampNeg) - n2)) 0 i2.toNatClampNeg (((up2 v 0 i1.toNatClampNeg ((v 0 i1.toNatClampNeg) - n2)) 0 i2.toNatClampNeg) + n2)) (2 + i1.toNatClampNeg) i2.toNatClampNeg) - n2)), rfl, w, by rw [ht]; exact hP, va_K.moved hW.alike hK, (hD _)⟩, hS.F ht⟩) hS.2.2 dX1_pay_80 hlk
      · have w := And.right w c
        refine lv_iconst (v := 5) hx hb dX1_pay_45 (by decide) ?_
        exact W.iret (v := (5 : Int32)) hx hb hr (fun t ht hW => ⟨⟨(5 : Int32), v, rfl, w, by rw [ht]; exact hP, va_K.moved hW.alike hK, (hD _)⟩, hS.F ht⟩) hS.2.2 dX1_pay_46 hlk
    · have w := And.left w c
      refine lv_iconst (v := 4) hx hb dX1_pay_29 (by decide) ?_
      exact W.iret (v := (4 : Int32)) hx hb hr (fun t ht hW => ⟨⟨(4 : Int32), v, rfl, w, by rw [ht]; exact hP, va_K.moved hW.alike hK, (hD _)⟩, hS.F ht⟩) hS.2.2 dX1_pay_30 hlk
  · have w := And.left w c
    refine lv_iconst (v := 1) hx hb dX1_pay_5 (by decide) ?_
    exact W.iret (v := (1 : Int32)) hx hb hr (fun t ht hW => ⟨⟨(1 : Int32), v, rfl, w, by rw [ht]; exact hP, va_K.moved hW.alike hK, (hD _)⟩, hS.F ht⟩) hS.2.2 dX1_pay_6 hlk
abbrev rm_X1_spend : Room := { frames := 0, cells := 0, slots := 0, locals := 0 }
theorem hd_X1_spend : yX1_spend.cls = RX1 ∧ yX1_spend.cls ≠ "java/lang/invoke/MethodHandle" ∧ yX1_spend.cls ≠ "java/lang/invoke/VarHandle" ∧ (parseMethodDescriptor yX1_spend.desc).map (fun d => d.parameters.length) = some 2 := by decide +kernel
set_option maxHeartbeats 4000000 in
set_option maxRecDepth 100000 in
theorem met_X1_spend (l : Launch) (dC : Nat → ClassId) (dI : Nat → Nat → Nat) (ct : Nat → ClassId) (a : Nat → Nat) (sz : Nat) {i1 : Int32} {i2 : Int32} {v : V} {Post : Int32 → V → Prop} (w : wp_X1_spend i1 i2 v Post) : Met l yX1_spend (ws_ yX1_spend cX1_spend 3 (some .int)) rm_X1_spend (va_Pc [.ref (a 0), .int i1, .int i2] (fun U => WPre dC dI ct (LW a ct v) sz U)) ((fun A => (va_Qi (fun (r : Int32) (u : V) => Post r u) (fun (u : V) t => WPos dC dI ct (LW a ct u) A t) A)) (va_A (LW a ct v) sz)) 0 0 (va_A (LW a ct v) sz) := by
  refine open_W (fun A => (va_Qi (fun (r : Int32) (u : V) => Post r u) (fun (u : V) t => WPos dC dI ct (LW a ct u) A t) A)) (by decide) (Nat.le_of_ble_eq_true rfl) ?_
  intro p e s m args below meth c ls A X hD0 hP hS hl
  have X0 := X
  obtain ⟨⟨hx, hb, hml, hr, hlk, hown, hts⟩, hA, hK, hN⟩ := X0
  have hD : ∀ (v' : V), va_D A (LW a ct v') := fun v' => va_D_addr hD0 rfl
  have hl : lv_has ls 3 [(0, .ref (a 0)), (1, .int i1), (2, .int i2)] := hl
  unfold wp_X1_spend at w
  have hS0 := hS
  refine lv_aload_n hx hb dX1_spend_0 rfl (lv_at hl 0 rfl) ?_
  refine va_get (D := (dC, dI)) (ci := 1) (v := .ref (a 12)) (C := RX1) (T := TX1) (N := 13) hx hb hts in_X1 hown hK hP 0 rfl rfl 5 (by decide) (hts _ q84) (fun _ h9 => h9) rfl dX1_spend_1 ?_
  refine lv_iconst (v := 0) hx hb dX1_spend_4 (by decide) ?_
  refine va_iald hx hb hK hP 12 0 rfl rfl (x_vin (by decide)) dX1_spend_5 ?_
  refine lv_iload_n hx hb dX1_spend_6 rfl (lv_at hl 2 rfl) ?_
  refine lv_icmp_ge (tgt := 12) hx hb dX1_spend_7 (by decide) (fun c => ?_) (fun c => ?_)
  · have w := And.left w c
    refine lv_aload_n hx hb dX1_spend_12 rfl (lv_at hl 0 rfl) ?_
    refine va_get (D := (dC, dI)) (ci := 1) (v := .ref (a 1)) (C := RX1) (T := TX1) (N := 13) hx hb hts in_X1 hown hK hP 0 rfl rfl 0 (by decide) (hts _ q74) (fun _ h9 => h9) rfl dX1_spend_13 ?_
    refine lv_iload_n hx hb dX1_spend_16 rfl (lv_at hl 1 rfl) ?_
    obtain ⟨gi, w⟩ := w
    refine va_iald hx hb hK hP 1 0 rfl rfl gi dX1_spend_17 ?_
    refine lv_iload_n hx hb dX1_spend_18 rfl (lv_at hl 2 rfl) ?_
    refine lv_iadd hx hb dX1_spend_19 ?_
    refine lv_sipush (v := 9999) hx hb dX1_spend_20 (by decide) ?_
    refine lv_icmp_le (tgt := 28) hx hb dX1_spend_23 (by decide) (fun c => ?_) (fun c => ?_)
    · have w := And.left w c
      refine lv_aload_n hx hb dX1_spend_28 rfl (lv_at hl 0 rfl) ?_
      refine va_get (D := (dC, dI)) (ci := 1) (v := .ref (a 12)) (C := RX1) (T := TX1) (N := 13) hx hb hts in_X1 hown hK hP 0 rfl rfl 5 (by decide) (hts _ q84) (fun _ h9 => h9) rfl dX1_spend_29 ?_
      refine lv_iconst (v := 0) hx hb dX1_spend_32 (by decide) ?_
      refine lv_dup2_11 hx hb dX1_spend_33 rfl rfl ?_
      refine va_iald hx hb hK hP 12 0 rfl rfl (x_vin (by decide)) dX1_spend_34 ?_
      refine lv_iload_n hx hb dX1_spend_35 rfl (lv_at hl 2 rfl) ?_
      refine lv_isub hx hb dX1_spend_36 ?_
      refine va_iast hx hb hK hP (hD _) hS 12 0 rfl rfl (x_vin (by decide)) dX1_spend_37 (fun H locs hP _ hS => ?_)
      have hP : va_P (dC, dI) vwCl (LW a ct (up2 v 10 (0 : Int32).toNatClampNeg ((v 10 (0 : Int32).toNatClampNeg) - i2))) H := LW_u_v_10 hP
      refine lv_aload_n hx hb dX1_spend_38 rfl (lv_at hl 0 rfl) ?_
      refine va_get (D := (dC, dI)) (ci := 1) (v := .ref (a 1)) (C := RX1) (T := TX1) (N := 13) hx hb hts in_X1 hown hK hP 0 rfl rfl 0 (by decide) (hts _ q74) (fun _ h9 => h9) rfl dX1_spend_39 ?_
      refine lv_iload_n hx hb dX1_spend_42 rfl (lv_at hl 1 rfl) ?_
      refine lv_dup2_11 hx hb dX1_spend_43 rfl rfl ?_
      obtain ⟨gi, w⟩ := w
      refine va_iald hx hb hK hP 1 0 rfl rfl gi dX1_spend_44 ?_
      refine lv_iload_n hx hb dX1_spend_45 rfl (lv_at hl 2 rfl) ?_
      refine lv_iadd hx hb dX1_spend_46 ?_
      obtain ⟨gi, w⟩ := w
      refine va_iast hx hb hK hP (hD _) hS 1 0 rfl rfl gi dX1_spend_47 (fun H locs hP _ hS => ?_)
      have hP : va_P (dC, dI) vwCl (LW a ct (up2 (up2 v 10 (0 : Int32).toNatClampNeg ((v 10 (0 : Int32).toNatClampNeg) - i2)) 0 i1.toNatClampNeg ((v 0 i1.toNatClampNeg) + i2))) H := LW_u_v_0 hP
      refine lv_iconst (v := 0) hx hb dX1_spend_48 (by decide) ?_
      exact W.iret (v := (0 : Int32)) hx hb hr (fun t ht hW => ⟨⟨(0 : Int32), (up2 (up2 v 10 (0 : Int32).toNatClampNeg ((v 10 (0 : Int32).toNatClampNeg) - i2)) 0 i1.toNatClampNeg ((v 0 i1.toNatClampNeg) + i2)), rfl, w, by rw [ht]; exact hP, va_K.moved hW.alike hK, (hD _)⟩, hS.F ht⟩) hS.2.2 dX1_spend_49 hlk
    · have w := And.right w c
      refine lv_iconst (v := 5) hx hb dX1_spend_26 (by decide) ?_
      exact W.iret (v := (5 : Int32)) hx hb hr (fun t ht hW => ⟨⟨(5 : Int32), v, rfl, w, by rw [ht]; exact hP, va_K.moved hW.alike hK, (hD _)⟩, hS.F ht⟩) hS.2.2 dX1_spend_27 hlk
  · have w := And.right w c
    refine lv_iconst (v := 3) hx hb dX1_spend_10 (by decide) ?_
    exact W.iret (v := (3 : Int32)) hx hb hr (fun t ht hW => ⟨⟨(3 : Int32), v, rfl, w, by rw [ht]; exact hP, va_K.moved hW.alike hK, (hD _)⟩, hS.F ht⟩) hS.2.2 dX1_spend_11 hlk
abbrev rm_X1_lotsOf : Room := { frames := 1, cells := 0, slots := 0, locals := 20 }
theorem hd_X1_lotsOf : yX1_lotsOf.cls = RX1 ∧ yX1_lotsOf.cls ≠ "java/lang/invoke/MethodHandle" ∧ yX1_lotsOf.cls ≠ "java/lang/invoke/VarHandle" ∧ (parseMethodDescriptor yX1_lotsOf.desc).map (fun d => d.parameters.length) = some 1 := by decide +kernel
set_option maxHeartbeats 4000000 in
set_option maxRecDepth 100000 in
theorem wk_X1_lotsOf_L26 {p : Program} {l : Launch} {e : Env} {s : State} {m : MethodId} {args : Array Value} {below : List Frame} {meth : Method} {c : Code} {dC : Nat → ClassId} {dI : Nat → Nat → Nat} {ct : Nat → ClassId} {A : Nat → Prop} {a : Nat → Nat} {Post : Int32 → V → Prop} {K4 : Int32 → Int32 → Int32 → V → Prop}  (X : CxW p s m args meth c cX1_lotsOf 4 (some .int) RX1 dC dI ct A) (hD : ∀ (v : V), va_D A (LW a ct v)) (hK4 : ∀ (i1 : Int32) (i2 : Int32) (i3 : Int32) (v : V), K4 i1 i2 i3 v → ∀ (H : Heap) (locs : List Loc) (ls : Array Slot), va_P (dC, dI) vwCl (LW a ct v) H → va_S A s.heap H locs → lv_has ls 4 [(0, .ref (a 0)), (1, .int i1), (2, .int i2), (3, .int i3)] → W p l e rm_X1_lotsOf s m args below meth c H locs 0 0 (MQ below (va_Qi (fun (r : Int32) (u : V) => Post r u) (fun (u : V) t => WPos dC dI ct (LW a ct u) A t) A) args s 0 0 A) (F0 m 4 ls [])) (i1 : Int32) (i3 : Int32) (is0 : Int32) (is1 : Int32) (v : V) (w : wp_X1_lotsOf_L26  Post K4 i1 i3 is0 is1 v) : ∀ (H : Heap) (locs : List Loc) (ls : Array Slot), va_P (dC, dI) vwCl (LW a ct v) H → va_S A s.heap H locs → lv_has ls 4 [(0, .ref (a 0)), (1, .int i1), (3, .int i3)] → W p l e rm_X1_lotsOf s m args below meth c H locs 0 0 (MQ below (va_Qi (fun (r : Int32) (u : V) => Post r u) (fun (u : V) t => WPos dC dI ct (LW a ct u) A t) A) args s 0 0 A) (F0 m 26 ls [.int is0, .int is1]) := by
  intro H locs ls hP hS hl
  have X0 := X
  obtain ⟨⟨hx, hb, hml, hr, hlk, hown, hts⟩, hA, hK, hN⟩ := X0
  unfold wp_X1_lotsOf_L26 at w
  refine vp_callSi (va_runSN (As := [.int is0]) (rest := [.int is1]) ⟨hx, hb, hml, hown, hts⟩ (met_X0_asNumber l w) ⟨va_cnB 1 hts (lw_meth q310) rfl rfl rfl hN.2.2.2.2.2.2.2.2.2.2.2.2.2.2 (hts _ q48) hd_X0_asNumber ⟨Nat.le_of_ble_eq_true rfl, Nat.le_of_ble_eq_true rfl⟩, hts _ q309, trivial⟩ pre_S rfl rfl hl.1 rfl (lv_room (Nat.le_of_ble_eq_true rfl)) dX1_lotsOf_26 ⟨Nat.le_refl _, Nat.le_refl _⟩).run (fun r1 w => ?_)
  refine lv_iload_n hx hb dX1_lotsOf_29 rfl (lv_at hl 2 rfl) ?_
  refine lv_ishl hx hb dX1_lotsOf_30 ?_
  refine lv_ior hx hb dX1_lotsOf_31 ?_
  refine lv_istore_n (lv' := [(2, .int (is1 ||| (r1 <<< (i3 &&& 31)))), (0, .ref (a 0)), (1, .int i1), (3, .int i3)]) hx hb dX1_lotsOf_32 rfl hl (by decide) rfl (fun ls hl => ?_)
  refine lv_iinc (v := (i3 + 1)) (lv' := [(3, .int (i3 + 1)), (2, .int (is1 ||| (r1 <<< (i3 &&& 31)))), (0, .ref (a 0)), (1, .int i1)]) hx hb dX1_lotsOf_33 hl (k := 3) rfl rfl (by decide) rfl (fun ls hl => ?_)
  refine lv_goto (tgt := 4) hx hb dX1_lotsOf_36 (by decide) ?_
  exact hK4 _ _ _ _ w _ _ _ hP hS (lv_sub hl [2, 3, 1, 0] rfl)
set_option maxHeartbeats 4000000 in
set_option maxRecDepth 100000 in
theorem wk_X1_lotsOf_S4 {p : Program} {l : Launch} {e : Env} {s : State} {m : MethodId} {args : Array Value} {below : List Frame} {meth : Method} {c : Code} {dC : Nat → ClassId} {dI : Nat → Nat → Nat} {ct : Nat → ClassId} {A : Nat → Prop} {a : Nat → Nat} {Post : Int32 → V → Prop} {K4 : Int32 → Int32 → Int32 → V → Prop}  (X : CxW p s m args meth c cX1_lotsOf 4 (some .int) RX1 dC dI ct A) (hD : ∀ (v : V), va_D A (LW a ct v)) (hK4 : ∀ (i1 : Int32) (i2 : Int32) (i3 : Int32) (v : V), K4 i1 i2 i3 v → ∀ (H : Heap) (locs : List Loc) (ls : Array Slot), va_P (dC, dI) vwCl (LW a ct v) H → va_S A s.heap H locs → lv_has ls 4 [(0, .ref (a 0)), (1, .int i1), (2, .int i2), (3, .int i3)] → W p l e rm_X1_lotsOf s m args below meth c H locs 0 0 (MQ below (va_Qi (fun (r : Int32) (u : V) => Post r u) (fun (u : V) t => WPos dC dI ct (LW a ct u) A t) A) args s 0 0 A) (F0 m 4 ls [])) (i1 : Int32) (i2 : Int32) (i3 : Int32) (v : V) (w : wp_X1_lotsOf_S4  Post K4 i1 i2 i3 v) : ∀ (H : Heap) (locs : List Loc) (ls : Array Slot), va_P (dC, dI) vwCl (LW a ct v) H → va_S A s.heap H locs → lv_has ls 4 [(0, .ref (a 0)), (1, .int i1), (2, .int i2), (3, .int i3)] → W p l e rm_X1_lotsOf s m args below meth c H locs 0 0 (MQ below (va_Qi (fun (r : Int32) (u : V) => Post r u) (fun (u : V) t => WPos dC dI ct (LW a ct u) A t) A) args s 0 0 A) (F0 m 4 ls []) := by
  intro H locs ls hP hS hl
  have X0 := X
  obtain ⟨⟨hx, hb, hml, hr, hlk, hown, hts⟩, hA, hK, hN⟩ := X0
  unfold wp_X1_lotsOf_S4 at w
  refine lv_iload_n hx hb dX1_lotsOf_4 rfl (lv_at hl 3 rfl) ?_
  refine lv_bipush (v := 8) hx hb dX1_lotsOf_5 (by decide) ?_
  refine lv_icmp_ge (tgt := 39) hx hb dX1_lotsOf_7 (by decide) (fun c => ?_) (fun c => ?_)
  · have w := And.left w c
    refine lv_iload_n hx hb dX1_lotsOf_39 rfl (lv_at hl 2 rfl) ?_
    exact W.iret (v := i2) hx hb hr (fun t ht hW => ⟨⟨i2, v, rfl, w, by rw [ht]; exact hP, va_K.moved hW.alike hK, (hD _)⟩, hS.F ht⟩) hS.2.2 dX1_lotsOf_40 hlk
  · have w := And.right w c
    refine lv_iload_n hx hb dX1_lotsOf_10 rfl (lv_at hl 2 rfl) ?_
    refine lv_aload_n hx hb dX1_lotsOf_11 rfl (lv_at hl 0 rfl) ?_
    refine va_get (D := (dC, dI)) (ci := 1) (v := .ref (a 11)) (C := RX1) (T := TX1) (N := 13) hx hb hts in_X1 hown hK hP 0 rfl rfl 4 (by decide) (hts _ q82) (fun _ h9 => h9) rfl dX1_lotsOf_12 ?_
    refine lv_iload_n hx hb dX1_lotsOf_15 rfl (lv_at hl 3 rfl) ?_
    obtain ⟨gi, w⟩ := w
    refine va_iald hx hb hK hP 11 0 rfl rfl gi dX1_lotsOf_16 ?_
    refine lv_iload_n hx hb dX1_lotsOf_17 rfl (lv_at hl 1 rfl) ?_
    refine lv_icmp_ne (tgt := 25) hx hb dX1_lotsOf_18 (by decide) (fun c => ?_) (fun c => ?_)
    · have w := And.right w c
      refine lv_iconst (v := 0) hx hb dX1_lotsOf_25 (by decide) ?_
      exact wk_X1_lotsOf_L26 X hD hK4 _ _ _ _ _ w _ _ _ hP hS (lv_sub hl [0, 1, 3] rfl)
    · have w := And.left w c
      refine lv_iconst (v := 1) hx hb dX1_lotsOf_21 (by decide) ?_
      refine lv_goto (tgt := 26) hx hb dX1_lotsOf_22 (by decide) ?_
      exact wk_X1_lotsOf_L26 X hD hK4 _ _ _ _ _ w _ _ _ hP hS (lv_sub hl [0, 1, 3] rfl)
set_option maxHeartbeats 4000000 in
set_option maxRecDepth 100000 in
theorem wk_X1_lotsOf_L4 {p : Program} {l : Launch} {e : Env} {s : State} {m : MethodId} {args : Array Value} {below : List Frame} {meth : Method} {c : Code} {dC : Nat → ClassId} {dI : Nat → Nat → Nat} {ct : Nat → ClassId} {A : Nat → Prop} {a : Nat → Nat} {Post : Int32 → V → Prop}   (X : CxW p s m args meth c cX1_lotsOf 4 (some .int) RX1 dC dI ct A) (hD : ∀ (v : V), va_D A (LW a ct v))  : ∀ (n : Nat) (i1 : Int32) (i2 : Int32) (i3 : Int32) (v : V), wp_X1_lotsOf_L4  Post  n i1 i2 i3 v → ∀ (H : Heap) (locs : List Loc) (ls : Array Slot), va_P (dC, dI) vwCl (LW a ct v) H → va_S A s.heap H locs → lv_has ls 4 [(0, .ref (a 0)), (1, .int i1), (2, .int i2), (3, .int i3)] → W p l e rm_X1_lotsOf s m args below meth c H locs 0 0 (MQ below (va_Qi (fun (r : Int32) (u : V) => Post r u) (fun (u : V) t => WPos dC dI ct (LW a ct u) A t) A) args s 0 0 A) (F0 m 4 ls []) := by
  intro n
  induction n with
  | zero => intro i1 i2 i3 v w; exact False.elim w
  | succ n ih => intro i1 i2 i3 v w H locs ls hP hS hl; exact wk_X1_lotsOf_S4 X hD  ih i1 i2 i3 v w H locs ls hP hS hl
set_option maxHeartbeats 4000000 in
set_option maxRecDepth 100000 in
theorem met_X1_lotsOf (l : Launch) (dC : Nat → ClassId) (dI : Nat → Nat → Nat) (ct : Nat → ClassId) (a : Nat → Nat) (sz : Nat) {i1 : Int32} {v : V} {Post : Int32 → V → Prop} (w : wp_X1_lotsOf i1 v Post) : Met l yX1_lotsOf (ws_ yX1_lotsOf cX1_lotsOf 4 (some .int)) rm_X1_lotsOf (va_Pc [.ref (a 0), .int i1] (fun U => WPre dC dI ct (LW a ct v) sz U)) ((fun A => (va_Qi (fun (r : Int32) (u : V) => Post r u) (fun (u : V) t => WPos dC dI ct (LW a ct u) A t) A)) (va_A (LW a ct v) sz)) 0 0 (va_A (LW a ct v) sz) := by
  refine open_W (fun A => (va_Qi (fun (r : Int32) (u : V) => Post r u) (fun (u : V) t => WPos dC dI ct (LW a ct u) A t) A)) (by decide) (Nat.le_of_ble_eq_true rfl) ?_
  intro p e s m args below meth c ls A X hD0 hP hS hl
  have X0 := X
  obtain ⟨⟨hx, hb, hml, hr, hlk, hown, hts⟩, hA, hK, hN⟩ := X0
  have hD : ∀ (v' : V), va_D A (LW a ct v') := fun v' => va_D_addr hD0 rfl
  have hl : lv_has ls 4 [(0, .ref (a 0)), (1, .int i1)] := hl
  unfold wp_X1_lotsOf at w
  have hS0 := hS
  refine lv_iconst (v := 0) hx hb dX1_lotsOf_0 (by decide) ?_
  refine lv_istore_n (lv' := [(2, .int (0 : Int32)), (0, .ref (a 0)), (1, .int i1)]) hx hb dX1_lotsOf_1 rfl hl (by decide) rfl (fun ls hl => ?_)
  refine lv_iconst (v := 0) hx hb dX1_lotsOf_2 (by decide) ?_
  refine lv_istore_n (lv' := [(3, .int (0 : Int32)), (2, .int (0 : Int32)), (0, .ref (a 0)), (1, .int i1)]) hx hb dX1_lotsOf_3 rfl hl (by decide) rfl (fun ls hl => ?_)
  obtain ⟨n, w⟩ := w
  exact wk_X1_lotsOf_L4 X hD  n _ _ _ _ w _ _ _ hP hS (lv_sub hl [2, 3, 1, 0] rfl)
abbrev rm_X1_owesInAll : Room := { frames := 0, cells := 0, slots := 0, locals := 0 }
theorem hd_X1_owesInAll : yX1_owesInAll.cls = RX1 ∧ yX1_owesInAll.cls ≠ "java/lang/invoke/MethodHandle" ∧ yX1_owesInAll.cls ≠ "java/lang/invoke/VarHandle" ∧ (parseMethodDescriptor yX1_owesInAll.desc).map (fun d => d.parameters.length) = some 1 := by decide +kernel
set_option maxHeartbeats 4000000 in
set_option maxRecDepth 100000 in
theorem wk_X1_owesInAll_S16 {p : Program} {l : Launch} {e : Env} {s : State} {m : MethodId} {args : Array Value} {below : List Frame} {meth : Method} {c : Code} {dC : Nat → ClassId} {dI : Nat → Nat → Nat} {ct : Nat → ClassId} {A : Nat → Prop} {a : Nat → Nat} {Post : Int32 → V → Prop} {K16 : Int32 → Nat → Int32 → V → Prop}  (X : CxW p s m args meth c cX1_owesInAll 7 (some .int) RX1 dC dI ct A) (hD : ∀ (v : V), va_D A (LW a ct v)) (hK16 : ∀ (i2 : Int32) (k3 : Nat) (i5 : Int32) (v : V), K16 i2 k3 i5 v → ∀ (H : Heap) (locs : List Loc) (ls : Array Slot), va_P (dC, dI) vwCl (LW a ct v) H → va_S A s.heap H locs → lv_has ls 7 [(2, .int i2), (3, .ref (a (4 + k3))), (4, .int (6 : Int32)), (5, .int i5)] → W p l e rm_X1_owesInAll s m args below meth c H locs 0 0 (MQ below (va_Qi (fun (r : Int32) (u : V) => Post r u) (fun (u : V) t => WPos dC dI ct (LW a ct u) A t) A) args s 0 0 A) (F0 m 16 ls [])) (i2 : Int32) (k3 : Nat) (i5 : Int32) (v : V) (w : wp_X1_owesInAll_S16  Post K16 i2 k3 i5 v) : ∀ (H : Heap) (locs : List Loc) (ls : Array Slot), va_P (dC, dI) vwCl (LW a ct v) H → va_S A s.heap H locs → lv_has ls 7 [(2, .int i2), (3, .ref (a (4 + k3))), (4, .int (6 : Int32)), (5, .int i5)] → W p l e rm_X1_owesInAll s m args below meth c H locs 0 0 (MQ below (va_Qi (fun (r : Int32) (u : V) => Post r u) (fun (u : V) t => WPos dC dI ct (LW a ct u) A t) A) args s 0 0 A) (F0 m 16 ls []) := by
  intro H locs ls hP hS hl
  have X0 := X
  obtain ⟨⟨hx, hb, hml, hr, hlk, hown, hts⟩, hA, hK, hN⟩ := X0
  unfold wp_X1_owesInAll_S16 at w
  refine lv_iload hx hb dX1_owesInAll_16 (lv_at hl 3 rfl) ?_
  refine lv_iload hx hb dX1_owesInAll_18 (lv_at hl 2 rfl) ?_
  refine lv_icmp_ge (tgt := 40) hx hb dX1_owesInAll_20 (by decide) (fun c => ?_) (fun c => ?_)
  · have w := And.left w c
    refine lv_iload_n hx hb dX1_owesInAll_40 rfl (lv_at hl 0 rfl) ?_
    exact W.iret (v := i2) hx hb hr (fun t ht hW => ⟨⟨i2, v, rfl, w, by rw [ht]; exact hP, va_K.moved hW.alike hK, (hD _)⟩, hS.F ht⟩) hS.2.2 dX1_owesInAll_41 hlk
  · have w := And.right w c
    refine lv_aload_n hx hb dX1_owesInAll_23 rfl (lv_at hl 1 rfl) ?_
    refine lv_iload hx hb dX1_owesInAll_24 (lv_at hl 3 rfl) ?_
    obtain ⟨gr, w⟩ := w
    obtain ⟨gi, w⟩ := w
    refine va_iald hx hb hK hP (4 + k3) 0 (LW_row gr) rfl gi dX1_owesInAll_26 ?_
    refine lv_istore (lv' := [(6, .int (v (2 + k3) i5.toNatClampNeg)), (2, .int i2), (3, .ref (a (4 + k3))), (4, .int (6 : Int32)), (5, .int i5)]) hx hb dX1_owesInAll_27 hl (by decide) rfl (fun ls hl => ?_)
    refine lv_iload_n hx hb dX1_owesInAll_29 rfl (lv_at hl 1 rfl) ?_
    refine lv_iload hx hb dX1_owesInAll_30 (lv_at hl 0 rfl) ?_
    refine lv_iadd hx hb dX1_owesInAll_32 ?_
    refine lv_istore_n (lv' := [(2, .int (i2 + (v (2 + k3) i5.toNatClampNeg))), (6, .int (v (2 + k3) i5.toNatClampNeg)), (3, .ref (a (4 + k3))), (4, .int (6 : Int32)), (5, .int i5)]) hx hb dX1_owesInAll_33 rfl hl (by decide) rfl (fun ls hl => ?_)
    refine lv_iinc (v := (i5 + 1)) (lv' := [(5, .int (i5 + 1)), (2, .int (i2 + (v (2 + k3) i5.toNatClampNeg))), (6, .int (v (2 + k3) i5.toNatClampNeg)), (3, .ref (a (4 + k3))), (4, .int (6 : Int32))]) hx hb dX1_owesInAll_34 hl (k := 4) rfl rfl (by decide) rfl (fun ls hl => ?_)
    refine lv_goto (tgt := 16) hx hb dX1_owesInAll_37 (by decide) ?_
    exact hK16 _ _ _ _ w _ _ _ hP hS (lv_sub hl [1, 3, 4, 0] rfl)
set_option maxHeartbeats 4000000 in
set_option maxRecDepth 100000 in
theorem wk_X1_owesInAll_L16 {p : Program} {l : Launch} {e : Env} {s : State} {m : MethodId} {args : Array Value} {below : List Frame} {meth : Method} {c : Code} {dC : Nat → ClassId} {dI : Nat → Nat → Nat} {ct : Nat → ClassId} {A : Nat → Prop} {a : Nat → Nat} {Post : Int32 → V → Prop}   (X : CxW p s m args meth c cX1_owesInAll 7 (some .int) RX1 dC dI ct A) (hD : ∀ (v : V), va_D A (LW a ct v))  : ∀ (n : Nat) (i2 : Int32) (k3 : Nat) (i5 : Int32) (v : V), wp_X1_owesInAll_L16  Post  n i2 k3 i5 v → ∀ (H : Heap) (locs : List Loc) (ls : Array Slot), va_P (dC, dI) vwCl (LW a ct v) H → va_S A s.heap H locs → lv_has ls 7 [(2, .int i2), (3, .ref (a (4 + k3))), (4, .int (6 : Int32)), (5, .int i5)] → W p l e rm_X1_owesInAll s m args below meth c H locs 0 0 (MQ below (va_Qi (fun (r : Int32) (u : V) => Post r u) (fun (u : V) t => WPos dC dI ct (LW a ct u) A t) A) args s 0 0 A) (F0 m 16 ls []) := by
  intro n
  induction n with
  | zero => intro i2 k3 i5 v w; exact False.elim w
  | succ n ih => intro i2 k3 i5 v w H locs ls hP hS hl; exact wk_X1_owesInAll_S16 X hD  ih i2 k3 i5 v w H locs ls hP hS hl
set_option maxHeartbeats 4000000 in
set_option maxRecDepth 100000 in
theorem met_X1_owesInAll (l : Launch) (dC : Nat → ClassId) (dI : Nat → Nat → Nat) (ct : Nat → ClassId) (a : Nat → Nat) (sz : Nat) {i1 : Int32} {v : V} {Post : Int32 → V → Prop} (w : wp_X1_owesInAll i1 v Post) : Met l yX1_owesInAll (ws_ yX1_owesInAll cX1_owesInAll 7 (some .int)) rm_X1_owesInAll (va_Pc [.ref (a 0), .int i1] (fun U => WPre dC dI ct (LW a ct v) sz U)) ((fun A => (va_Qi (fun (r : Int32) (u : V) => Post r u) (fun (u : V) t => WPos dC dI ct (LW a ct u) A t) A)) (va_A (LW a ct v) sz)) 0 0 (va_A (LW a ct v) sz) := by
  refine open_W (fun A => (va_Qi (fun (r : Int32) (u : V) => Post r u) (fun (u : V) t => WPos dC dI ct (LW a ct u) A t) A)) (by decide) (Nat.le_of_ble_eq_true rfl) ?_
  intro p e s m args below meth c ls A X hD0 hP hS hl
  have X0 := X
  obtain ⟨⟨hx, hb, hml, hr, hlk, hown, hts⟩, hA, hK, hN⟩ := X0
  have hD : ∀ (v' : V), va_D A (LW a ct v') := fun v' => va_D_addr hD0 rfl
  have hl : lv_has ls 7 [(0, .ref (a 0)), (1, .int i1)] := hl
  unfold wp_X1_owesInAll at w
  have hS0 := hS
  refine lv_iconst (v := 0) hx hb dX1_owesInAll_0 (by decide) ?_
  refine lv_istore_n (lv' := [(2, .int (0 : Int32)), (0, .ref (a 0)), (1, .int i1)]) hx hb dX1_owesInAll_1 rfl hl (by decide) rfl (fun ls hl => ?_)
  refine lv_aload_n hx hb dX1_owesInAll_2 rfl (lv_at hl 1 rfl) ?_
  refine va_get (D := (dC, dI)) (ci := 1) (v := .ref (a 3)) (C := RX1) (T := TX1) (N := 13) hx hb hts in_X1 hown hK hP 0 rfl rfl 2 (by decide) (hts _ q78) (fun _ h9 => h9) rfl dX1_owesInAll_3 ?_
  refine lv_iload_n hx hb dX1_owesInAll_6 rfl (lv_at hl 2 rfl) ?_
  obtain ⟨gi, w⟩ := w
  refine x_aald hx hb hK hP 3 5 rfl rfl rfl gi rfl dX1_owesInAll_7 ?_
  have gk1 := x_vlt gi
  refine lv_astore_n (lv' := [(3, .ref (a (4 + i1.toNatClampNeg))), (2, .int (0 : Int32)), (0, .ref (a 0)), (1, .int i1)]) hx hb dX1_owesInAll_8 rfl hl (by decide) rfl (fun ls hl => ?_)
  refine lv_aload_n hx hb dX1_owesInAll_9 rfl (lv_at hl 0 rfl) ?_
  have gr := gk1
  refine va_alen (v := 6) hx hb hK hP (4 + i1.toNatClampNeg) 0 (LW_row gr) rfl rfl dX1_owesInAll_10 ?_
  refine lv_istore (lv' := [(4, .int (6 : Int32)), (3, .ref (a (4 + i1.toNatClampNeg))), (2, .int (0 : Int32)), (0, .ref (a 0)), (1, .int i1)]) hx hb dX1_owesInAll_11 hl (by decide) rfl (fun ls hl => ?_)
  refine lv_iconst (v := 0) hx hb dX1_owesInAll_13 (by decide) ?_
  refine lv_istore (lv' := [(5, .int (0 : Int32)), (4, .int (6 : Int32)), (3, .ref (a (4 + i1.toNatClampNeg))), (2, .int (0 : Int32)), (0, .ref (a 0)), (1, .int i1)]) hx hb dX1_owesInAll_14 hl (by decide) rfl (fun ls hl => ?_)
  obtain ⟨n, w⟩ := w
  exact wk_X1_owesInAll_L16 X hD  n _ _ _ _ w _ _ _ hP hS (lv_sub hl [3, 2, 1, 0] rfl)
