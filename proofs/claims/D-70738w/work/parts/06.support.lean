/-! SUPPORT: states, worlds, contexts. V: regions of ints; VL: regions of longs -/
set_option maxRecDepth 100000
abbrev vwCl : List vw_C := [(RX0, TX0, 14), (RX1, TX1, 13), (RX2, TX2, 34)]
abbrev V : Type := Nat → Nat → Int32
abbrev VL : Type := Nat → Nat → Int64
def up2 (v : V) (j i : Nat) (x : Int32) : V := fun a => if a = j then upd (v j) i x else v a
def upL2 (v : VL) (j i : Nat) (x : Int64) : VL := fun a => if a = j then vp_updL (v j) i x else v a
def upRg (v : V) (j : Nat) (f : Nat → Int32) : V := fun a => if a = j then f else v a
def upRgL (v : VL) (j : Nat) (f : Nat → Int64) : VL := fun a => if a = j then f else v a
theorem up2_eq {v : V} {j i : Nat} {x : Int32} : up2 v j i x = upRg v j (upd (v j) i x) := rfl
abbrev TY (ct : Nat → ClassId) : List (ClassId × FieldType) := [(ct 0, .int), (ct 1, .long), (ct 2, .char), (ct 3, .boolean), (ct 4, .object "AbbeyNotes$Land"), (ct 5, .array .int)]
/-- a Land: its object, paper 0, coin 1, owes (rows 2..7), price 8, whose 9, told 10, seenSet 11, seenMany 12, seenHow 13; 14: burnt, months, sights, isKept -/
abbrev LW (a : Nat → Nat) (ct : Nat → ClassId) (v : V) : va_W := [(a 0, .inr (1, [.ref (a 1), .ref (a 2), .ref (a 3), .ref (a 10), .ref (a 11), .ref (a 12), .int (v 14 0), .int (v 14 1), .int (v 14 2), .ref (a 13), .ref (a 14), .ref (a 15), .int (v 14 3)])), (a 1, .inl (ct 0, 6, .inl (v 0))), (a 2, .inl (ct 0, 6, .inl (v 1))), (a 3, .inl (ct 5, 6, .inr (.inr (.inr (.inr (fun k => some (a (4 + k)))))))), (a 4, .inl (ct 0, 6, .inl (v 2))), (a 5, .inl (ct 0, 6, .inl (v 3))), (a 6, .inl (ct 0, 6, .inl (v 4))), (a 7, .inl (ct 0, 6, .inl (v 5))), (a 8, .inl (ct 0, 6, .inl (v 6))), (a 9, .inl (ct 0, 6, .inl (v 7))), (a 10, .inl (ct 0, 8, .inl (v 8))), (a 11, .inl (ct 0, 8, .inl (v 9))), (a 12, .inl (ct 0, 2, .inl (v 10))), (a 13, .inl (ct 0, 8, .inl (v 11))), (a 14, .inl (ct 0, 8, .inl (v 12))), (a 15, .inl (ct 0, 8, .inl (v 13)))]
def imf (a2 a3 : Nat → Nat) : Nat → Option Nat := fun k => if k = 0 then some (a2 0) else some (a3 0)
/-- AbbeyNotes without its lands: sign 0, rates 1, net 2, parts 3, lies 4; 5: signs, reason, acts, ended; longs: worth 0, later 1 -/
abbrev OW (aX a0 a1 a2 a3 : Nat → Nat) (ct : Nat → ClassId) (x : V) (y : VL) : va_W := [(aX 0, .inr (0, [.ref (a0 0), .ref (a1 0), .ref (aX 1), .int (x 5 0), .ref (aX 2), .int (x 5 1), .int (x 5 2), .int (x 5 3), .ref (aX 3), .ref (aX 4), .ref (aX 5), .ref (aX 7), .ref (aX 8), .ref (aX 6)])), (aX 1, .inl (ct 4, 2, .inr (.inr (.inr (.inr (imf a2 a3)))))), (aX 2, .inl (ct 2, 60, .inl (x 0))), (aX 3, .inl (ct 0, 60, .inl (x 1))), (aX 4, .inl (ct 0, 6, .inl (x 2))), (aX 5, .inl (ct 0, 64, .inl (x 3))), (aX 6, .inl (ct 0, 8, .inl (x 4))), (aX 7, .inl (ct 1, 69, .inr (.inl (y 0)))), (aX 8, .inl (ct 1, 69, .inr (.inl (y 1))))]
abbrev XW (aX a0 a1 a2 a3 : Nat → Nat) (ct : Nat → ClassId) (x : V) (y : VL) (v0 v1 v2 v3 : V) : va_W := OW aX a0 a1 a2 a3 ct x y ++ (LW a0 ct v0 ++ (LW a1 ct v1 ++ (LW a2 ct v2 ++ LW a3 ct v3)))
/-- the model: paper 0, coin 1, owes 2, price 3, owner 4, sightSet 5, sightMany 6, sightHow 7, pad 8, act 9, who 10, much 11, had 12, endRate 13, net 14, evenSets 15, row 16, kept 17, isKept 18; 19: chest, forged, burnt, months, sights, padMany, acts, badAct, badWhy, endedMany, keptAt, isWriting; longs: brings 0, bringsThen 1, choose 2 -/
abbrev MW (a : Nat → Nat) (ct : Nat → ClassId) (z : V) (g : VL) : va_W := [(a 0, .inr (2, [.ref (a 1), .ref (a 2), .ref (a 3), .ref (a 4), .ref (a 5), .int (z 19 0), .int (z 19 1), .int (z 19 2), .int (z 19 3), .ref (a 6), .ref (a 7), .ref (a 8), .int (z 19 4), .ref (a 9), .int (z 19 5), .ref (a 10), .ref (a 11), .ref (a 12), .int (z 19 6), .ref (a 13), .int (z 19 7), .int (z 19 8), .int (z 19 9), .ref (a 14), .ref (a 15), .ref (a 16), .ref (a 17), .ref (a 20), .ref (a 21), .ref (a 22), .ref (a 18), .ref (a 19), .int (z 19 10), .int (z 19 11)])), (a 1, .inl (ct 0, 6, .inl (z 0))), (a 2, .inl (ct 0, 6, .inl (z 1))), (a 3, .inl (ct 0, 36, .inl (z 2))), (a 4, .inl (ct 0, 8, .inl (z 3))), (a 5, .inl (ct 0, 8, .inl (z 4))), (a 6, .inl (ct 0, 8, .inl (z 5))), (a 7, .inl (ct 0, 8, .inl (z 6))), (a 8, .inl (ct 0, 8, .inl (z 7))), (a 9, .inl (ct 0, 60, .inl (z 8))), (a 10, .inl (ct 0, 60, .inl (z 9))), (a 11, .inl (ct 0, 60, .inl (z 10))), (a 12, .inl (ct 0, 60, .inl (z 11))), (a 13, .inl (ct 0, 60, .inl (z 12))), (a 14, .inl (ct 0, 60, .inl (z 13))), (a 15, .inl (ct 0, 6, .inl (z 14))), (a 16, .inl (ct 0, 64, .inl (z 15))), (a 17, .inl (ct 0, 9, .inl (z 16))), (a 18, .inl (ct 0, 200, .inl (z 17))), (a 19, .inl (ct 3, 2, .inl (z 18))), (a 20, .inl (ct 1, 70, .inr (.inl (g 0)))), (a 21, .inl (ct 1, 70, .inr (.inl (g 1)))), (a 22, .inl (ct 1, 31, .inr (.inl (g 2))))]
def mlen : Nat → Nat := fun r => match r with | 0 => 6 | 1 => 6 | 2 => 36 | _ => 8
/-- the nest mates' links, carried by every contract -/
def NestW (U : State) : Prop := va_Nw (.fieldLinkNest "AbbeyNotes" 63 "AbbeyNotes$Land" "paper" "[I" "AbbeyNotes") U ∧ va_Nw (.fieldLinkNest "AbbeyNotes" 66 "AbbeyNotes$Land" "coin" "[I" "AbbeyNotes") U ∧ va_Nw (.fieldLinkNest "AbbeyNotes" 73 "AbbeyNotes$Land" "owes" "[[I" "AbbeyNotes") U ∧ va_Nw (.fieldLinkNest "AbbeyNotes" 80 "AbbeyNotes$Land" "price" "[I" "AbbeyNotes") U ∧ va_Nw (.fieldLinkNest "AbbeyNotes" 83 "AbbeyNotes$Land" "whose" "[I" "AbbeyNotes") U ∧ va_Nw (.fieldLinkNest "AbbeyNotes" 87 "AbbeyNotes$Land" "told" "[I" "AbbeyNotes") U ∧ va_Nw (.fieldLinkNest "AbbeyNotes" 165 "AbbeyNotes$Land" "burnt" "I" "AbbeyNotes") U ∧ va_Nw (.fieldLinkNest "AbbeyNotes" 168 "AbbeyNotes$Land" "months" "I" "AbbeyNotes") U ∧ va_Nw (.fieldLinkNest "AbbeyNotes" 226 "AbbeyNotes$Land" "sights" "I" "AbbeyNotes") U ∧ va_Nw (.fieldLinkNest "AbbeyNotes" 229 "AbbeyNotes$Land" "seenSet" "[I" "AbbeyNotes") U ∧ va_Nw (.fieldLinkNest "AbbeyNotes" 232 "AbbeyNotes$Land" "seenMany" "[I" "AbbeyNotes") U ∧ va_Nw (.fieldLinkNest "AbbeyNotes" 235 "AbbeyNotes$Land" "seenHow" "[I" "AbbeyNotes") U ∧ va_Nw (.fieldLinkNest "AbbeyNotes" 256 "AbbeyNotes$Land" "isKept" "Z" "AbbeyNotes") U ∧ va_Nw (.methodLinkNest "AbbeyNotes$Land" 70 ⟨"AbbeyNotes", "rateOf", "(IJ)I"⟩ "AbbeyNotes") U ∧ va_Nw (.methodLinkNest "AbbeyNotes$Land" 74 ⟨"AbbeyNotes", "asNumber", "(Z)I"⟩ "AbbeyNotes") U
theorem NestW.warm {s U : State} (hW : s.WarmedH U.vm) (h : NestW s) : NestW U := by
  obtain ⟨h0, h1, h2, h3, h4, h5, h6, h7, h8, h9, h10, h11, h12, h13, h14⟩ := h
  exact ⟨va_Nw.warmF hW h0, va_Nw.warmF hW h1, va_Nw.warmF hW h2, va_Nw.warmF hW h3, va_Nw.warmF hW h4, va_Nw.warmF hW h5, va_Nw.warmF hW h6, va_Nw.warmF hW h7, va_Nw.warmF hW h8, va_Nw.warmF hW h9, va_Nw.warmF hW h10, va_Nw.warmF hW h11, va_Nw.warmF hW h12, va_Nw.warmM hW h13, va_Nw.warmM hW h14⟩
theorem NestW.same {u U : State} (h : u.vm = U.vm) (hN : NestW u) : NestW U := by
  obtain ⟨h0, h1, h2, h3, h4, h5, h6, h7, h8, h9, h10, h11, h12, h13, h14⟩ := hN
  exact ⟨va_Nw.same rfl h h0, va_Nw.same rfl h h1, va_Nw.same rfl h h2, va_Nw.same rfl h h3, va_Nw.same rfl h h4, va_Nw.same rfl h h5, va_Nw.same rfl h h6, va_Nw.same rfl h h7, va_Nw.same rfl h h8, va_Nw.same rfl h h9, va_Nw.same rfl h h10, va_Nw.same rfl h h11, va_Nw.same rfl h h12, va_Nw.same rfl h h13, va_Nw.same rfl h h14⟩
theorem NestW.of {s : State} {A : Array Value} (h : ∀ w ∈ lw_tbl, w.before A s = true) : NestW s :=
  ⟨va_Nw.of rfl (h _ q75), va_Nw.of rfl (h _ q77), va_Nw.of rfl (h _ q79), va_Nw.of rfl (h _ q81), va_Nw.of rfl (h _ q83), va_Nw.of rfl (h _ q85), va_Nw.of rfl (h _ q87), va_Nw.of rfl (h _ q89), va_Nw.of rfl (h _ q91), va_Nw.of rfl (h _ q93), va_Nw.of rfl (h _ q95), va_Nw.of rfl (h _ q97), va_Nw.of rfl (h _ q98), va_Nw.of rfl (h _ q265), va_Nw.of rfl (h _ q308)⟩
abbrev WPre (dC : Nat → ClassId) (dI : Nat → Nat → Nat) (ct : Nat → ClassId) (ws : va_W) (sz : Nat) (U : State) : Prop := U.heap.size = sz ∧ va_P (dC, dI) vwCl ws U.heap ∧ va_K (dC, dI) vwCl (TY ct) U ∧ va_D (fun _ => True) ws ∧ NestW U
abbrev WPos (dC : Nat → ClassId) (dI : Nat → Nat → Nat) (ct : Nat → ClassId) (ws : va_W) (A : Nat → Prop) (t : State) : Prop := va_P (dC, dI) vwCl ws t.heap ∧ va_K (dC, dI) vwCl (TY ct) t ∧ va_D A ws
/-- the facts of a frame, without a world -/
abbrev CxP (p : Program) (s : State) (m : MethodId) (args : Array Value) (meth : Method) (c : Code) (cc : ByteArray) (nL : Nat) (ret : Option FieldType) (own : String) : Prop :=
  p.tables.exec = Jvm.exec ∧ c.code = cc ∧ c.maxLocals = nL ∧ meth.sig.returnType = ret ∧ meth.locks = false ∧ s.vm.findClass own = some m.cls ∧ ∀ w ∈ lw_all, w.before args s = true
/-- the facts of a frame over a world -/
abbrev CxW (p : Program) (s : State) (m : MethodId) (args : Array Value) (meth : Method) (c : Code) (cc : ByteArray) (nL : Nat) (ret : Option FieldType) (own : String) (dC : Nat → ClassId) (dI : Nat → Nat → Nat) (ct : Nat → ClassId) (A : Nat → Prop) : Prop :=
  CxP p s m args meth c cc nL ret own ∧ (∀ q : Nat, s.heap.size ≤ q → A q) ∧ va_K (dC, dI) vwCl (TY ct) s ∧ NestW s
theorem open_P {l : Launch} {y : MethodName} {cc : ByteArray} {nL : Nat} {ret : Option FieldType} {rm : Room} {av : List Value} {Qc : Array Value → State → Outcome → State → Prop} (hy : plainName y.cls = true) (hlen : (lg_sl av).length ≤ nL)
    (body : ∀ (p : Program) (e : Env) (s : State) (m : MethodId) (args : Array Value) (below : List Frame) (meth : Method) (c : Code) (ls : Array Slot), CxP p s m args meth c cc nL ret y.cls → lv_has ls nL (lv_args 0 av) → W p l e rm s m args below meth c s.heap [] 0 0 (MQ below Qc args s 0 0 (fun _ => False)) (F0 m 0 ls [])) :
    Met l y (ws_ y cc nL ret) rm (va_Pc av (fun _ => True)) Qc 0 0 (fun _ => False) := by
  refine Met.ofW (cc := cc) (maxL := nL) (ret := ret) hy rfl ?_
  intro p e s m args below meth c s₁ B hml hv
  obtain ⟨rfl, -⟩ := hv
  have hts := atoms_spec (ws := ws_ y cc nL ret) B.pre
  have hts : ∀ w ∈ lw_all, w.before _ s = true := fun w h => hts w (List.mem_cons_of_mem _ h)
  have hl := lv_entry av (n := nL) hlen
  rw [lg_entry_eq]
  exact body p e s m _ below meth c _ ⟨B.exec, B.bytes, hml, B.returns, B.notSynchronized, findClass_of_methodNamed B.named, hts⟩ hl
theorem open_W {l : Launch} {y : MethodName} {cc : ByteArray} {nL : Nat} {ret : Option FieldType} {rm : Room} {av : List Value} {dC : Nat → ClassId} {dI : Nat → Nat → Nat} {ct : Nat → ClassId} {ws : va_W} {sz : Nat} (Qf : (Nat → Prop) → Array Value → State → Outcome → State → Prop) (hy : plainName y.cls = true) (hlen : (lg_sl av).length ≤ nL)
    (body : ∀ (p : Program) (e : Env) (s : State) (m : MethodId) (args : Array Value) (below : List Frame) (meth : Method) (c : Code) (ls : Array Slot) (A : Nat → Prop), CxW p s m args meth c cc nL ret y.cls dC dI ct A → va_D A ws → va_P (dC, dI) vwCl ws s.heap → va_S A s.heap s.heap [] → lv_has ls nL (lv_args 0 av) → W p l e rm s m args below meth c s.heap [] 0 0 (MQ below (Qf A) args s 0 0 A) (F0 m 0 ls [])) :
    Met l y (ws_ y cc nL ret) rm (va_Pc av (fun U => WPre dC dI ct ws sz U)) (Qf (va_A ws sz)) 0 0 (va_A ws sz) := by
  refine Met.ofW (cc := cc) (maxL := nL) (ret := ret) hy rfl ?_
  intro p e s m args below meth c s₁ B hml hv
  obtain ⟨rfl, hsz, hP, hK, hD0, hN⟩ := hv
  have hts := atoms_spec (ws := ws_ y cc nL ret) B.pre
  have hts : ∀ w ∈ lw_all, w.before _ s = true := fun w h => hts w (List.mem_cons_of_mem _ h)
  subst hsz
  have hD := hD0.self (sz := s.heap.size)
  generalize hAe : va_A ws s.heap.size = A at hD ⊢
  have hA : ∀ q : Nat, s.heap.size ≤ q → A q := fun q h => by rw [← hAe]; exact Or.inr h
  have hl := lv_entry av (n := nL) hlen
  rw [lg_entry_eq]
  exact body p e s m _ below meth c _ A ⟨⟨B.exec, B.bytes, hml, B.returns, B.notSynchronized, findClass_of_methodNamed B.named, hts⟩, hA, hK, hN⟩ hD hP va_S.rf hl
theorem blind_P {av : List Value} : FrameBlind (va_Pc av (fun _ => True)) := fun _ _ _ _ q => q
theorem blind_W {av : List Value} {dC : Nat → ClassId} {dI : Nat → Nat → Nat} {ct : Nat → ClassId} {ws : va_W} {sz : Nat} : FrameBlind (va_Pc av (fun U => WPre dC dI ct ws sz U)) := by
  intro a U g mk q
  obtain ⟨q0, q1, qP, qK, qD, qN⟩ := q
  exact ⟨q0, q1, qP, va_K.moved (u := U) (U := U.calling g mk a) (Vm.Alike.refl U.vm) qK, qD, NestW.same (u := U) (U := U.calling g mk a) rfl qN⟩
theorem pre_S {s : State} {H : Heap} {av : List Value} : PreS s H (va_Pc av (fun _ => True)) av := ⟨blind_P, fun _ _ _ => ⟨rfl, trivial⟩⟩
theorem pre_W {s : State} {H : Heap} {av : List Value} {dC : Nat → ClassId} {dI : Nat → Nat → Nat} {ct : Nat → ClassId} {ws : va_W} {A : Nat → Prop} (hK : va_K (dC, dI) vwCl (TY ct) s) (hP : va_P (dC, dI) vwCl ws H) (hD : va_D A ws) (hN : NestW s) : ∀ U : State, U.heap = H → s.WarmedH U.vm → va_Pc av (fun U => WPre dC dI ct ws H.size U) av.toArray U :=
  fun U hU hW => ⟨rfl, by rw [hU], by rw [hU]; exact hP, va_K.moved hW.alike hK, hD.weaken (fun _ _ _ _ => trivial), NestW.warm hW hN⟩
theorem pre_V {s : State} {H : Heap} {C : String} {b : Addr} {As : List Value} {dC : Nat → ClassId} {dI : Nat → Nat → Nat} {ct : Nat → ClassId} {ws : va_W} {A : Nat → Prop} (hK : va_K (dC, dI) vwCl (TY ct) s) (hP : va_P (dC, dI) vwCl ws H) (hD : va_D A ws) (hN : NestW s) (hr : ∃ cell : Cell, H[b]? = some cell ∧ cell.vm.isStatics = false ∧ s.vm.findClass C = some cell.cls) : PreV s H C b (va_Pc (.ref b :: As) (fun U => WPre dC dI ct ws H.size U)) As :=
  ⟨blind_W, hr, pre_W hK hP hD hN⟩
theorem pre_WS {s : State} {H : Heap} {av : List Value} {dC : Nat → ClassId} {dI : Nat → Nat → Nat} {ct : Nat → ClassId} {ws : va_W} {A : Nat → Prop} (hK : va_K (dC, dI) vwCl (TY ct) s) (hP : va_P (dC, dI) vwCl ws H) (hD : va_D A ws) (hN : NestW s) : PreS s H (va_Pc av (fun U => WPre dC dI ct ws H.size U)) av :=
  ⟨blind_W, pre_W hK hP hD hN⟩
theorem x_free {A : Nat → Prop} {ws : va_W} {H0 H : Heap} {locs : List Loc} (hD : va_D A ws) (hS : va_S A H0 H locs) (hA : ∀ q, H0.size ≤ q → A q) : ∀ q, va_A ws H.size q → A q := by
  rintro q (⟨k, e, h⟩ | h)
  · exact hD.2 k _ h
  · exact hA q (Nat.le_trans hS.1 h)
/-- apartness asks of the addresses alone -/
theorem va_D_addr {A : Nat → Prop} {ws ws' : va_W} (h : va_D A ws) (e : ws.map Prod.fst = ws'.map Prod.fst) : va_D A ws' := by
  have hg : ∀ (k : Nat) (q : Nat × va_E), ws'[k]? = some q → ∃ q0, ws[k]? = some q0 ∧ q0.1 = q.1 := by
    intro k q hk
    have h1 : (ws'.map Prod.fst)[k]? = some q.1 := by rw [List.getElem?_map, hk]; rfl
    rw [← e, List.getElem?_map] at h1
    cases hw : ws[k]? with
    | none => rw [hw] at h1; cases h1
    | some q0 => rw [hw] at h1; exact ⟨q0, rfl, Option.some.inj h1⟩
  refine ⟨fun i j p q hi hj hpq => ?_, fun k q hk => ?_⟩
  · obtain ⟨p0, hp0, e1⟩ := hg i p hi
    obtain ⟨q0, hq0, e2⟩ := hg j q hj
    exact h.1 i j p0 q0 hp0 hq0 (by rw [e1, e2, hpq])
  · obtain ⟨q0, hq0, e1⟩ := hg k q hk
    rw [← e1]
    exact h.2 k q0 hq0
theorem va_P_mem {D : va_G} {cl : List vw_C} {ws : va_W} {H : Heap} : va_P D cl ws H ↔ ∀ q ∈ ws, va_at D cl q H := by
  constructor
  · intro h q hq
    obtain ⟨k, hk⟩ := List.getElem?_of_mem hq
    exact h k q hk
  · intro h k q hk
    exact h q (List.mem_of_getElem? hk)
theorem va_D_ne {A : Nat → Prop} {pre post : va_W} (h : va_D A (pre ++ post)) : ∀ p ∈ pre, ∀ q ∈ post, p.1 ≠ q.1 := by
  intro p hp q hq e
  obtain ⟨i, hi⟩ := List.getElem?_of_mem hp
  obtain ⟨j, hj⟩ := List.getElem?_of_mem hq
  have hil : i < pre.length := (List.getElem?_eq_some_iff.mp hi).1
  have h1 : (pre ++ post)[i]? = some p := by rw [List.getElem?_append_left hil]; exact hi
  have h2 : (pre ++ post)[pre.length + j]? = some q := by rw [List.getElem?_append_right (Nat.le_add_right _ _), Nat.add_sub_cancel_left]; exact hj
  have := h.1 i _ p q h1 h2 e
  omega
theorem va_D_left {A : Nat → Prop} {pre post : va_W} (h : va_D A (pre ++ post)) : va_D A pre := by
  have hg : ∀ (k : Nat) (q : Nat × va_E), pre[k]? = some q → (pre ++ post)[k]? = some q := by
    intro k q hk
    rw [List.getElem?_append_left (List.getElem?_eq_some_iff.mp hk).1]
    exact hk
  exact ⟨fun i j p q hi hj => h.1 i j p q (hg i p hi) (hg j q hj), fun k q hk => h.2 k q (hg k q hk)⟩
theorem va_D_right {A : Nat → Prop} {pre post : va_W} (h : va_D A (pre ++ post)) : va_D A post := by
  have hg : ∀ (k : Nat) (q : Nat × va_E), post[k]? = some q → (pre ++ post)[pre.length + k]? = some q := by
    intro k q hk
    rw [List.getElem?_append_right (Nat.le_add_right _ _), Nat.add_sub_cancel_left]
    exact hk
  refine ⟨fun i j p q hi hj e => ?_, fun k q hk => h.2 _ q (hg k q hk)⟩
  have := h.1 _ _ p q (hg i p hi) (hg j q hj) e
  omega
theorem va_P_app {D : va_G} {cl : List vw_C} {pre post : va_W} {H : Heap} : va_P D cl (pre ++ post) H ↔ va_P D cl pre H ∧ va_P D cl post H := by
  rw [va_P_mem, va_P_mem, va_P_mem]
  constructor
  · intro h
    exact ⟨fun q hq => h q (List.mem_append_left _ hq), fun q hq => h q (List.mem_append_right _ hq)⟩
  · rintro ⟨h1, h2⟩ q hq
    rcases List.mem_append.mp hq with h | h
    · exact h1 q h
    · exact h2 q h
/-- cells that a call couldn't reach are as they were -/
theorem x_keep {D : va_G} {cl : List vw_C} {ws mid : va_W} {H H1 : Heap} (hP : va_P D cl ws H) (hne : ∀ p ∈ ws, ∀ q ∈ mid, p.1 ≠ q.1) (hk : ∀ q : Nat, q < H.size → ¬ va_A mid H.size q → H1[q]? = H[q]?) : va_P D cl ws H1 := by
  rw [va_P_mem] at hP ⊢
  intro q hq
  have h := hP q hq
  refine h.kept (hk q.1 h.lt ?_)
  rintro (⟨k, e, h1⟩ | h1)
  · exact hne q hq _ (List.mem_of_getElem? h1) rfl
  · exact absurd h.lt (Nat.not_lt.mpr h1)
theorem va_D_sym {A : Nat → Prop} {a b : va_W} (h : va_D A (a ++ b)) : ∀ p ∈ b, ∀ q ∈ a, p.1 ≠ q.1 := fun p hp q hq e => va_D_ne h q hq p hp e.symm
/-- a call on the first piece, the last, the middle one -/
theorem x_jl {D : va_G} {cl : List vw_C} {A : Nat → Prop} {mid mid' post : va_W} {H H1 : Heap} (hP : va_P D cl (mid ++ post) H) (hD : va_D A (mid ++ post)) (hk : ∀ q : Nat, q < H.size → ¬ va_A mid H.size q → H1[q]? = H[q]?) (h1 : va_P D cl mid' H1) : va_P D cl (mid' ++ post) H1 :=
  va_P_app.mpr ⟨h1, x_keep (va_P_app.mp hP).2 (va_D_sym hD) hk⟩
theorem x_jr {D : va_G} {cl : List vw_C} {A : Nat → Prop} {pre mid mid' : va_W} {H H1 : Heap} (hP : va_P D cl (pre ++ mid) H) (hD : va_D A (pre ++ mid)) (hk : ∀ q : Nat, q < H.size → ¬ va_A mid H.size q → H1[q]? = H[q]?) (h1 : va_P D cl mid' H1) : va_P D cl (pre ++ mid') H1 :=
  va_P_app.mpr ⟨x_keep (va_P_app.mp hP).1 (va_D_ne hD) hk, h1⟩
theorem va_A_app {ws ws' : va_W} {sz q : Nat} (h : va_A ws sz q) : va_A (ws ++ ws') sz q := by
  rcases h with ⟨k, e, h1⟩ | h1
  · exact Or.inl ⟨k, e, by rw [List.getElem?_append_left (List.getElem?_eq_some_iff.mp h1).1]; exact h1⟩
  · exact Or.inr h1
theorem x_jm {D : va_G} {cl : List vw_C} {A : Nat → Prop} {pre mid mid' post : va_W} {H H1 : Heap} (hP : va_P D cl (pre ++ (mid ++ post)) H) (hD : va_D A (pre ++ (mid ++ post))) (hk : ∀ q : Nat, q < H.size → ¬ va_A mid H.size q → H1[q]? = H[q]?) (h1 : va_P D cl mid' H1) : va_P D cl (pre ++ (mid' ++ post)) H1 :=
  va_P_app.mpr ⟨x_keep (va_P_app.mp hP).1 (fun p hp q hq => va_D_ne hD p hp q (List.mem_append_left _ hq)) hk, x_jl (va_P_app.mp hP).2 (va_D_right hD) hk h1⟩
theorem post_P {dC : Nat → ClassId} {dI : Nat → Nat → Nat} {ct : Nat → ClassId} {ws : va_W} {A : Nat → Prop} {t : State} {H1 : Heap} (hB : WPos dC dI ct ws A t) (ht : t.heap = H1) : va_P (dC, dI) vwCl ws H1 := by
  rw [← ht]; exact hB.1
theorem x_vin {i : Int32} {n : Nat} (h : ¬ (i < 0 ∨ n ≤ i.toNatClampNeg)) : vp_in i n := h
theorem x_vlt {i : Int32} {n : Nat} (h : vp_in i n) : i.toNatClampNeg < n := Nat.not_le.mp fun q => h (Or.inr q)
theorem x_aald {p : Program} {l : Launch} {e : Env} {R : Room} {s : State} {m : MethodId} {args : Array Value} {below : List Frame} {meth : Method} {c : Code} {H : Heap} {locs : List Loc} {cells slots : Nat} {Q : State → Prop} {cc : ByteArray} {pc : Nat} {ls : Array Slot} {rest : List Value} {D : va_G} {cl : List vw_C} {a : Nat} {tys : List (ClassId × FieldType)} {ws : va_W}
    (hexec : p.tables.exec = Jvm.exec) (hb : c.code = cc) (hK : va_K D cl tys s) (hP : va_P D cl ws H) (q0 t0 : Nat) {cA : ClassId} {ty : FieldType} {n : Nat} {f : Nat → Option Nat} (ha : ws[q0]? = some (a, .inl (cA, n, .inr (.inr (.inr (.inr f)))))) (ht : tys[t0]? = some (cA, ty)) (hty : ty.isReference = true) {i : Int32} (hin : vp_in i n) {v : Value} (hv : va_rf (f i.toNatClampNeg) = v) (hdg : decode cc pc = .ok (.aaload, 1))
    (kk : W p l e R s m args below meth c H locs cells slots Q (F0 m (pc + 1) ls (v :: rest))) : W p l e R s m args below meth c H locs cells slots Q (F0 m pc ls (.int i :: .ref a :: rest)) := by
  have hlt : i.toNatClampNeg < n := Nat.not_le.mp fun q => hin (Or.inr q)
  subst hv
  exact W.aald (v := va_rf (f i.toNatClampNeg)) (ty := ty) hexec hb (hP q0 _ ha) ((hK.2 t0 _ ht).1 n (fun j => va_rf (f j))) hty (fun q => by cases q) (by show ¬ (i < 0 ∨ (arrV _ _ _).slots.size ≤ _); rw [arrV_size]; exact hin) (by show (arrV _ _ _).slots[_]? = _; rw [arrV_read _ _ hlt]) rfl rfl hdg kk
theorem LW_row {a : Nat → Nat} {ct : Nat → ClassId} {v : V} {k : Nat} (h : k < 6) : (LW a ct v)[4 + k]? = some (a (4 + k), .inl (ct 0, 6, .inl (v (2 + k)))) := by
  rcases (show k = 0 ∨ k = 1 ∨ k = 2 ∨ k = 3 ∨ k = 4 ∨ k = 5 by omega) with rfl | rfl | rfl | rfl | rfl | rfl <;> rfl
theorem LW_rowset {a : Nat → Nat} {ct : Nat → ClassId} {v : V} {k : Nat} (h : k < 6) (f : Nat → Int32) : (LW a ct v).set (4 + k) (a (4 + k), .inl (ct 0, 6, .inl f)) = LW a ct (upRg v (2 + k) f) := by
  rcases (show k = 0 ∨ k = 1 ∨ k = 2 ∨ k = 3 ∨ k = 4 ∨ k = 5 by omega) with rfl | rfl | rfl | rfl | rfl | rfl <;> rfl
theorem LC_row {a b : Nat → Nat} {ct : Nat → ClassId} {v w : V} {k : Nat} (h : k < 6) : (LW a ct v ++ LW b ct w)[4 + k]? = some (a (4 + k), .inl (ct 0, 6, .inl (v (2 + k)))) := by
  rcases (show k = 0 ∨ k = 1 ∨ k = 2 ∨ k = 3 ∨ k = 4 ∨ k = 5 by omega) with rfl | rfl | rfl | rfl | rfl | rfl <;> rfl
theorem LC_rowb {a b : Nat → Nat} {ct : Nat → ClassId} {v w : V} {k : Nat} (h : k < 6) : (LW a ct v ++ LW b ct w)[20 + k]? = some (b (4 + k), .inl (ct 0, 6, .inl (w (2 + k)))) := by
  rcases (show k = 0 ∨ k = 1 ∨ k = 2 ∨ k = 3 ∨ k = 4 ∨ k = 5 by omega) with rfl | rfl | rfl | rfl | rfl | rfl <;> rfl
theorem LC_rowset {a b : Nat → Nat} {ct : Nat → ClassId} {v w : V} {k : Nat} (h : k < 6) (f : Nat → Int32) : (LW a ct v ++ LW b ct w).set (4 + k) (a (4 + k), .inl (ct 0, 6, .inl f)) = LW a ct (upRg v (2 + k) f) ++ LW b ct w := by
  rcases (show k = 0 ∨ k = 1 ∨ k = 2 ∨ k = 3 ∨ k = 4 ∨ k = 5 by omega) with rfl | rfl | rfl | rfl | rfl | rfl <;> rfl
section XWS
variable {aX a0 a1 a2 a3 : Nat → Nat} {ct : Nat → ClassId} {x : V} {y : VL} {v0 v1 v2 v3 : V}
theorem XW_row0 {k : Nat} (h : k < 6) : (XW aX a0 a1 a2 a3 ct x y v0 v1 v2 v3)[13 + k]? = some (a0 (4 + k), .inl (ct 0, 6, .inl (v0 (2 + k)))) := by
  rcases (show k = 0 ∨ k = 1 ∨ k = 2 ∨ k = 3 ∨ k = 4 ∨ k = 5 by omega) with rfl | rfl | rfl | rfl | rfl | rfl <;> rfl
theorem XW_rowset0 {k : Nat} (h : k < 6) (f : Nat → Int32) : (XW aX a0 a1 a2 a3 ct x y v0 v1 v2 v3).set (13 + k) (a0 (4 + k), .inl (ct 0, 6, .inl f)) = XW aX a0 a1 a2 a3 ct x y (upRg v0 (2 + k) f) v1 v2 v3 := by
  rcases (show k = 0 ∨ k = 1 ∨ k = 2 ∨ k = 3 ∨ k = 4 ∨ k = 5 by omega) with rfl | rfl | rfl | rfl | rfl | rfl <;> rfl
variable {D : va_G} {cl : List vw_C} {H H1 : Heap} {A : Nat → Prop} {v' : V}
theorem XW_g0 (h : va_P D cl (XW aX a0 a1 a2 a3 ct x y v0 v1 v2 v3) H) : va_P D cl (LW a0 ct v0) H := (va_P_app.mp (va_P_app.mp h).2).1
theorem XW_g1 (h : va_P D cl (XW aX a0 a1 a2 a3 ct x y v0 v1 v2 v3) H) : va_P D cl (LW a1 ct v1) H := (va_P_app.mp (va_P_app.mp (va_P_app.mp h).2).2).1
theorem XW_g2 (h : va_P D cl (XW aX a0 a1 a2 a3 ct x y v0 v1 v2 v3) H) : va_P D cl (LW a2 ct v2) H := (va_P_app.mp (va_P_app.mp (va_P_app.mp (va_P_app.mp h).2).2).2).1
theorem XW_g3 (h : va_P D cl (XW aX a0 a1 a2 a3 ct x y v0 v1 v2 v3) H) : va_P D cl (LW a3 ct v3) H := (va_P_app.mp (va_P_app.mp (va_P_app.mp (va_P_app.mp h).2).2).2).2
theorem XW_d0 (h : va_D A (XW aX a0 a1 a2 a3 ct x y v0 v1 v2 v3)) : va_D A (LW a0 ct v0) := va_D_left (va_D_right h)
theorem XW_d1 (h : va_D A (XW aX a0 a1 a2 a3 ct x y v0 v1 v2 v3)) : va_D A (LW a1 ct v1) := va_D_left (va_D_right (va_D_right h))
theorem XW_d2 (h : va_D A (XW aX a0 a1 a2 a3 ct x y v0 v1 v2 v3)) : va_D A (LW a2 ct v2) := va_D_left (va_D_right (va_D_right (va_D_right h)))
theorem XW_d3 (h : va_D A (XW aX a0 a1 a2 a3 ct x y v0 v1 v2 v3)) : va_D A (LW a3 ct v3) := va_D_right (va_D_right (va_D_right (va_D_right h)))
theorem x_jm2 {pre mid mid' post rest : va_W} (hP : va_P D cl (rest ++ (pre ++ (mid ++ post))) H) (hD : va_D A (rest ++ (pre ++ (mid ++ post)))) (hk : ∀ q : Nat, q < H.size → ¬ va_A mid H.size q → H1[q]? = H[q]?) (h1 : va_P D cl mid' H1) : va_P D cl (rest ++ (pre ++ (mid' ++ post))) H1 :=
  va_P_app.mpr ⟨x_keep (va_P_app.mp hP).1 (fun p hp q hq => va_D_ne hD p hp q (List.mem_append_right _ (List.mem_append_left _ hq))) hk, x_jm (va_P_app.mp hP).2 (va_D_right hD) hk h1⟩
theorem XW_j0 (hP : va_P D cl (XW aX a0 a1 a2 a3 ct x y v0 v1 v2 v3) H) (hD : va_D A (XW aX a0 a1 a2 a3 ct x y v0 v1 v2 v3)) (hk : ∀ q : Nat, q < H.size → ¬ va_A (LW a0 ct v0) H.size q → H1[q]? = H[q]?) (h1 : va_P D cl (LW a0 ct v') H1) : va_P D cl (XW aX a0 a1 a2 a3 ct x y v' v1 v2 v3) H1 := x_jm hP hD hk h1
theorem XW_j1 (hP : va_P D cl (XW aX a0 a1 a2 a3 ct x y v0 v1 v2 v3) H) (hD : va_D A (XW aX a0 a1 a2 a3 ct x y v0 v1 v2 v3)) (hk : ∀ q : Nat, q < H.size → ¬ va_A (LW a1 ct v1) H.size q → H1[q]? = H[q]?) (h1 : va_P D cl (LW a1 ct v') H1) : va_P D cl (XW aX a0 a1 a2 a3 ct x y v0 v' v2 v3) H1 := x_jm2 hP hD hk h1
end XWS
/-- one cell of a world, for a call that reaches it alone -/
theorem x_one {D : va_G} {cl : List vw_C} {ws : va_W} {H : Heap} (hP : va_P D cl ws H) (p : Nat) {e : Nat × va_E} (h : ws[p]? = some e) : va_P D cl [e] H := by
  rw [va_P_mem]
  intro q hq
  rw [List.mem_singleton.mp hq]
  exact hP p e h
theorem x_oneD {A : Nat → Prop} {ws : va_W} (hD : va_D A ws) (p : Nat) {e : Nat × va_E} (h : ws[p]? = some e) : va_D A [e] := by
  refine ⟨fun i j a b hi hj _ => ?_, fun k q hk => ?_⟩
  · have h1 := (List.getElem?_eq_some_iff.mp hi).1
    have h2 := (List.getElem?_eq_some_iff.mp hj).1
    simp only [List.length_singleton] at h1 h2
    omega
  · have h1 := List.mem_singleton.mp (List.mem_of_getElem? hk)
    rw [h1]
    exact hD.2 p e h
theorem x_oneJ {D : va_G} {cl : List vw_C} {A : Nat → Prop} {ws : va_W} {H H1 : Heap} {p a : Nat} {e0 e1 : va_E} (hP : va_P D cl ws H) (hD : va_D A ws) (hp : ws[p]? = some (a, e0)) (hk : ∀ q : Nat, q < H.size → ¬ va_A [(a, e0)] H.size q → H1[q]? = H[q]?) (h1 : va_P D cl [(a, e1)] H1) : va_P D cl (ws.set p (a, e1)) H1 := by
  intro k q hq
  by_cases hkp : k = p
  · subst hkp
    have hlt : k < ws.length := (List.getElem?_eq_some_iff.mp hp).1
    rw [List.getElem?_set_self hlt] at hq
    cases hq
    exact h1 0 _ rfl
  · rw [List.getElem?_set_ne (fun h => hkp h.symm)] at hq
    have h := hP k q hq
    refine h.kept (hk q.1 h.lt ?_)
    rintro (⟨j, e, hj⟩ | hj)
    · have h2 := List.mem_singleton.mp (List.mem_of_getElem? hj)
      exact hkp (hD.1 k p q (a, e0) hq hp (by have := congrArg Prod.fst h2; exact this))
    · exact absurd h.lt (Nat.not_lt.mpr hj)
theorem MW_row {a : Nat → Nat} {ct : Nat → ClassId} {z : V} {g : VL} {r : Nat} (h : r < 8) : (MW a ct z g)[r + 1]? = some (a (r + 1), .inl (ct 0, mlen r, .inl (z r))) := by
  rcases (show r = 0 ∨ r = 1 ∨ r = 2 ∨ r = 3 ∨ r = 4 ∨ r = 5 ∨ r = 6 ∨ r = 7 by omega) with rfl | rfl | rfl | rfl | rfl | rfl | rfl | rfl <;> rfl
theorem MW_rowset {a : Nat → Nat} {ct : Nat → ClassId} {z : V} {g : VL} {r : Nat} (h : r < 8) (f : Nat → Int32) : (MW a ct z g).set (r + 1) (a (r + 1), .inl (ct 0, mlen r, .inl f)) = MW a ct (upRg z r f) g := by
  rcases (show r = 0 ∨ r = 1 ∨ r = 2 ∨ r = 3 ∨ r = 4 ∨ r = 5 ∨ r = 6 ∨ r = 7 by omega) with rfl | rfl | rfl | rfl | rfl | rfl | rfl | rfl <;> rfl
section XWC
variable {aX a0 a1 a2 a3 : Nat → Nat} {ct : Nat → ClassId} {x : V} {y : VL} {v0 v1 v2 v3 : V} {D : va_G} {cl : List vw_C} {H H1 : Heap} {A : Nat → Prop} {v' : V}
theorem XW_ne01 (h : va_D A (XW aX a0 a1 a2 a3 ct x y v0 v1 v2 v3)) : ∀ p ∈ OW aX a0 a1 a2 a3 ct x y, ∀ q ∈ LW a0 ct v0, p.1 ≠ q.1 := fun p hp q hq => va_D_ne h p hp q (List.mem_append_left _ hq)
theorem XW_ne10 (h : va_D A (XW aX a0 a1 a2 a3 ct x y v0 v1 v2 v3)) : ∀ p ∈ LW a0 ct v0, ∀ q ∈ OW aX a0 a1 a2 a3 ct x y, p.1 ≠ q.1 := fun p hp q hq e => XW_ne01 h q hq p hp e.symm
theorem XW_ne02 (h : va_D A (XW aX a0 a1 a2 a3 ct x y v0 v1 v2 v3)) : ∀ p ∈ OW aX a0 a1 a2 a3 ct x y, ∀ q ∈ LW a1 ct v1, p.1 ≠ q.1 := fun p hp q hq => va_D_ne h p hp q (List.mem_append_right _ (List.mem_append_left _ hq))
theorem XW_ne20 (h : va_D A (XW aX a0 a1 a2 a3 ct x y v0 v1 v2 v3)) : ∀ p ∈ LW a1 ct v1, ∀ q ∈ OW aX a0 a1 a2 a3 ct x y, p.1 ≠ q.1 := fun p hp q hq e => XW_ne02 h q hq p hp e.symm
theorem XW_ne03 (h : va_D A (XW aX a0 a1 a2 a3 ct x y v0 v1 v2 v3)) : ∀ p ∈ OW aX a0 a1 a2 a3 ct x y, ∀ q ∈ LW a2 ct v2, p.1 ≠ q.1 := fun p hp q hq => va_D_ne h p hp q (List.mem_append_right _ (List.mem_append_right _ (List.mem_append_left _ hq)))
theorem XW_ne30 (h : va_D A (XW aX a0 a1 a2 a3 ct x y v0 v1 v2 v3)) : ∀ p ∈ LW a2 ct v2, ∀ q ∈ OW aX a0 a1 a2 a3 ct x y, p.1 ≠ q.1 := fun p hp q hq e => XW_ne03 h q hq p hp e.symm
theorem XW_ne04 (h : va_D A (XW aX a0 a1 a2 a3 ct x y v0 v1 v2 v3)) : ∀ p ∈ OW aX a0 a1 a2 a3 ct x y, ∀ q ∈ LW a3 ct v3, p.1 ≠ q.1 := fun p hp q hq => va_D_ne h p hp q (List.mem_append_right _ (List.mem_append_right _ (List.mem_append_right _ hq)))
theorem XW_ne40 (h : va_D A (XW aX a0 a1 a2 a3 ct x y v0 v1 v2 v3)) : ∀ p ∈ LW a3 ct v3, ∀ q ∈ OW aX a0 a1 a2 a3 ct x y, p.1 ≠ q.1 := fun p hp q hq e => XW_ne04 h q hq p hp e.symm
theorem XW_ne12 (h : va_D A (XW aX a0 a1 a2 a3 ct x y v0 v1 v2 v3)) : ∀ p ∈ LW a0 ct v0, ∀ q ∈ LW a1 ct v1, p.1 ≠ q.1 := fun p hp q hq => va_D_ne (va_D_right h) p hp q (List.mem_append_left _ hq)
theorem XW_ne21 (h : va_D A (XW aX a0 a1 a2 a3 ct x y v0 v1 v2 v3)) : ∀ p ∈ LW a1 ct v1, ∀ q ∈ LW a0 ct v0, p.1 ≠ q.1 := fun p hp q hq e => XW_ne12 h q hq p hp e.symm
theorem XW_ne13 (h : va_D A (XW aX a0 a1 a2 a3 ct x y v0 v1 v2 v3)) : ∀ p ∈ LW a0 ct v0, ∀ q ∈ LW a2 ct v2, p.1 ≠ q.1 := fun p hp q hq => va_D_ne (va_D_right h) p hp q (List.mem_append_right _ (List.mem_append_left _ hq))
theorem XW_ne31 (h : va_D A (XW aX a0 a1 a2 a3 ct x y v0 v1 v2 v3)) : ∀ p ∈ LW a2 ct v2, ∀ q ∈ LW a0 ct v0, p.1 ≠ q.1 := fun p hp q hq e => XW_ne13 h q hq p hp e.symm
theorem XW_ne14 (h : va_D A (XW aX a0 a1 a2 a3 ct x y v0 v1 v2 v3)) : ∀ p ∈ LW a0 ct v0, ∀ q ∈ LW a3 ct v3, p.1 ≠ q.1 := fun p hp q hq => va_D_ne (va_D_right h) p hp q (List.mem_append_right _ (List.mem_append_right _ hq))
theorem XW_ne41 (h : va_D A (XW aX a0 a1 a2 a3 ct x y v0 v1 v2 v3)) : ∀ p ∈ LW a3 ct v3, ∀ q ∈ LW a0 ct v0, p.1 ≠ q.1 := fun p hp q hq e => XW_ne14 h q hq p hp e.symm
theorem XW_ne23 (h : va_D A (XW aX a0 a1 a2 a3 ct x y v0 v1 v2 v3)) : ∀ p ∈ LW a1 ct v1, ∀ q ∈ LW a2 ct v2, p.1 ≠ q.1 := fun p hp q hq => va_D_ne (va_D_right (va_D_right h)) p hp q (List.mem_append_left _ hq)
theorem XW_ne32 (h : va_D A (XW aX a0 a1 a2 a3 ct x y v0 v1 v2 v3)) : ∀ p ∈ LW a2 ct v2, ∀ q ∈ LW a1 ct v1, p.1 ≠ q.1 := fun p hp q hq e => XW_ne23 h q hq p hp e.symm
theorem XW_ne24 (h : va_D A (XW aX a0 a1 a2 a3 ct x y v0 v1 v2 v3)) : ∀ p ∈ LW a1 ct v1, ∀ q ∈ LW a3 ct v3, p.1 ≠ q.1 := fun p hp q hq => va_D_ne (va_D_right (va_D_right h)) p hp q (List.mem_append_right _ hq)
theorem XW_ne42 (h : va_D A (XW aX a0 a1 a2 a3 ct x y v0 v1 v2 v3)) : ∀ p ∈ LW a3 ct v3, ∀ q ∈ LW a1 ct v1, p.1 ≠ q.1 := fun p hp q hq e => XW_ne24 h q hq p hp e.symm
theorem XW_ne34 (h : va_D A (XW aX a0 a1 a2 a3 ct x y v0 v1 v2 v3)) : ∀ p ∈ LW a2 ct v2, ∀ q ∈ LW a3 ct v3, p.1 ≠ q.1 := fun p hp q hq => va_D_ne (va_D_right (va_D_right (va_D_right h))) p hp q hq
theorem XW_ne43 (h : va_D A (XW aX a0 a1 a2 a3 ct x y v0 v1 v2 v3)) : ∀ p ∈ LW a3 ct v3, ∀ q ∈ LW a2 ct v2, p.1 ≠ q.1 := fun p hp q hq e => XW_ne34 h q hq p hp e.symm
theorem XW_gO (h : va_P D cl (XW aX a0 a1 a2 a3 ct x y v0 v1 v2 v3) H) : va_P D cl (OW aX a0 a1 a2 a3 ct x y) H := (va_P_app.mp h).1
theorem XW_gc10 (h : va_P D cl (XW aX a0 a1 a2 a3 ct x y v0 v1 v2 v3) H) : va_P D cl (LW a1 ct v1 ++ LW a0 ct v0) H := va_P_app.mpr ⟨XW_g1 h, XW_g0 h⟩
theorem XW_dc10 (h : va_D A (XW aX a0 a1 a2 a3 ct x y v0 v1 v2 v3)) : va_D A (LW a1 ct v1 ++ LW a0 ct v0) := (XW_d1 h).app (XW_d0 h) (fun i j p q hi hj => XW_ne21 h p (List.mem_of_getElem? hi) q (List.mem_of_getElem? hj))
theorem XW_jc10 (hP : va_P D cl (XW aX a0 a1 a2 a3 ct x y v0 v1 v2 v3) H) (hD : va_D A (XW aX a0 a1 a2 a3 ct x y v0 v1 v2 v3)) (hk : ∀ q : Nat, q < H.size → ¬ va_A (LW a1 ct v1 ++ LW a0 ct v0) H.size q → H1[q]? = H[q]?) (h1 : va_P D cl (LW a1 ct v' ++ LW a0 ct v0) H1) : va_P D cl (XW aX a0 a1 a2 a3 ct x y v0 v' v2 v3) H1 :=
  va_P_app.mpr ⟨x_keep (XW_gO hP) (fun p hp q hq => (List.mem_append.mp hq).elim (XW_ne02 hD p hp q) (XW_ne01 hD p hp q)) hk, va_P_app.mpr ⟨(va_P_app.mp h1).2, va_P_app.mpr ⟨(va_P_app.mp h1).1, va_P_app.mpr ⟨x_keep (XW_g2 hP) (fun p hp q hq => (List.mem_append.mp hq).elim (XW_ne32 hD p hp q) (XW_ne31 hD p hp q)) hk, x_keep (XW_g3 hP) (fun p hp q hq => (List.mem_append.mp hq).elim (XW_ne42 hD p hp q) (XW_ne41 hD p hp q)) hk⟩⟩⟩⟩
theorem XW_gc01 (h : va_P D cl (XW aX a0 a1 a2 a3 ct x y v0 v1 v2 v3) H) : va_P D cl (LW a0 ct v0 ++ LW a1 ct v1) H := va_P_app.mpr ⟨XW_g0 h, XW_g1 h⟩
theorem XW_dc01 (h : va_D A (XW aX a0 a1 a2 a3 ct x y v0 v1 v2 v3)) : va_D A (LW a0 ct v0 ++ LW a1 ct v1) := (XW_d0 h).app (XW_d1 h) (fun i j p q hi hj => XW_ne12 h p (List.mem_of_getElem? hi) q (List.mem_of_getElem? hj))
theorem XW_jc01 (hP : va_P D cl (XW aX a0 a1 a2 a3 ct x y v0 v1 v2 v3) H) (hD : va_D A (XW aX a0 a1 a2 a3 ct x y v0 v1 v2 v3)) (hk : ∀ q : Nat, q < H.size → ¬ va_A (LW a0 ct v0 ++ LW a1 ct v1) H.size q → H1[q]? = H[q]?) (h1 : va_P D cl (LW a0 ct v' ++ LW a1 ct v1) H1) : va_P D cl (XW aX a0 a1 a2 a3 ct x y v' v1 v2 v3) H1 :=
  va_P_app.mpr ⟨x_keep (XW_gO hP) (fun p hp q hq => (List.mem_append.mp hq).elim (XW_ne01 hD p hp q) (XW_ne02 hD p hp q)) hk, va_P_app.mpr ⟨(va_P_app.mp h1).1, va_P_app.mpr ⟨(va_P_app.mp h1).2, va_P_app.mpr ⟨x_keep (XW_g2 hP) (fun p hp q hq => (List.mem_append.mp hq).elim (XW_ne31 hD p hp q) (XW_ne32 hD p hp q)) hk, x_keep (XW_g3 hP) (fun p hp q hq => (List.mem_append.mp hq).elim (XW_ne41 hD p hp q) (XW_ne42 hD p hp q)) hk⟩⟩⟩⟩
theorem XW_gc20 (h : va_P D cl (XW aX a0 a1 a2 a3 ct x y v0 v1 v2 v3) H) : va_P D cl (LW a2 ct v2 ++ LW a0 ct v0) H := va_P_app.mpr ⟨XW_g2 h, XW_g0 h⟩
theorem XW_dc20 (h : va_D A (XW aX a0 a1 a2 a3 ct x y v0 v1 v2 v3)) : va_D A (LW a2 ct v2 ++ LW a0 ct v0) := (XW_d2 h).app (XW_d0 h) (fun i j p q hi hj => XW_ne31 h p (List.mem_of_getElem? hi) q (List.mem_of_getElem? hj))
theorem XW_jc20 (hP : va_P D cl (XW aX a0 a1 a2 a3 ct x y v0 v1 v2 v3) H) (hD : va_D A (XW aX a0 a1 a2 a3 ct x y v0 v1 v2 v3)) (hk : ∀ q : Nat, q < H.size → ¬ va_A (LW a2 ct v2 ++ LW a0 ct v0) H.size q → H1[q]? = H[q]?) (h1 : va_P D cl (LW a2 ct v' ++ LW a0 ct v0) H1) : va_P D cl (XW aX a0 a1 a2 a3 ct x y v0 v1 v' v3) H1 :=
  va_P_app.mpr ⟨x_keep (XW_gO hP) (fun p hp q hq => (List.mem_append.mp hq).elim (XW_ne03 hD p hp q) (XW_ne01 hD p hp q)) hk, va_P_app.mpr ⟨(va_P_app.mp h1).2, va_P_app.mpr ⟨x_keep (XW_g1 hP) (fun p hp q hq => (List.mem_append.mp hq).elim (XW_ne23 hD p hp q) (XW_ne21 hD p hp q)) hk, va_P_app.mpr ⟨(va_P_app.mp h1).1, x_keep (XW_g3 hP) (fun p hp q hq => (List.mem_append.mp hq).elim (XW_ne43 hD p hp q) (XW_ne41 hD p hp q)) hk⟩⟩⟩⟩
theorem XW_gc30 (h : va_P D cl (XW aX a0 a1 a2 a3 ct x y v0 v1 v2 v3) H) : va_P D cl (LW a3 ct v3 ++ LW a0 ct v0) H := va_P_app.mpr ⟨XW_g3 h, XW_g0 h⟩
theorem XW_dc30 (h : va_D A (XW aX a0 a1 a2 a3 ct x y v0 v1 v2 v3)) : va_D A (LW a3 ct v3 ++ LW a0 ct v0) := (XW_d3 h).app (XW_d0 h) (fun i j p q hi hj => XW_ne41 h p (List.mem_of_getElem? hi) q (List.mem_of_getElem? hj))
theorem XW_jc30 (hP : va_P D cl (XW aX a0 a1 a2 a3 ct x y v0 v1 v2 v3) H) (hD : va_D A (XW aX a0 a1 a2 a3 ct x y v0 v1 v2 v3)) (hk : ∀ q : Nat, q < H.size → ¬ va_A (LW a3 ct v3 ++ LW a0 ct v0) H.size q → H1[q]? = H[q]?) (h1 : va_P D cl (LW a3 ct v' ++ LW a0 ct v0) H1) : va_P D cl (XW aX a0 a1 a2 a3 ct x y v0 v1 v2 v') H1 :=
  va_P_app.mpr ⟨x_keep (XW_gO hP) (fun p hp q hq => (List.mem_append.mp hq).elim (XW_ne04 hD p hp q) (XW_ne01 hD p hp q)) hk, va_P_app.mpr ⟨(va_P_app.mp h1).2, va_P_app.mpr ⟨x_keep (XW_g1 hP) (fun p hp q hq => (List.mem_append.mp hq).elim (XW_ne24 hD p hp q) (XW_ne21 hD p hp q)) hk, va_P_app.mpr ⟨x_keep (XW_g2 hP) (fun p hp q hq => (List.mem_append.mp hq).elim (XW_ne34 hD p hp q) (XW_ne31 hD p hp q)) hk, (va_P_app.mp h1).1⟩⟩⟩⟩
theorem XW_gc02 (h : va_P D cl (XW aX a0 a1 a2 a3 ct x y v0 v1 v2 v3) H) : va_P D cl (LW a0 ct v0 ++ LW a2 ct v2) H := va_P_app.mpr ⟨XW_g0 h, XW_g2 h⟩
theorem XW_dc02 (h : va_D A (XW aX a0 a1 a2 a3 ct x y v0 v1 v2 v3)) : va_D A (LW a0 ct v0 ++ LW a2 ct v2) := (XW_d0 h).app (XW_d2 h) (fun i j p q hi hj => XW_ne13 h p (List.mem_of_getElem? hi) q (List.mem_of_getElem? hj))
theorem XW_jc02 (hP : va_P D cl (XW aX a0 a1 a2 a3 ct x y v0 v1 v2 v3) H) (hD : va_D A (XW aX a0 a1 a2 a3 ct x y v0 v1 v2 v3)) (hk : ∀ q : Nat, q < H.size → ¬ va_A (LW a0 ct v0 ++ LW a2 ct v2) H.size q → H1[q]? = H[q]?) (h1 : va_P D cl (LW a0 ct v' ++ LW a2 ct v2) H1) : va_P D cl (XW aX a0 a1 a2 a3 ct x y v' v1 v2 v3) H1 :=
  va_P_app.mpr ⟨x_keep (XW_gO hP) (fun p hp q hq => (List.mem_append.mp hq).elim (XW_ne01 hD p hp q) (XW_ne03 hD p hp q)) hk, va_P_app.mpr ⟨(va_P_app.mp h1).1, va_P_app.mpr ⟨x_keep (XW_g1 hP) (fun p hp q hq => (List.mem_append.mp hq).elim (XW_ne21 hD p hp q) (XW_ne23 hD p hp q)) hk, va_P_app.mpr ⟨(va_P_app.mp h1).2, x_keep (XW_g3 hP) (fun p hp q hq => (List.mem_append.mp hq).elim (XW_ne41 hD p hp q) (XW_ne43 hD p hp q)) hk⟩⟩⟩⟩
theorem XW_gc03 (h : va_P D cl (XW aX a0 a1 a2 a3 ct x y v0 v1 v2 v3) H) : va_P D cl (LW a0 ct v0 ++ LW a3 ct v3) H := va_P_app.mpr ⟨XW_g0 h, XW_g3 h⟩
theorem XW_dc03 (h : va_D A (XW aX a0 a1 a2 a3 ct x y v0 v1 v2 v3)) : va_D A (LW a0 ct v0 ++ LW a3 ct v3) := (XW_d0 h).app (XW_d3 h) (fun i j p q hi hj => XW_ne14 h p (List.mem_of_getElem? hi) q (List.mem_of_getElem? hj))
theorem XW_jc03 (hP : va_P D cl (XW aX a0 a1 a2 a3 ct x y v0 v1 v2 v3) H) (hD : va_D A (XW aX a0 a1 a2 a3 ct x y v0 v1 v2 v3)) (hk : ∀ q : Nat, q < H.size → ¬ va_A (LW a0 ct v0 ++ LW a3 ct v3) H.size q → H1[q]? = H[q]?) (h1 : va_P D cl (LW a0 ct v' ++ LW a3 ct v3) H1) : va_P D cl (XW aX a0 a1 a2 a3 ct x y v' v1 v2 v3) H1 :=
  va_P_app.mpr ⟨x_keep (XW_gO hP) (fun p hp q hq => (List.mem_append.mp hq).elim (XW_ne01 hD p hp q) (XW_ne04 hD p hp q)) hk, va_P_app.mpr ⟨(va_P_app.mp h1).1, va_P_app.mpr ⟨x_keep (XW_g1 hP) (fun p hp q hq => (List.mem_append.mp hq).elim (XW_ne21 hD p hp q) (XW_ne24 hD p hp q)) hk, va_P_app.mpr ⟨x_keep (XW_g2 hP) (fun p hp q hq => (List.mem_append.mp hq).elim (XW_ne31 hD p hp q) (XW_ne34 hD p hp q)) hk, (va_P_app.mp h1).2⟩⟩⟩⟩
end XWC
/-- the law: its script, the class, the model -/
abbrev LWd (aX a0 a1 a2 a3 aM : Nat → Nat) (ct : Nat → ClassId) (x : V) (y : VL) (v0 v1 v2 v3 : V) (z : V) (g : VL) : va_W := XW aX a0 a1 a2 a3 ct x y v0 v1 v2 v3 ++ MW aM ct z g
section LWS
variable {aX a0 a1 a2 a3 aM : Nat → Nat} {ct : Nat → ClassId} {x x' : V} {y y' : VL} {v0 v1 v2 v3 v0' v1' v2' v3' z z' : V} {g g' : VL} {D : va_G} {cl : List vw_C} {H H1 : Heap} {A : Nat → Prop}
theorem W_X_g (h : va_P D cl (LWd aX a0 a1 a2 a3 aM ct x y v0 v1 v2 v3 z g) H) : va_P D cl (XW aX a0 a1 a2 a3 ct x y v0 v1 v2 v3) H := (va_P_app.mp h).1
theorem W_M_g (h : va_P D cl (LWd aX a0 a1 a2 a3 aM ct x y v0 v1 v2 v3 z g) H) : va_P D cl (MW aM ct z g) H := (va_P_app.mp h).2
theorem W_X_d (h : va_D A (LWd aX a0 a1 a2 a3 aM ct x y v0 v1 v2 v3 z g)) : va_D A (XW aX a0 a1 a2 a3 ct x y v0 v1 v2 v3) := va_D_left h
theorem W_M_d (h : va_D A (LWd aX a0 a1 a2 a3 aM ct x y v0 v1 v2 v3 z g)) : va_D A (MW aM ct z g) := va_D_right h
theorem W_X_j (hP : va_P D cl (LWd aX a0 a1 a2 a3 aM ct x y v0 v1 v2 v3 z g) H) (hD : va_D A (LWd aX a0 a1 a2 a3 aM ct x y v0 v1 v2 v3 z g)) (hk : ∀ q : Nat, q < H.size → ¬ va_A (XW aX a0 a1 a2 a3 ct x y v0 v1 v2 v3) H.size q → H1[q]? = H[q]?) (h1 : va_P D cl (XW aX a0 a1 a2 a3 ct x' y' v0' v1' v2' v3') H1) : va_P D cl (LWd aX a0 a1 a2 a3 aM ct x' y' v0' v1' v2' v3' z g) H1 := x_jl hP hD hk h1
theorem W_M_j (hP : va_P D cl (LWd aX a0 a1 a2 a3 aM ct x y v0 v1 v2 v3 z g) H) (hD : va_D A (LWd aX a0 a1 a2 a3 aM ct x y v0 v1 v2 v3 z g)) (hk : ∀ q : Nat, q < H.size → ¬ va_A (MW aM ct z g) H.size q → H1[q]? = H[q]?) (h1 : va_P D cl (MW aM ct z' g') H1) : va_P D cl (LWd aX a0 a1 a2 a3 aM ct x y v0 v1 v2 v3 z' g') H1 := x_jr hP hD hk h1
end LWS
section S_LW
variable {a : Nat → Nat} {ct : Nat → ClassId} {v : V} {D : va_G} {cl : List vw_C} {H : Heap} {i : Nat}
theorem LW_u_v_0 {w_ : Int32} (h : va_P D cl ((LW a ct v).set 1 (a 1, .inl (ct 0, 6, .inl (upd (v 0) i w_)))) H) : va_P D cl (LW a ct (up2 v 0 i w_)) H := h
theorem LW_r_v_0 {f_ : Nat → Int32} (h : va_P D cl ((LW a ct v).set 1 (a 1, .inl (ct 0, 6, .inl f_))) H) : va_P D cl (LW a ct (upRg v 0 f_)) H := h
theorem LW_u_v_1 {w_ : Int32} (h : va_P D cl ((LW a ct v).set 2 (a 2, .inl (ct 0, 6, .inl (upd (v 1) i w_)))) H) : va_P D cl (LW a ct (up2 v 1 i w_)) H := h
theorem LW_r_v_1 {f_ : Nat → Int32} (h : va_P D cl ((LW a ct v).set 2 (a 2, .inl (ct 0, 6, .inl f_))) H) : va_P D cl (LW a ct (upRg v 1 f_)) H := h
theorem LW_u_v_8 {w_ : Int32} (h : va_P D cl ((LW a ct v).set 10 (a 10, .inl (ct 0, 8, .inl (upd (v 8) i w_)))) H) : va_P D cl (LW a ct (up2 v 8 i w_)) H := h
theorem LW_r_v_8 {f_ : Nat → Int32} (h : va_P D cl ((LW a ct v).set 10 (a 10, .inl (ct 0, 8, .inl f_))) H) : va_P D cl (LW a ct (upRg v 8 f_)) H := h
theorem LW_u_v_9 {w_ : Int32} (h : va_P D cl ((LW a ct v).set 11 (a 11, .inl (ct 0, 8, .inl (upd (v 9) i w_)))) H) : va_P D cl (LW a ct (up2 v 9 i w_)) H := h
theorem LW_r_v_9 {f_ : Nat → Int32} (h : va_P D cl ((LW a ct v).set 11 (a 11, .inl (ct 0, 8, .inl f_))) H) : va_P D cl (LW a ct (upRg v 9 f_)) H := h
theorem LW_u_v_10 {w_ : Int32} (h : va_P D cl ((LW a ct v).set 12 (a 12, .inl (ct 0, 2, .inl (upd (v 10) i w_)))) H) : va_P D cl (LW a ct (up2 v 10 i w_)) H := h
theorem LW_r_v_10 {f_ : Nat → Int32} (h : va_P D cl ((LW a ct v).set 12 (a 12, .inl (ct 0, 2, .inl f_))) H) : va_P D cl (LW a ct (upRg v 10 f_)) H := h
theorem LW_u_v_11 {w_ : Int32} (h : va_P D cl ((LW a ct v).set 13 (a 13, .inl (ct 0, 8, .inl (upd (v 11) i w_)))) H) : va_P D cl (LW a ct (up2 v 11 i w_)) H := h
theorem LW_r_v_11 {f_ : Nat → Int32} (h : va_P D cl ((LW a ct v).set 13 (a 13, .inl (ct 0, 8, .inl f_))) H) : va_P D cl (LW a ct (upRg v 11 f_)) H := h
theorem LW_u_v_12 {w_ : Int32} (h : va_P D cl ((LW a ct v).set 14 (a 14, .inl (ct 0, 8, .inl (upd (v 12) i w_)))) H) : va_P D cl (LW a ct (up2 v 12 i w_)) H := h
theorem LW_r_v_12 {f_ : Nat → Int32} (h : va_P D cl ((LW a ct v).set 14 (a 14, .inl (ct 0, 8, .inl f_))) H) : va_P D cl (LW a ct (upRg v 12 f_)) H := h
theorem LW_u_v_13 {w_ : Int32} (h : va_P D cl ((LW a ct v).set 15 (a 15, .inl (ct 0, 8, .inl (upd (v 13) i w_)))) H) : va_P D cl (LW a ct (up2 v 13 i w_)) H := h
theorem LW_r_v_13 {f_ : Nat → Int32} (h : va_P D cl ((LW a ct v).set 15 (a 15, .inl (ct 0, 8, .inl f_))) H) : va_P D cl (LW a ct (upRg v 13 f_)) H := h
theorem LW_s_v_0 {w_ : Int32} (h : va_P D cl ((LW a ct v).set 0 (a 0, .inr (1, [.ref (a 1), .ref (a 2), .ref (a 3), .ref (a 10), .ref (a 11), .ref (a 12), .int (v 14 0), .int (v 14 1), .int (v 14 2), .ref (a 13), .ref (a 14), .ref (a 15), .int (v 14 3)].set 6 (.int w_)))) H) : va_P D cl (LW a ct (up2 v 14 0 w_)) H := h
theorem LW_s_v_1 {w_ : Int32} (h : va_P D cl ((LW a ct v).set 0 (a 0, .inr (1, [.ref (a 1), .ref (a 2), .ref (a 3), .ref (a 10), .ref (a 11), .ref (a 12), .int (v 14 0), .int (v 14 1), .int (v 14 2), .ref (a 13), .ref (a 14), .ref (a 15), .int (v 14 3)].set 7 (.int w_)))) H) : va_P D cl (LW a ct (up2 v 14 1 w_)) H := h
theorem LW_s_v_2 {w_ : Int32} (h : va_P D cl ((LW a ct v).set 0 (a 0, .inr (1, [.ref (a 1), .ref (a 2), .ref (a 3), .ref (a 10), .ref (a 11), .ref (a 12), .int (v 14 0), .int (v 14 1), .int (v 14 2), .ref (a 13), .ref (a 14), .ref (a 15), .int (v 14 3)].set 8 (.int w_)))) H) : va_P D cl (LW a ct (up2 v 14 2 w_)) H := h
theorem LW_s_v_3 {w_ : Int32} (h : va_P D cl ((LW a ct v).set 0 (a 0, .inr (1, [.ref (a 1), .ref (a 2), .ref (a 3), .ref (a 10), .ref (a 11), .ref (a 12), .int (v 14 0), .int (v 14 1), .int (v 14 2), .ref (a 13), .ref (a 14), .ref (a 15), .int (v 14 3)].set 12 (.int w_)))) H) : va_P D cl (LW a ct (up2 v 14 3 w_)) H := h
end S_LW
section S_LC
variable {a b : Nat → Nat} {ct : Nat → ClassId} {v vb : V} {D : va_G} {cl : List vw_C} {H : Heap} {i : Nat}
theorem LC_u_v_0 {w_ : Int32} (h : va_P D cl ((LW a ct v ++ LW b ct vb).set 1 (a 1, .inl (ct 0, 6, .inl (upd (v 0) i w_)))) H) : va_P D cl (LW a ct (up2 v 0 i w_) ++ LW b ct vb) H := h
theorem LC_r_v_0 {f_ : Nat → Int32} (h : va_P D cl ((LW a ct v ++ LW b ct vb).set 1 (a 1, .inl (ct 0, 6, .inl f_))) H) : va_P D cl (LW a ct (upRg v 0 f_) ++ LW b ct vb) H := h
theorem LC_u_v_1 {w_ : Int32} (h : va_P D cl ((LW a ct v ++ LW b ct vb).set 2 (a 2, .inl (ct 0, 6, .inl (upd (v 1) i w_)))) H) : va_P D cl (LW a ct (up2 v 1 i w_) ++ LW b ct vb) H := h
theorem LC_r_v_1 {f_ : Nat → Int32} (h : va_P D cl ((LW a ct v ++ LW b ct vb).set 2 (a 2, .inl (ct 0, 6, .inl f_))) H) : va_P D cl (LW a ct (upRg v 1 f_) ++ LW b ct vb) H := h
theorem LC_u_v_8 {w_ : Int32} (h : va_P D cl ((LW a ct v ++ LW b ct vb).set 10 (a 10, .inl (ct 0, 8, .inl (upd (v 8) i w_)))) H) : va_P D cl (LW a ct (up2 v 8 i w_) ++ LW b ct vb) H := h
theorem LC_r_v_8 {f_ : Nat → Int32} (h : va_P D cl ((LW a ct v ++ LW b ct vb).set 10 (a 10, .inl (ct 0, 8, .inl f_))) H) : va_P D cl (LW a ct (upRg v 8 f_) ++ LW b ct vb) H := h
theorem LC_u_v_9 {w_ : Int32} (h : va_P D cl ((LW a ct v ++ LW b ct vb).set 11 (a 11, .inl (ct 0, 8, .inl (upd (v 9) i w_)))) H) : va_P D cl (LW a ct (up2 v 9 i w_) ++ LW b ct vb) H := h
theorem LC_r_v_9 {f_ : Nat → Int32} (h : va_P D cl ((LW a ct v ++ LW b ct vb).set 11 (a 11, .inl (ct 0, 8, .inl f_))) H) : va_P D cl (LW a ct (upRg v 9 f_) ++ LW b ct vb) H := h
theorem LC_u_v_10 {w_ : Int32} (h : va_P D cl ((LW a ct v ++ LW b ct vb).set 12 (a 12, .inl (ct 0, 2, .inl (upd (v 10) i w_)))) H) : va_P D cl (LW a ct (up2 v 10 i w_) ++ LW b ct vb) H := h
theorem LC_r_v_10 {f_ : Nat → Int32} (h : va_P D cl ((LW a ct v ++ LW b ct vb).set 12 (a 12, .inl (ct 0, 2, .inl f_))) H) : va_P D cl (LW a ct (upRg v 10 f_) ++ LW b ct vb) H := h
theorem LC_u_v_11 {w_ : Int32} (h : va_P D cl ((LW a ct v ++ LW b ct vb).set 13 (a 13, .inl (ct 0, 8, .inl (upd (v 11) i w_)))) H) : va_P D cl (LW a ct (up2 v 11 i w_) ++ LW b ct vb) H := h
theorem LC_r_v_11 {f_ : Nat → Int32} (h : va_P D cl ((LW a ct v ++ LW b ct vb).set 13 (a 13, .inl (ct 0, 8, .inl f_))) H) : va_P D cl (LW a ct (upRg v 11 f_) ++ LW b ct vb) H := h
theorem LC_u_v_12 {w_ : Int32} (h : va_P D cl ((LW a ct v ++ LW b ct vb).set 14 (a 14, .inl (ct 0, 8, .inl (upd (v 12) i w_)))) H) : va_P D cl (LW a ct (up2 v 12 i w_) ++ LW b ct vb) H := h
theorem LC_r_v_12 {f_ : Nat → Int32} (h : va_P D cl ((LW a ct v ++ LW b ct vb).set 14 (a 14, .inl (ct 0, 8, .inl f_))) H) : va_P D cl (LW a ct (upRg v 12 f_) ++ LW b ct vb) H := h
theorem LC_u_v_13 {w_ : Int32} (h : va_P D cl ((LW a ct v ++ LW b ct vb).set 15 (a 15, .inl (ct 0, 8, .inl (upd (v 13) i w_)))) H) : va_P D cl (LW a ct (up2 v 13 i w_) ++ LW b ct vb) H := h
theorem LC_r_v_13 {f_ : Nat → Int32} (h : va_P D cl ((LW a ct v ++ LW b ct vb).set 15 (a 15, .inl (ct 0, 8, .inl f_))) H) : va_P D cl (LW a ct (upRg v 13 f_) ++ LW b ct vb) H := h
theorem LC_s_v_0 {w_ : Int32} (h : va_P D cl ((LW a ct v ++ LW b ct vb).set 0 (a 0, .inr (1, [.ref (a 1), .ref (a 2), .ref (a 3), .ref (a 10), .ref (a 11), .ref (a 12), .int (v 14 0), .int (v 14 1), .int (v 14 2), .ref (a 13), .ref (a 14), .ref (a 15), .int (v 14 3)].set 6 (.int w_)))) H) : va_P D cl (LW a ct (up2 v 14 0 w_) ++ LW b ct vb) H := h
theorem LC_s_v_1 {w_ : Int32} (h : va_P D cl ((LW a ct v ++ LW b ct vb).set 0 (a 0, .inr (1, [.ref (a 1), .ref (a 2), .ref (a 3), .ref (a 10), .ref (a 11), .ref (a 12), .int (v 14 0), .int (v 14 1), .int (v 14 2), .ref (a 13), .ref (a 14), .ref (a 15), .int (v 14 3)].set 7 (.int w_)))) H) : va_P D cl (LW a ct (up2 v 14 1 w_) ++ LW b ct vb) H := h
theorem LC_s_v_2 {w_ : Int32} (h : va_P D cl ((LW a ct v ++ LW b ct vb).set 0 (a 0, .inr (1, [.ref (a 1), .ref (a 2), .ref (a 3), .ref (a 10), .ref (a 11), .ref (a 12), .int (v 14 0), .int (v 14 1), .int (v 14 2), .ref (a 13), .ref (a 14), .ref (a 15), .int (v 14 3)].set 8 (.int w_)))) H) : va_P D cl (LW a ct (up2 v 14 2 w_) ++ LW b ct vb) H := h
theorem LC_s_v_3 {w_ : Int32} (h : va_P D cl ((LW a ct v ++ LW b ct vb).set 0 (a 0, .inr (1, [.ref (a 1), .ref (a 2), .ref (a 3), .ref (a 10), .ref (a 11), .ref (a 12), .int (v 14 0), .int (v 14 1), .int (v 14 2), .ref (a 13), .ref (a 14), .ref (a 15), .int (v 14 3)].set 12 (.int w_)))) H) : va_P D cl (LW a ct (up2 v 14 3 w_) ++ LW b ct vb) H := h
end S_LC
section S_XW
variable {aX a0 a1 a2 a3 : Nat → Nat} {ct : Nat → ClassId} {x : V} {y : VL} {v0 v1 v2 v3 : V} {D : va_G} {cl : List vw_C} {H : Heap} {i : Nat}
theorem XW_u_x_0 {w_ : Int32} (h : va_P D cl ((XW aX a0 a1 a2 a3 ct x y v0 v1 v2 v3).set 2 (aX 2, .inl (ct 2, 60, .inl (upd (x 0) i w_)))) H) : va_P D cl (XW aX a0 a1 a2 a3 ct (up2 x 0 i w_) y v0 v1 v2 v3) H := h
theorem XW_r_x_0 {f_ : Nat → Int32} (h : va_P D cl ((XW aX a0 a1 a2 a3 ct x y v0 v1 v2 v3).set 2 (aX 2, .inl (ct 2, 60, .inl f_))) H) : va_P D cl (XW aX a0 a1 a2 a3 ct (upRg x 0 f_) y v0 v1 v2 v3) H := h
theorem XW_u_x_1 {w_ : Int32} (h : va_P D cl ((XW aX a0 a1 a2 a3 ct x y v0 v1 v2 v3).set 3 (aX 3, .inl (ct 0, 60, .inl (upd (x 1) i w_)))) H) : va_P D cl (XW aX a0 a1 a2 a3 ct (up2 x 1 i w_) y v0 v1 v2 v3) H := h
theorem XW_r_x_1 {f_ : Nat → Int32} (h : va_P D cl ((XW aX a0 a1 a2 a3 ct x y v0 v1 v2 v3).set 3 (aX 3, .inl (ct 0, 60, .inl f_))) H) : va_P D cl (XW aX a0 a1 a2 a3 ct (upRg x 1 f_) y v0 v1 v2 v3) H := h
theorem XW_u_x_2 {w_ : Int32} (h : va_P D cl ((XW aX a0 a1 a2 a3 ct x y v0 v1 v2 v3).set 4 (aX 4, .inl (ct 0, 6, .inl (upd (x 2) i w_)))) H) : va_P D cl (XW aX a0 a1 a2 a3 ct (up2 x 2 i w_) y v0 v1 v2 v3) H := h
theorem XW_r_x_2 {f_ : Nat → Int32} (h : va_P D cl ((XW aX a0 a1 a2 a3 ct x y v0 v1 v2 v3).set 4 (aX 4, .inl (ct 0, 6, .inl f_))) H) : va_P D cl (XW aX a0 a1 a2 a3 ct (upRg x 2 f_) y v0 v1 v2 v3) H := h
theorem XW_u_x_3 {w_ : Int32} (h : va_P D cl ((XW aX a0 a1 a2 a3 ct x y v0 v1 v2 v3).set 5 (aX 5, .inl (ct 0, 64, .inl (upd (x 3) i w_)))) H) : va_P D cl (XW aX a0 a1 a2 a3 ct (up2 x 3 i w_) y v0 v1 v2 v3) H := h
theorem XW_r_x_3 {f_ : Nat → Int32} (h : va_P D cl ((XW aX a0 a1 a2 a3 ct x y v0 v1 v2 v3).set 5 (aX 5, .inl (ct 0, 64, .inl f_))) H) : va_P D cl (XW aX a0 a1 a2 a3 ct (upRg x 3 f_) y v0 v1 v2 v3) H := h
theorem XW_u_x_4 {w_ : Int32} (h : va_P D cl ((XW aX a0 a1 a2 a3 ct x y v0 v1 v2 v3).set 6 (aX 6, .inl (ct 0, 8, .inl (upd (x 4) i w_)))) H) : va_P D cl (XW aX a0 a1 a2 a3 ct (up2 x 4 i w_) y v0 v1 v2 v3) H := h
theorem XW_r_x_4 {f_ : Nat → Int32} (h : va_P D cl ((XW aX a0 a1 a2 a3 ct x y v0 v1 v2 v3).set 6 (aX 6, .inl (ct 0, 8, .inl f_))) H) : va_P D cl (XW aX a0 a1 a2 a3 ct (upRg x 4 f_) y v0 v1 v2 v3) H := h
theorem XW_u_y_0 {w_ : Int64} (h : va_P D cl ((XW aX a0 a1 a2 a3 ct x y v0 v1 v2 v3).set 7 (aX 7, .inl (ct 1, 69, .inr (.inl (vp_updL (y 0) i w_))))) H) : va_P D cl (XW aX a0 a1 a2 a3 ct x (upL2 y 0 i w_) v0 v1 v2 v3) H := h
theorem XW_r_y_0 {f_ : Nat → Int64} (h : va_P D cl ((XW aX a0 a1 a2 a3 ct x y v0 v1 v2 v3).set 7 (aX 7, .inl (ct 1, 69, .inr (.inl f_)))) H) : va_P D cl (XW aX a0 a1 a2 a3 ct x (upRgL y 0 f_) v0 v1 v2 v3) H := h
theorem XW_u_y_1 {w_ : Int64} (h : va_P D cl ((XW aX a0 a1 a2 a3 ct x y v0 v1 v2 v3).set 8 (aX 8, .inl (ct 1, 69, .inr (.inl (vp_updL (y 1) i w_))))) H) : va_P D cl (XW aX a0 a1 a2 a3 ct x (upL2 y 1 i w_) v0 v1 v2 v3) H := h
theorem XW_r_y_1 {f_ : Nat → Int64} (h : va_P D cl ((XW aX a0 a1 a2 a3 ct x y v0 v1 v2 v3).set 8 (aX 8, .inl (ct 1, 69, .inr (.inl f_)))) H) : va_P D cl (XW aX a0 a1 a2 a3 ct x (upRgL y 1 f_) v0 v1 v2 v3) H := h
theorem XW_u_v0_0 {w_ : Int32} (h : va_P D cl ((XW aX a0 a1 a2 a3 ct x y v0 v1 v2 v3).set 10 (a0 1, .inl (ct 0, 6, .inl (upd (v0 0) i w_)))) H) : va_P D cl (XW aX a0 a1 a2 a3 ct x y (up2 v0 0 i w_) v1 v2 v3) H := h
theorem XW_r_v0_0 {f_ : Nat → Int32} (h : va_P D cl ((XW aX a0 a1 a2 a3 ct x y v0 v1 v2 v3).set 10 (a0 1, .inl (ct 0, 6, .inl f_))) H) : va_P D cl (XW aX a0 a1 a2 a3 ct x y (upRg v0 0 f_) v1 v2 v3) H := h
theorem XW_u_v0_1 {w_ : Int32} (h : va_P D cl ((XW aX a0 a1 a2 a3 ct x y v0 v1 v2 v3).set 11 (a0 2, .inl (ct 0, 6, .inl (upd (v0 1) i w_)))) H) : va_P D cl (XW aX a0 a1 a2 a3 ct x y (up2 v0 1 i w_) v1 v2 v3) H := h
theorem XW_r_v0_1 {f_ : Nat → Int32} (h : va_P D cl ((XW aX a0 a1 a2 a3 ct x y v0 v1 v2 v3).set 11 (a0 2, .inl (ct 0, 6, .inl f_))) H) : va_P D cl (XW aX a0 a1 a2 a3 ct x y (upRg v0 1 f_) v1 v2 v3) H := h
theorem XW_u_v0_8 {w_ : Int32} (h : va_P D cl ((XW aX a0 a1 a2 a3 ct x y v0 v1 v2 v3).set 19 (a0 10, .inl (ct 0, 8, .inl (upd (v0 8) i w_)))) H) : va_P D cl (XW aX a0 a1 a2 a3 ct x y (up2 v0 8 i w_) v1 v2 v3) H := h
theorem XW_r_v0_8 {f_ : Nat → Int32} (h : va_P D cl ((XW aX a0 a1 a2 a3 ct x y v0 v1 v2 v3).set 19 (a0 10, .inl (ct 0, 8, .inl f_))) H) : va_P D cl (XW aX a0 a1 a2 a3 ct x y (upRg v0 8 f_) v1 v2 v3) H := h
theorem XW_u_v0_9 {w_ : Int32} (h : va_P D cl ((XW aX a0 a1 a2 a3 ct x y v0 v1 v2 v3).set 20 (a0 11, .inl (ct 0, 8, .inl (upd (v0 9) i w_)))) H) : va_P D cl (XW aX a0 a1 a2 a3 ct x y (up2 v0 9 i w_) v1 v2 v3) H := h
theorem XW_r_v0_9 {f_ : Nat → Int32} (h : va_P D cl ((XW aX a0 a1 a2 a3 ct x y v0 v1 v2 v3).set 20 (a0 11, .inl (ct 0, 8, .inl f_))) H) : va_P D cl (XW aX a0 a1 a2 a3 ct x y (upRg v0 9 f_) v1 v2 v3) H := h
theorem XW_u_v0_10 {w_ : Int32} (h : va_P D cl ((XW aX a0 a1 a2 a3 ct x y v0 v1 v2 v3).set 21 (a0 12, .inl (ct 0, 2, .inl (upd (v0 10) i w_)))) H) : va_P D cl (XW aX a0 a1 a2 a3 ct x y (up2 v0 10 i w_) v1 v2 v3) H := h
theorem XW_r_v0_10 {f_ : Nat → Int32} (h : va_P D cl ((XW aX a0 a1 a2 a3 ct x y v0 v1 v2 v3).set 21 (a0 12, .inl (ct 0, 2, .inl f_))) H) : va_P D cl (XW aX a0 a1 a2 a3 ct x y (upRg v0 10 f_) v1 v2 v3) H := h
theorem XW_u_v0_11 {w_ : Int32} (h : va_P D cl ((XW aX a0 a1 a2 a3 ct x y v0 v1 v2 v3).set 22 (a0 13, .inl (ct 0, 8, .inl (upd (v0 11) i w_)))) H) : va_P D cl (XW aX a0 a1 a2 a3 ct x y (up2 v0 11 i w_) v1 v2 v3) H := h
theorem XW_r_v0_11 {f_ : Nat → Int32} (h : va_P D cl ((XW aX a0 a1 a2 a3 ct x y v0 v1 v2 v3).set 22 (a0 13, .inl (ct 0, 8, .inl f_))) H) : va_P D cl (XW aX a0 a1 a2 a3 ct x y (upRg v0 11 f_) v1 v2 v3) H := h
theorem XW_u_v0_12 {w_ : Int32} (h : va_P D cl ((XW aX a0 a1 a2 a3 ct x y v0 v1 v2 v3).set 23 (a0 14, .inl (ct 0, 8, .inl (upd (v0 12) i w_)))) H) : va_P D cl (XW aX a0 a1 a2 a3 ct x y (up2 v0 12 i w_) v1 v2 v3) H := h
theorem XW_r_v0_12 {f_ : Nat → Int32} (h : va_P D cl ((XW aX a0 a1 a2 a3 ct x y v0 v1 v2 v3).set 23 (a0 14, .inl (ct 0, 8, .inl f_))) H) : va_P D cl (XW aX a0 a1 a2 a3 ct x y (upRg v0 12 f_) v1 v2 v3) H := h
theorem XW_u_v0_13 {w_ : Int32} (h : va_P D cl ((XW aX a0 a1 a2 a3 ct x y v0 v1 v2 v3).set 24 (a0 15, .inl (ct 0, 8, .inl (upd (v0 13) i w_)))) H) : va_P D cl (XW aX a0 a1 a2 a3 ct x y (up2 v0 13 i w_) v1 v2 v3) H := h
theorem XW_r_v0_13 {f_ : Nat → Int32} (h : va_P D cl ((XW aX a0 a1 a2 a3 ct x y v0 v1 v2 v3).set 24 (a0 15, .inl (ct 0, 8, .inl f_))) H) : va_P D cl (XW aX a0 a1 a2 a3 ct x y (upRg v0 13 f_) v1 v2 v3) H := h
theorem XW_s_x_0 {w_ : Int32} (h : va_P D cl ((XW aX a0 a1 a2 a3 ct x y v0 v1 v2 v3).set 0 (aX 0, .inr (0, [.ref (a0 0), .ref (a1 0), .ref (aX 1), .int (x 5 0), .ref (aX 2), .int (x 5 1), .int (x 5 2), .int (x 5 3), .ref (aX 3), .ref (aX 4), .ref (aX 5), .ref (aX 7), .ref (aX 8), .ref (aX 6)].set 3 (.int w_)))) H) : va_P D cl (XW aX a0 a1 a2 a3 ct (up2 x 5 0 w_) y v0 v1 v2 v3) H := h
theorem XW_s_x_1 {w_ : Int32} (h : va_P D cl ((XW aX a0 a1 a2 a3 ct x y v0 v1 v2 v3).set 0 (aX 0, .inr (0, [.ref (a0 0), .ref (a1 0), .ref (aX 1), .int (x 5 0), .ref (aX 2), .int (x 5 1), .int (x 5 2), .int (x 5 3), .ref (aX 3), .ref (aX 4), .ref (aX 5), .ref (aX 7), .ref (aX 8), .ref (aX 6)].set 5 (.int w_)))) H) : va_P D cl (XW aX a0 a1 a2 a3 ct (up2 x 5 1 w_) y v0 v1 v2 v3) H := h
theorem XW_s_x_2 {w_ : Int32} (h : va_P D cl ((XW aX a0 a1 a2 a3 ct x y v0 v1 v2 v3).set 0 (aX 0, .inr (0, [.ref (a0 0), .ref (a1 0), .ref (aX 1), .int (x 5 0), .ref (aX 2), .int (x 5 1), .int (x 5 2), .int (x 5 3), .ref (aX 3), .ref (aX 4), .ref (aX 5), .ref (aX 7), .ref (aX 8), .ref (aX 6)].set 6 (.int w_)))) H) : va_P D cl (XW aX a0 a1 a2 a3 ct (up2 x 5 2 w_) y v0 v1 v2 v3) H := h
theorem XW_s_x_3 {w_ : Int32} (h : va_P D cl ((XW aX a0 a1 a2 a3 ct x y v0 v1 v2 v3).set 0 (aX 0, .inr (0, [.ref (a0 0), .ref (a1 0), .ref (aX 1), .int (x 5 0), .ref (aX 2), .int (x 5 1), .int (x 5 2), .int (x 5 3), .ref (aX 3), .ref (aX 4), .ref (aX 5), .ref (aX 7), .ref (aX 8), .ref (aX 6)].set 7 (.int w_)))) H) : va_P D cl (XW aX a0 a1 a2 a3 ct (up2 x 5 3 w_) y v0 v1 v2 v3) H := h
theorem XW_s_v0_0 {w_ : Int32} (h : va_P D cl ((XW aX a0 a1 a2 a3 ct x y v0 v1 v2 v3).set 9 (a0 0, .inr (1, [.ref (a0 1), .ref (a0 2), .ref (a0 3), .ref (a0 10), .ref (a0 11), .ref (a0 12), .int (v0 14 0), .int (v0 14 1), .int (v0 14 2), .ref (a0 13), .ref (a0 14), .ref (a0 15), .int (v0 14 3)].set 6 (.int w_)))) H) : va_P D cl (XW aX a0 a1 a2 a3 ct x y (up2 v0 14 0 w_) v1 v2 v3) H := h
theorem XW_s_v0_1 {w_ : Int32} (h : va_P D cl ((XW aX a0 a1 a2 a3 ct x y v0 v1 v2 v3).set 9 (a0 0, .inr (1, [.ref (a0 1), .ref (a0 2), .ref (a0 3), .ref (a0 10), .ref (a0 11), .ref (a0 12), .int (v0 14 0), .int (v0 14 1), .int (v0 14 2), .ref (a0 13), .ref (a0 14), .ref (a0 15), .int (v0 14 3)].set 7 (.int w_)))) H) : va_P D cl (XW aX a0 a1 a2 a3 ct x y (up2 v0 14 1 w_) v1 v2 v3) H := h
theorem XW_s_v0_2 {w_ : Int32} (h : va_P D cl ((XW aX a0 a1 a2 a3 ct x y v0 v1 v2 v3).set 9 (a0 0, .inr (1, [.ref (a0 1), .ref (a0 2), .ref (a0 3), .ref (a0 10), .ref (a0 11), .ref (a0 12), .int (v0 14 0), .int (v0 14 1), .int (v0 14 2), .ref (a0 13), .ref (a0 14), .ref (a0 15), .int (v0 14 3)].set 8 (.int w_)))) H) : va_P D cl (XW aX a0 a1 a2 a3 ct x y (up2 v0 14 2 w_) v1 v2 v3) H := h
theorem XW_s_v0_3 {w_ : Int32} (h : va_P D cl ((XW aX a0 a1 a2 a3 ct x y v0 v1 v2 v3).set 9 (a0 0, .inr (1, [.ref (a0 1), .ref (a0 2), .ref (a0 3), .ref (a0 10), .ref (a0 11), .ref (a0 12), .int (v0 14 0), .int (v0 14 1), .int (v0 14 2), .ref (a0 13), .ref (a0 14), .ref (a0 15), .int (v0 14 3)].set 12 (.int w_)))) H) : va_P D cl (XW aX a0 a1 a2 a3 ct x y (up2 v0 14 3 w_) v1 v2 v3) H := h
theorem XW_s_v2_3 {w_ : Int32} (h : va_P D cl ((XW aX a0 a1 a2 a3 ct x y v0 v1 v2 v3).set 41 (a2 0, .inr (1, [.ref (a2 1), .ref (a2 2), .ref (a2 3), .ref (a2 10), .ref (a2 11), .ref (a2 12), .int (v2 14 0), .int (v2 14 1), .int (v2 14 2), .ref (a2 13), .ref (a2 14), .ref (a2 15), .int (v2 14 3)].set 12 (.int w_)))) H) : va_P D cl (XW aX a0 a1 a2 a3 ct x y v0 v1 (up2 v2 14 3 w_) v3) H := h
theorem XW_s_v3_3 {w_ : Int32} (h : va_P D cl ((XW aX a0 a1 a2 a3 ct x y v0 v1 v2 v3).set 57 (a3 0, .inr (1, [.ref (a3 1), .ref (a3 2), .ref (a3 3), .ref (a3 10), .ref (a3 11), .ref (a3 12), .int (v3 14 0), .int (v3 14 1), .int (v3 14 2), .ref (a3 13), .ref (a3 14), .ref (a3 15), .int (v3 14 3)].set 12 (.int w_)))) H) : va_P D cl (XW aX a0 a1 a2 a3 ct x y v0 v1 v2 (up2 v3 14 3 w_)) H := h
end S_XW
section S_MW
variable {a : Nat → Nat} {ct : Nat → ClassId} {z : V} {g : VL} {D : va_G} {cl : List vw_C} {H : Heap} {i : Nat}
theorem MW_u_z_0 {w_ : Int32} (h : va_P D cl ((MW a ct z g).set 1 (a 1, .inl (ct 0, 6, .inl (upd (z 0) i w_)))) H) : va_P D cl (MW a ct (up2 z 0 i w_) g) H := h
theorem MW_r_z_0 {f_ : Nat → Int32} (h : va_P D cl ((MW a ct z g).set 1 (a 1, .inl (ct 0, 6, .inl f_))) H) : va_P D cl (MW a ct (upRg z 0 f_) g) H := h
theorem MW_u_z_1 {w_ : Int32} (h : va_P D cl ((MW a ct z g).set 2 (a 2, .inl (ct 0, 6, .inl (upd (z 1) i w_)))) H) : va_P D cl (MW a ct (up2 z 1 i w_) g) H := h
theorem MW_r_z_1 {f_ : Nat → Int32} (h : va_P D cl ((MW a ct z g).set 2 (a 2, .inl (ct 0, 6, .inl f_))) H) : va_P D cl (MW a ct (upRg z 1 f_) g) H := h
theorem MW_u_z_2 {w_ : Int32} (h : va_P D cl ((MW a ct z g).set 3 (a 3, .inl (ct 0, 36, .inl (upd (z 2) i w_)))) H) : va_P D cl (MW a ct (up2 z 2 i w_) g) H := h
theorem MW_r_z_2 {f_ : Nat → Int32} (h : va_P D cl ((MW a ct z g).set 3 (a 3, .inl (ct 0, 36, .inl f_))) H) : va_P D cl (MW a ct (upRg z 2 f_) g) H := h
theorem MW_u_z_3 {w_ : Int32} (h : va_P D cl ((MW a ct z g).set 4 (a 4, .inl (ct 0, 8, .inl (upd (z 3) i w_)))) H) : va_P D cl (MW a ct (up2 z 3 i w_) g) H := h
theorem MW_r_z_3 {f_ : Nat → Int32} (h : va_P D cl ((MW a ct z g).set 4 (a 4, .inl (ct 0, 8, .inl f_))) H) : va_P D cl (MW a ct (upRg z 3 f_) g) H := h
theorem MW_u_z_4 {w_ : Int32} (h : va_P D cl ((MW a ct z g).set 5 (a 5, .inl (ct 0, 8, .inl (upd (z 4) i w_)))) H) : va_P D cl (MW a ct (up2 z 4 i w_) g) H := h
theorem MW_r_z_4 {f_ : Nat → Int32} (h : va_P D cl ((MW a ct z g).set 5 (a 5, .inl (ct 0, 8, .inl f_))) H) : va_P D cl (MW a ct (upRg z 4 f_) g) H := h
theorem MW_u_z_5 {w_ : Int32} (h : va_P D cl ((MW a ct z g).set 6 (a 6, .inl (ct 0, 8, .inl (upd (z 5) i w_)))) H) : va_P D cl (MW a ct (up2 z 5 i w_) g) H := h
theorem MW_r_z_5 {f_ : Nat → Int32} (h : va_P D cl ((MW a ct z g).set 6 (a 6, .inl (ct 0, 8, .inl f_))) H) : va_P D cl (MW a ct (upRg z 5 f_) g) H := h
theorem MW_u_z_6 {w_ : Int32} (h : va_P D cl ((MW a ct z g).set 7 (a 7, .inl (ct 0, 8, .inl (upd (z 6) i w_)))) H) : va_P D cl (MW a ct (up2 z 6 i w_) g) H := h
theorem MW_r_z_6 {f_ : Nat → Int32} (h : va_P D cl ((MW a ct z g).set 7 (a 7, .inl (ct 0, 8, .inl f_))) H) : va_P D cl (MW a ct (upRg z 6 f_) g) H := h
theorem MW_u_z_7 {w_ : Int32} (h : va_P D cl ((MW a ct z g).set 8 (a 8, .inl (ct 0, 8, .inl (upd (z 7) i w_)))) H) : va_P D cl (MW a ct (up2 z 7 i w_) g) H := h
theorem MW_r_z_7 {f_ : Nat → Int32} (h : va_P D cl ((MW a ct z g).set 8 (a 8, .inl (ct 0, 8, .inl f_))) H) : va_P D cl (MW a ct (upRg z 7 f_) g) H := h
theorem MW_u_z_8 {w_ : Int32} (h : va_P D cl ((MW a ct z g).set 9 (a 9, .inl (ct 0, 60, .inl (upd (z 8) i w_)))) H) : va_P D cl (MW a ct (up2 z 8 i w_) g) H := h
theorem MW_r_z_8 {f_ : Nat → Int32} (h : va_P D cl ((MW a ct z g).set 9 (a 9, .inl (ct 0, 60, .inl f_))) H) : va_P D cl (MW a ct (upRg z 8 f_) g) H := h
theorem MW_u_z_9 {w_ : Int32} (h : va_P D cl ((MW a ct z g).set 10 (a 10, .inl (ct 0, 60, .inl (upd (z 9) i w_)))) H) : va_P D cl (MW a ct (up2 z 9 i w_) g) H := h
theorem MW_r_z_9 {f_ : Nat → Int32} (h : va_P D cl ((MW a ct z g).set 10 (a 10, .inl (ct 0, 60, .inl f_))) H) : va_P D cl (MW a ct (upRg z 9 f_) g) H := h
theorem MW_u_z_10 {w_ : Int32} (h : va_P D cl ((MW a ct z g).set 11 (a 11, .inl (ct 0, 60, .inl (upd (z 10) i w_)))) H) : va_P D cl (MW a ct (up2 z 10 i w_) g) H := h
theorem MW_r_z_10 {f_ : Nat → Int32} (h : va_P D cl ((MW a ct z g).set 11 (a 11, .inl (ct 0, 60, .inl f_))) H) : va_P D cl (MW a ct (upRg z 10 f_) g) H := h
theorem MW_u_z_11 {w_ : Int32} (h : va_P D cl ((MW a ct z g).set 12 (a 12, .inl (ct 0, 60, .inl (upd (z 11) i w_)))) H) : va_P D cl (MW a ct (up2 z 11 i w_) g) H := h
theorem MW_r_z_11 {f_ : Nat → Int32} (h : va_P D cl ((MW a ct z g).set 12 (a 12, .inl (ct 0, 60, .inl f_))) H) : va_P D cl (MW a ct (upRg z 11 f_) g) H := h
theorem MW_u_z_12 {w_ : Int32} (h : va_P D cl ((MW a ct z g).set 13 (a 13, .inl (ct 0, 60, .inl (upd (z 12) i w_)))) H) : va_P D cl (MW a ct (up2 z 12 i w_) g) H := h
theorem MW_r_z_12 {f_ : Nat → Int32} (h : va_P D cl ((MW a ct z g).set 13 (a 13, .inl (ct 0, 60, .inl f_))) H) : va_P D cl (MW a ct (upRg z 12 f_) g) H := h
theorem MW_u_z_13 {w_ : Int32} (h : va_P D cl ((MW a ct z g).set 14 (a 14, .inl (ct 0, 60, .inl (upd (z 13) i w_)))) H) : va_P D cl (MW a ct (up2 z 13 i w_) g) H := h
theorem MW_r_z_13 {f_ : Nat → Int32} (h : va_P D cl ((MW a ct z g).set 14 (a 14, .inl (ct 0, 60, .inl f_))) H) : va_P D cl (MW a ct (upRg z 13 f_) g) H := h
theorem MW_u_z_14 {w_ : Int32} (h : va_P D cl ((MW a ct z g).set 15 (a 15, .inl (ct 0, 6, .inl (upd (z 14) i w_)))) H) : va_P D cl (MW a ct (up2 z 14 i w_) g) H := h
theorem MW_r_z_14 {f_ : Nat → Int32} (h : va_P D cl ((MW a ct z g).set 15 (a 15, .inl (ct 0, 6, .inl f_))) H) : va_P D cl (MW a ct (upRg z 14 f_) g) H := h
theorem MW_u_z_15 {w_ : Int32} (h : va_P D cl ((MW a ct z g).set 16 (a 16, .inl (ct 0, 64, .inl (upd (z 15) i w_)))) H) : va_P D cl (MW a ct (up2 z 15 i w_) g) H := h
theorem MW_r_z_15 {f_ : Nat → Int32} (h : va_P D cl ((MW a ct z g).set 16 (a 16, .inl (ct 0, 64, .inl f_))) H) : va_P D cl (MW a ct (upRg z 15 f_) g) H := h
theorem MW_u_z_16 {w_ : Int32} (h : va_P D cl ((MW a ct z g).set 17 (a 17, .inl (ct 0, 9, .inl (upd (z 16) i w_)))) H) : va_P D cl (MW a ct (up2 z 16 i w_) g) H := h
theorem MW_r_z_16 {f_ : Nat → Int32} (h : va_P D cl ((MW a ct z g).set 17 (a 17, .inl (ct 0, 9, .inl f_))) H) : va_P D cl (MW a ct (upRg z 16 f_) g) H := h
theorem MW_u_z_17 {w_ : Int32} (h : va_P D cl ((MW a ct z g).set 18 (a 18, .inl (ct 0, 200, .inl (upd (z 17) i w_)))) H) : va_P D cl (MW a ct (up2 z 17 i w_) g) H := h
theorem MW_r_z_17 {f_ : Nat → Int32} (h : va_P D cl ((MW a ct z g).set 18 (a 18, .inl (ct 0, 200, .inl f_))) H) : va_P D cl (MW a ct (upRg z 17 f_) g) H := h
theorem MW_u_z_18 {w_ : Int32} (h : va_P D cl ((MW a ct z g).set 19 (a 19, .inl (ct 3, 2, .inl (upd (z 18) i w_)))) H) : va_P D cl (MW a ct (up2 z 18 i w_) g) H := h
theorem MW_r_z_18 {f_ : Nat → Int32} (h : va_P D cl ((MW a ct z g).set 19 (a 19, .inl (ct 3, 2, .inl f_))) H) : va_P D cl (MW a ct (upRg z 18 f_) g) H := h
theorem MW_u_g_0 {w_ : Int64} (h : va_P D cl ((MW a ct z g).set 20 (a 20, .inl (ct 1, 70, .inr (.inl (vp_updL (g 0) i w_))))) H) : va_P D cl (MW a ct z (upL2 g 0 i w_)) H := h
theorem MW_r_g_0 {f_ : Nat → Int64} (h : va_P D cl ((MW a ct z g).set 20 (a 20, .inl (ct 1, 70, .inr (.inl f_)))) H) : va_P D cl (MW a ct z (upRgL g 0 f_)) H := h
theorem MW_u_g_1 {w_ : Int64} (h : va_P D cl ((MW a ct z g).set 21 (a 21, .inl (ct 1, 70, .inr (.inl (vp_updL (g 1) i w_))))) H) : va_P D cl (MW a ct z (upL2 g 1 i w_)) H := h
theorem MW_r_g_1 {f_ : Nat → Int64} (h : va_P D cl ((MW a ct z g).set 21 (a 21, .inl (ct 1, 70, .inr (.inl f_)))) H) : va_P D cl (MW a ct z (upRgL g 1 f_)) H := h
theorem MW_u_g_2 {w_ : Int64} (h : va_P D cl ((MW a ct z g).set 22 (a 22, .inl (ct 1, 31, .inr (.inl (vp_updL (g 2) i w_))))) H) : va_P D cl (MW a ct z (upL2 g 2 i w_)) H := h
theorem MW_r_g_2 {f_ : Nat → Int64} (h : va_P D cl ((MW a ct z g).set 22 (a 22, .inl (ct 1, 31, .inr (.inl f_)))) H) : va_P D cl (MW a ct z (upRgL g 2 f_)) H := h
theorem MW_s_z_0 {w_ : Int32} (h : va_P D cl ((MW a ct z g).set 0 (a 0, .inr (2, [.ref (a 1), .ref (a 2), .ref (a 3), .ref (a 4), .ref (a 5), .int (z 19 0), .int (z 19 1), .int (z 19 2), .int (z 19 3), .ref (a 6), .ref (a 7), .ref (a 8), .int (z 19 4), .ref (a 9), .int (z 19 5), .ref (a 10), .ref (a 11), .ref (a 12), .int (z 19 6), .ref (a 13), .int (z 19 7), .int (z 19 8), .int (z 19 9), .ref (a 14), .ref (a 15), .ref (a 16), .ref (a 17), .ref (a 20), .ref (a 21), .ref (a 22), .ref (a 18), .ref (a 19), .int (z 19 10), .int (z 19 11)].set 5 (.int w_)))) H) : va_P D cl (MW a ct (up2 z 19 0 w_) g) H := h
theorem MW_s_z_1 {w_ : Int32} (h : va_P D cl ((MW a ct z g).set 0 (a 0, .inr (2, [.ref (a 1), .ref (a 2), .ref (a 3), .ref (a 4), .ref (a 5), .int (z 19 0), .int (z 19 1), .int (z 19 2), .int (z 19 3), .ref (a 6), .ref (a 7), .ref (a 8), .int (z 19 4), .ref (a 9), .int (z 19 5), .ref (a 10), .ref (a 11), .ref (a 12), .int (z 19 6), .ref (a 13), .int (z 19 7), .int (z 19 8), .int (z 19 9), .ref (a 14), .ref (a 15), .ref (a 16), .ref (a 17), .ref (a 20), .ref (a 21), .ref (a 22), .ref (a 18), .ref (a 19), .int (z 19 10), .int (z 19 11)].set 6 (.int w_)))) H) : va_P D cl (MW a ct (up2 z 19 1 w_) g) H := h
theorem MW_s_z_2 {w_ : Int32} (h : va_P D cl ((MW a ct z g).set 0 (a 0, .inr (2, [.ref (a 1), .ref (a 2), .ref (a 3), .ref (a 4), .ref (a 5), .int (z 19 0), .int (z 19 1), .int (z 19 2), .int (z 19 3), .ref (a 6), .ref (a 7), .ref (a 8), .int (z 19 4), .ref (a 9), .int (z 19 5), .ref (a 10), .ref (a 11), .ref (a 12), .int (z 19 6), .ref (a 13), .int (z 19 7), .int (z 19 8), .int (z 19 9), .ref (a 14), .ref (a 15), .ref (a 16), .ref (a 17), .ref (a 20), .ref (a 21), .ref (a 22), .ref (a 18), .ref (a 19), .int (z 19 10), .int (z 19 11)].set 7 (.int w_)))) H) : va_P D cl (MW a ct (up2 z 19 2 w_) g) H := h
theorem MW_s_z_3 {w_ : Int32} (h : va_P D cl ((MW a ct z g).set 0 (a 0, .inr (2, [.ref (a 1), .ref (a 2), .ref (a 3), .ref (a 4), .ref (a 5), .int (z 19 0), .int (z 19 1), .int (z 19 2), .int (z 19 3), .ref (a 6), .ref (a 7), .ref (a 8), .int (z 19 4), .ref (a 9), .int (z 19 5), .ref (a 10), .ref (a 11), .ref (a 12), .int (z 19 6), .ref (a 13), .int (z 19 7), .int (z 19 8), .int (z 19 9), .ref (a 14), .ref (a 15), .ref (a 16), .ref (a 17), .ref (a 20), .ref (a 21), .ref (a 22), .ref (a 18), .ref (a 19), .int (z 19 10), .int (z 19 11)].set 8 (.int w_)))) H) : va_P D cl (MW a ct (up2 z 19 3 w_) g) H := h
theorem MW_s_z_4 {w_ : Int32} (h : va_P D cl ((MW a ct z g).set 0 (a 0, .inr (2, [.ref (a 1), .ref (a 2), .ref (a 3), .ref (a 4), .ref (a 5), .int (z 19 0), .int (z 19 1), .int (z 19 2), .int (z 19 3), .ref (a 6), .ref (a 7), .ref (a 8), .int (z 19 4), .ref (a 9), .int (z 19 5), .ref (a 10), .ref (a 11), .ref (a 12), .int (z 19 6), .ref (a 13), .int (z 19 7), .int (z 19 8), .int (z 19 9), .ref (a 14), .ref (a 15), .ref (a 16), .ref (a 17), .ref (a 20), .ref (a 21), .ref (a 22), .ref (a 18), .ref (a 19), .int (z 19 10), .int (z 19 11)].set 12 (.int w_)))) H) : va_P D cl (MW a ct (up2 z 19 4 w_) g) H := h
theorem MW_s_z_5 {w_ : Int32} (h : va_P D cl ((MW a ct z g).set 0 (a 0, .inr (2, [.ref (a 1), .ref (a 2), .ref (a 3), .ref (a 4), .ref (a 5), .int (z 19 0), .int (z 19 1), .int (z 19 2), .int (z 19 3), .ref (a 6), .ref (a 7), .ref (a 8), .int (z 19 4), .ref (a 9), .int (z 19 5), .ref (a 10), .ref (a 11), .ref (a 12), .int (z 19 6), .ref (a 13), .int (z 19 7), .int (z 19 8), .int (z 19 9), .ref (a 14), .ref (a 15), .ref (a 16), .ref (a 17), .ref (a 20), .ref (a 21), .ref (a 22), .ref (a 18), .ref (a 19), .int (z 19 10), .int (z 19 11)].set 14 (.int w_)))) H) : va_P D cl (MW a ct (up2 z 19 5 w_) g) H := h
theorem MW_s_z_6 {w_ : Int32} (h : va_P D cl ((MW a ct z g).set 0 (a 0, .inr (2, [.ref (a 1), .ref (a 2), .ref (a 3), .ref (a 4), .ref (a 5), .int (z 19 0), .int (z 19 1), .int (z 19 2), .int (z 19 3), .ref (a 6), .ref (a 7), .ref (a 8), .int (z 19 4), .ref (a 9), .int (z 19 5), .ref (a 10), .ref (a 11), .ref (a 12), .int (z 19 6), .ref (a 13), .int (z 19 7), .int (z 19 8), .int (z 19 9), .ref (a 14), .ref (a 15), .ref (a 16), .ref (a 17), .ref (a 20), .ref (a 21), .ref (a 22), .ref (a 18), .ref (a 19), .int (z 19 10), .int (z 19 11)].set 18 (.int w_)))) H) : va_P D cl (MW a ct (up2 z 19 6 w_) g) H := h
theorem MW_s_z_7 {w_ : Int32} (h : va_P D cl ((MW a ct z g).set 0 (a 0, .inr (2, [.ref (a 1), .ref (a 2), .ref (a 3), .ref (a 4), .ref (a 5), .int (z 19 0), .int (z 19 1), .int (z 19 2), .int (z 19 3), .ref (a 6), .ref (a 7), .ref (a 8), .int (z 19 4), .ref (a 9), .int (z 19 5), .ref (a 10), .ref (a 11), .ref (a 12), .int (z 19 6), .ref (a 13), .int (z 19 7), .int (z 19 8), .int (z 19 9), .ref (a 14), .ref (a 15), .ref (a 16), .ref (a 17), .ref (a 20), .ref (a 21), .ref (a 22), .ref (a 18), .ref (a 19), .int (z 19 10), .int (z 19 11)].set 20 (.int w_)))) H) : va_P D cl (MW a ct (up2 z 19 7 w_) g) H := h
theorem MW_s_z_8 {w_ : Int32} (h : va_P D cl ((MW a ct z g).set 0 (a 0, .inr (2, [.ref (a 1), .ref (a 2), .ref (a 3), .ref (a 4), .ref (a 5), .int (z 19 0), .int (z 19 1), .int (z 19 2), .int (z 19 3), .ref (a 6), .ref (a 7), .ref (a 8), .int (z 19 4), .ref (a 9), .int (z 19 5), .ref (a 10), .ref (a 11), .ref (a 12), .int (z 19 6), .ref (a 13), .int (z 19 7), .int (z 19 8), .int (z 19 9), .ref (a 14), .ref (a 15), .ref (a 16), .ref (a 17), .ref (a 20), .ref (a 21), .ref (a 22), .ref (a 18), .ref (a 19), .int (z 19 10), .int (z 19 11)].set 21 (.int w_)))) H) : va_P D cl (MW a ct (up2 z 19 8 w_) g) H := h
theorem MW_s_z_9 {w_ : Int32} (h : va_P D cl ((MW a ct z g).set 0 (a 0, .inr (2, [.ref (a 1), .ref (a 2), .ref (a 3), .ref (a 4), .ref (a 5), .int (z 19 0), .int (z 19 1), .int (z 19 2), .int (z 19 3), .ref (a 6), .ref (a 7), .ref (a 8), .int (z 19 4), .ref (a 9), .int (z 19 5), .ref (a 10), .ref (a 11), .ref (a 12), .int (z 19 6), .ref (a 13), .int (z 19 7), .int (z 19 8), .int (z 19 9), .ref (a 14), .ref (a 15), .ref (a 16), .ref (a 17), .ref (a 20), .ref (a 21), .ref (a 22), .ref (a 18), .ref (a 19), .int (z 19 10), .int (z 19 11)].set 22 (.int w_)))) H) : va_P D cl (MW a ct (up2 z 19 9 w_) g) H := h
theorem MW_s_z_10 {w_ : Int32} (h : va_P D cl ((MW a ct z g).set 0 (a 0, .inr (2, [.ref (a 1), .ref (a 2), .ref (a 3), .ref (a 4), .ref (a 5), .int (z 19 0), .int (z 19 1), .int (z 19 2), .int (z 19 3), .ref (a 6), .ref (a 7), .ref (a 8), .int (z 19 4), .ref (a 9), .int (z 19 5), .ref (a 10), .ref (a 11), .ref (a 12), .int (z 19 6), .ref (a 13), .int (z 19 7), .int (z 19 8), .int (z 19 9), .ref (a 14), .ref (a 15), .ref (a 16), .ref (a 17), .ref (a 20), .ref (a 21), .ref (a 22), .ref (a 18), .ref (a 19), .int (z 19 10), .int (z 19 11)].set 32 (.int w_)))) H) : va_P D cl (MW a ct (up2 z 19 10 w_) g) H := h
theorem MW_s_z_11 {w_ : Int32} (h : va_P D cl ((MW a ct z g).set 0 (a 0, .inr (2, [.ref (a 1), .ref (a 2), .ref (a 3), .ref (a 4), .ref (a 5), .int (z 19 0), .int (z 19 1), .int (z 19 2), .int (z 19 3), .ref (a 6), .ref (a 7), .ref (a 8), .int (z 19 4), .ref (a 9), .int (z 19 5), .ref (a 10), .ref (a 11), .ref (a 12), .int (z 19 6), .ref (a 13), .int (z 19 7), .int (z 19 8), .int (z 19 9), .ref (a 14), .ref (a 15), .ref (a 16), .ref (a 17), .ref (a 20), .ref (a 21), .ref (a 22), .ref (a 18), .ref (a 19), .int (z 19 10), .int (z 19 11)].set 33 (.int w_)))) H) : va_P D cl (MW a ct (up2 z 19 11 w_) g) H := h
end S_MW
/-! THE CLAIM OUT OF ONE WALK OF THE LAW'S BODY. Your part is whole_start (and what it stands on); all else here is the same for every law, but numbers. -/
def R_law : String := "AbbeyNotesLaw"
def lw_P (b : Addr) (xs : List Int32) (args : Array Value) (s : State) : Prop := args = #[.ref b] ∧ s.IntsAt b xs ∧ xs.length ≤ 384 ∧ (Jvm.Cond.and given_1 narrow_1).before args s = true
def lw_Q (_ : Array Value) (s : State) (o : Outcome) (t : State) : Prop := o = .returned (some (.int 1)) ∧ Framed s o t [] 600000 7302250
def lw_Z (below : List Frame) (a : Array Value) (s : State) : State → Prop := fun t => ∃ o, t.status = .running ∧ Ended t below o ∧ lw_Q a s o t
/-- the law's own end, with 1 on the stack, nothing written that was there before, its room as the claim has it -/
theorem lw_ret {p : Program} {l : Launch} {e : Env} {s : State} {m : MethodId} {below : List Frame} {meth : Method} {c : Code} {b : Nat} (hx : p.tables.exec = Jvm.exec) (hb : c.code = code) (hr : meth.sig.returnType = ret) (hlocks : meth.locks = false) {pc : Nat} {H : Heap} {ls : Array Slot} (hdg : decode code pc = .ok (.ireturn, 1)) : W p l e room_1 s m #[Value.ref b] below meth c H [] 600000 7302250 (lw_Z below #[Value.ref b] s) (F0 m pc ls [.int 1]) := by
  intro T hT X
  obtain ⟨fs, hret, hrun, hended, hW, hframe⟩ := X.leave (v := some (.int 1)) (hlocks := hlocks) (fun h => by rw [hr] at h; cases h)
  have hmeth' : T.vm.method? m = some meth := X.method'
  refine ⟨T.setFrames fs, ?_, .returned (some (.int 1)), hrun, hended, rfl, ⟨_, rfl⟩, hW, hframe⟩
  jvm_step X.here [X.here.top, hx, hb, hdg, hmeth', hr, ret, narrow_b1]
  (try refine ⟨rfl, ?_⟩); (try refine ⟨rfl, ?_⟩)
  first | (intro acts; rw [hret _ acts rfl rfl rfl]) | rw [hret _ _ rfl rfl rfl]
  exact Steps.refl _
/-- what holds at the law's entry: the machine, the code, the tables' words (any of lw_tbl by 'hts w (by decide +kernel)'), the script of L ints xs at the cell b, what the Statement gives of the start (any of its parts by flat_of_before) -/
def lw_At (p : Program) (s : State) (m : MethodId) (meth : Method) (c : Code) (b L : Nat) (xs : Nat → Int32) : Prop :=
  p.tables.exec = Jvm.exec ∧ c.code = code ∧ meth.sig.returnType = ret ∧ c.maxLocals = 4 ∧ s.vm.findClass R_law = some m.cls ∧ (∀ w ∈ lw_tbl, w.before #[Value.ref b] s = true) ∧ va_X b L xs s s.heap ∧ b < s.heap.size ∧ meth.locks = false ∧ (Jvm.Cond.and given_1 narrow_1).before #[Value.ref b] s = true
