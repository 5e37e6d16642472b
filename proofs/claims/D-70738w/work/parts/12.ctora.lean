/-! CONSTRUCTORS: what is made, its first state -/
set_option maxRecDepth 100000
theorem x_AOa {ty : FieldType} {A B : Array Value} {u U : State} (e : u.vm = U.vm) (h : (Cond.arrayOver ty).before A u = true) : (Cond.arrayOver ty).before B U = true := by
  unfold Cond.before Cond.holds at h ⊢
  simp only [Cond.value] at h ⊢
  rw [e] at h
  exact h
def AOW (U : State) : Prop := va_AO "AbbeyNotes$Land" U ∧ (Cond.arrayOver (.array .int)).before #[] U = true
theorem x_AO {ty : FieldType} {s U : State} (hW : s.WarmedH U.vm) (h : (Cond.arrayOver ty).before #[] s = true) : (Cond.arrayOver ty).before #[] U = true := x_AOa (u := s.setVm U.vm) rfl (by rw [Cond.arrayOver_setVmC hW.alike]; exact h)
theorem AOW.warm {s U : State} (hW : s.WarmedH U.vm) (h : AOW s) : AOW U := ⟨x_AO hW h.1, x_AO hW h.2⟩
theorem AOW.same {u U : State} (e : u.vm = U.vm) (h : AOW u) : AOW U := ⟨x_AOa e h.1, x_AOa e h.2⟩
abbrev WPreC (dC : Nat → ClassId) (dI : Nat → Nat → Nat) (ct : Nat → ClassId) (ws : va_W) (sz : Nat) (U : State) : Prop := WPre dC dI ct ws sz U ∧ AOW U
theorem open_C {l : Launch} {y : MethodName} {cc : ByteArray} {nL : Nat} {ret : Option FieldType} {rm : Room} {av : List Value} {dC : Nat → ClassId} {dI : Nat → Nat → Nat} {ct : Nat → ClassId} {ws : va_W} {sz mc ms : Nat} (Qf : (Nat → Prop) → Array Value → State → Outcome → State → Prop) (hy : plainName y.cls = true) (hlen : (lg_sl av).length ≤ nL)
    (body : ∀ (p : Program) (e : Env) (s : State) (m : MethodId) (args : Array Value) (below : List Frame) (meth : Method) (c : Code) (ls : Array Slot) (A : Nat → Prop), CxW p s m args meth c cc nL ret y.cls dC dI ct A → meth.name = y.name → AOW s → va_D A ws → va_P (dC, dI) vwCl ws s.heap → va_S A s.heap s.heap [] → lv_has ls nL (lv_args 0 av) → W p l e rm s m args below meth c s.heap [] 0 0 (MQ below (Qf A) args s mc ms A) (F0 m 0 ls [])) :
    Met l y (ws_ y cc nL ret) rm (va_Pc av (fun U => WPreC dC dI ct ws sz U)) (Qf (va_A ws sz)) mc ms (va_A ws sz) := by
  refine Met.ofW (cc := cc) (maxL := nL) (ret := ret) hy rfl ?_
  intro p e s m args below meth c s₁ B hml hv
  obtain ⟨rfl, ⟨hsz, hP, hK, hD0, hN⟩, hO⟩ := hv
  have hts := atoms_spec (ws := ws_ y cc nL ret) B.pre
  have hts : ∀ w ∈ lw_all, w.before _ s = true := fun w h => hts w (List.mem_cons_of_mem _ h)
  subst hsz
  have hD := hD0.self (sz := s.heap.size)
  generalize hAe : va_A ws s.heap.size = A at hD ⊢
  have hA : ∀ q : Nat, s.heap.size ≤ q → A q := fun q h => by rw [← hAe]; exact Or.inr h
  have hl := lv_entry av (n := nL) hlen
  rw [lg_entry_eq]
  exact body p e s m _ below meth c _ A ⟨⟨B.exec, B.bytes, hml, B.returns, B.notSynchronized, findClass_of_methodNamed B.named, hts⟩, hA, hK, hN⟩ (name_of_methodNamed B.named B.method).1 hO hD hP va_S.rf hl
theorem blind_C {av : List Value} {dC : Nat → ClassId} {dI : Nat → Nat → Nat} {ct : Nat → ClassId} {ws : va_W} {sz : Nat} : FrameBlind (va_Pc av (fun U => WPreC dC dI ct ws sz U)) := by
  intro a U g mk q
  obtain ⟨q0, ⟨q1, qP, qK, qD, qN⟩, qO⟩ := q
  exact ⟨q0, ⟨q1, qP, va_K.moved (u := U) (U := U.calling g mk a) (Vm.Alike.refl U.vm) qK, qD, NestW.same (u := U) (U := U.calling g mk a) rfl qN⟩, AOW.same (u := U) (U := U.calling g mk a) rfl qO⟩
theorem pre_C {s : State} {H : Heap} {av : List Value} {dC : Nat → ClassId} {dI : Nat → Nat → Nat} {ct : Nat → ClassId} {ws : va_W} {A : Nat → Prop} (hK : va_K (dC, dI) vwCl (TY ct) s) (hP : va_P (dC, dI) vwCl ws H) (hD : va_D A ws) (hN : NestW s) (hO : AOW s) : PreS s H (va_Pc av (fun U => WPreC dC dI ct ws H.size U)) av :=
  ⟨blind_C, fun U hU hW => ⟨rfl, ⟨by rw [hU], by rw [hU]; exact hP, va_K.moved hW.alike hK, hD.weaken (fun _ _ _ _ => trivial), NestW.warm hW hN⟩, AOW.warm hW hO⟩⟩
theorem x_ctA {D : va_G} {cl : List vw_C} {ct : Nat → ClassId} {cA c0 : ClassId} {ty : FieldType} {s : State} (hK : va_K D cl (TY ct ++ [(cA, ty)]) s) (t : Nat) (ht : (TY ct)[t]? = some (c0, ty)) (h : ∀ (U : State) (c : ClassId), va_RA U c ty → U.vm.findClass ("[" ++ ty.toString) = some c) : cA = c0 := by
  have hlt : t < (TY ct).length := (List.getElem?_eq_some_iff.mp ht).1
  have h1 := h _ _ (hK.2 6 (cA, ty) rfl).2
  have h2 := h _ _ (hK.2 t (c0, ty) (by rw [List.getElem?_append_left hlt]; exact ht)).2
  rw [h2] at h1
  exact (Option.some.inj h1).symm
theorem x_ctO {D : va_G} {cl : List vw_C} {ct : Nat → ClassId} {cA c0 : ClassId} {C : String} {s : State} (hK : va_K D cl (TY ct ++ [(cA, .object C)]) s) (t : Nat) (ht : (TY ct)[t]? = some (c0, .object C)) : cA = c0 :=
  x_ctA hK t ht (fun _ _ h => by obtain ⟨_, _, _, _, _, h4⟩ := h; exact h4)
/-- addresses by a list -/
def adr (l : List Nat) : Nat → Nat := fun k => l.getD k 0
def adrs (l : List (Nat → Nat)) : Nat → Nat → Nat := fun k => l.getD k (fun _ => 0)
def vL0 : V := fun r => match r with
  | 0 => fun j => if j < 6 then 100 else 0
  | 1 => fun j => if j < 6 then 100 else 0
  | 8 => fun j => if j < 8 then 100 else 0
  | 9 => fun j => if j < 8 then -6 else 0
  | _ => fun _ => 0
def vX0 : V := fun _ _ => 0
def yX0 : VL := fun _ _ => 0
/-- a square of ints of six by six, new: the outer array and its rows -/
abbrev GR (q : Nat) (ct : Nat → ClassId) : va_W := [(q, .inl (ct 5, 6, .inr (.inr (.inr (.inr (fun k => some (q + (1 + k)))))))), (q + 1, .inl (ct 0, 6, .inl (fun _ => 0))), (q + 2, .inl (ct 0, 6, .inl (fun _ => 0))), (q + 3, .inl (ct 0, 6, .inl (fun _ => 0))), (q + 4, .inl (ct 0, 6, .inl (fun _ => 0))), (q + 5, .inl (ct 0, 6, .inl (fun _ => 0))), (q + 6, .inl (ct 0, 6, .inl (fun _ => 0)))]
theorem x_outer (cA : ClassId) (h0 : Nat) : Jvm.Free.Multi.outerC cA 6 h0 6 = vp_cell cA (6, .inr (.inr (.inr (.inr (fun k => some (h0 + (1 + k))))))) := by
  rw [vp_cell_q]
  simp only [Jvm.Free.Multi.outerC, arrV, Cell.setSlot]
  congr 1
theorem x_inner (cA : ClassId) : Jvm.Free.Multi.innerC cA 6 (.int 0) = vp_cell cA (6, .inl (fun _ => 0)) := by
  rw [vp_cell_i]
  simp only [Jvm.Free.Multi.innerC, arrV]
  congr 1
theorem x_push {D : va_G} {cl : List vw_C} {A : Nat → Prop} {ws ns : va_W} {H H1 : Heap} (hP : va_P D cl ws H) (hD : va_D A ws) (hk : ∀ q, q < H.size → H1[q]? = H[q]?) (hn : va_P D cl ns H1) (hnD : va_D A ns) (hnew : ∀ q ∈ ns, H.size ≤ q.1) : va_P D cl (ws ++ ns) H1 ∧ va_D A (ws ++ ns) := by
  refine ⟨va_P_app.mpr ⟨?_, hn⟩, hD.app hnD (fun i j p q hi hj e => ?_)⟩
  · exact hP.kept (fun k q hq => hk q.1 (hP k q hq).lt)
  · have h1 := (hP i p hi).lt
    have h2 := hnew q (List.mem_of_getElem? hj)
    omega
theorem x_multi {p : Program} {l : Launch} {e : Env} {R : Room} {s : State} {m : MethodId} {args : Array Value} {below : List Frame} {meth : Method} {c : Code} {H : Heap} {locs : List Loc} {cells slots : Nat} {Q : State → Prop} {cc : ByteArray} {pc : Nat} {ls : Array Slot} {rest : List Value} {D : va_G} {cl : List vw_C} {ct : Nat → ClassId} {ws : va_W} {A : Nat → Prop} {H0 : Heap} {own : String} {index : Nat}
    (hexec : p.tables.exec = Jvm.exec) (hb : c.code = cc) (hown : s.vm.findClass own = some m.cls) (hclink : (Cond.classLink own index "[[I").before args s = true) (hover : (Cond.arrayOver (.array .int)).before #[] s = true) (harr : (Cond.arrayClass .int).before args s = true)
    (hK : va_K D cl (TY ct) s) (hP : va_P D cl ws H) (hD : va_D A ws) (hS : va_S A H0 H locs) (hA : ∀ q, H0.size ≤ q → A q) (hcells : cells + 7 ≤ R.cells) (hslots : slots + 42 ≤ R.slots) (hdg : decode cc pc = .ok (.multianewarray index 2, 4))
    (kk : ∀ (q : Nat) (H1 : Heap), va_P D cl (ws ++ GR q ct) H1 → va_D A (ws ++ GR q ct) → va_S A H0 H1 locs → W p l e R s m args below meth c H1 locs (cells + 7) (slots + 42) Q (F0 m (pc + 4) ls (.ref q :: rest))) : W p l e R s m args below meth c H locs cells slots Q (F0 m pc ls (.int 6 :: .int 6 :: rest)) := by
  intro T hT X
  have h6 : (6 : Int32).toNatClampNeg = 6 := by decide
  obtain ⟨vm₁, cA, comp, hW, hfA, hfC, hO, hI, X1, step⟩ := X.multianewarray2F (ty := .int) hexec hown hclink (x_AOa rfl hover) harr (g := F0 m pc ls (.int 6 :: .int 6 :: rest)) rfl (by rw [hb]; exact hdg) (n := 6) (k := 6) (rest := rest) rfl (by decide) (by decide) (by decide) (by decide) (by decide) rfl rfl (by rw [h6]; exact hcells) (by rw [h6]; exact hslots)
  rw [h6] at X1 step
  have eA : cA = ct 5 := by
    have h := (hK.2 5 (ct 5, .array .int) rfl).2
    have h : s.vm.findClass ("[" ++ (FieldType.array .int).toString) = some (ct 5) := h
    rw [h] at hfA
    exact (Option.some.inj hfA).symm
  have eC : comp = ct 0 := by
    have h := (hK.2 0 (ct 0, .int) rfl).2
    have h : s.vm.findClass ("[" ++ (FieldType.int).toString) = some (ct 0) := h
    have hfC : s.vm.findClass ("[" ++ (FieldType.int).toString) = some comp := hfC
    rw [h] at hfC
    exact (Option.some.inj hfC).symm
  subst eA eC
  obtain ⟨f1, f2, f3, f4⟩ := Jvm.Free.Multi.fill_facts (T.setVm vm₁) (ct 5) (ct 0) 6 6 (defaultValue .int) 6
  have hT' : (T.setVm vm₁).heap = H := hT
  rw [hT'] at f1 f2
  generalize hF : Jvm.Free.Multi.fill (T.setVm vm₁) (ct 5) (ct 0) 6 6 (defaultValue .int) 6 = TF at *
  have hold : ∀ q, q < H.size → TF.heap[q]? = H[q]? := fun q hq => by
    rw [← hF, Jvm.Free.Multi.fill_old (T.setVm vm₁) (ct 5) (ct 0) 6 6 (defaultValue .int) (by rw [hT']; exact hq) 6, hT']
  have hin : ∀ j, j < 6 → TF.heap[H.size + 1 + j]? = some (vp_cell (ct 0) (6, .inl (fun _ => 0))) := fun j hj => by
    have := Jvm.Free.Multi.fill_inner (T.setVm vm₁) (ct 5) (ct 0) 6 6 (defaultValue .int) 6 j hj
    rw [hF, hT'] at this
    rw [this, ← x_inner]
    rfl
  have hout : TF.heap[H.size]? = some (vp_cell (ct 5) (6, .inr (.inr (.inr (.inr (fun k => some (H.size + (1 + k)))))))) := by rw [f2, x_outer]
  have hn : va_P D cl (GR H.size ct) TF.heap := by
    rw [va_P_mem]
    intro q hq
    simp only [List.mem_cons, List.not_mem_nil, or_false] at hq
    rcases hq with rfl | rfl | rfl | rfl | rfl | rfl | rfl
    · exact hout
    · exact hin 0 (by decide)
    · exact hin 1 (by decide)
    · exact hin 2 (by decide)
    · exact hin 3 (by decide)
    · exact hin 4 (by decide)
    · exact hin 5 (by decide)
  have hnew : ∀ q ∈ GR H.size ct, H.size ≤ q.1 := by
    intro q hq
    simp only [List.mem_cons, List.not_mem_nil, or_false] at hq
    rcases hq with rfl | rfl | rfl | rfl | rfl | rfl | rfl <;> simp
  have hnD : va_D A (GR H.size ct) := by
    refine ⟨fun i j a b hi hj e => ?_, fun k q hq => hA _ (Nat.le_trans hS.1 (hnew q (List.mem_of_getElem? hq)))⟩
    have hi' : i < 7 := (List.getElem?_eq_some_iff.mp hi).1
    have hj' : j < 7 := (List.getElem?_eq_some_iff.mp hj).1
    have ha : ∀ (k : Nat) (z : Nat × va_E), (GR H.size ct)[k]? = some z → z.1 = H.size + k := by
      intro k z hz
      have hk : k < 7 := (List.getElem?_eq_some_iff.mp hz).1
      rcases (show k = 0 ∨ k = 1 ∨ k = 2 ∨ k = 3 ∨ k = 4 ∨ k = 5 ∨ k = 6 by omega) with rfl | rfl | rfl | rfl | rfl | rfl | rfl <;> cases hz <;> rfl
    rw [ha i a hi, ha j b hj] at e
    omega
  obtain ⟨hP1, hD1⟩ := x_push hP hD hold hn hnD hnew
  obtain ⟨t, a1, b1⟩ := kk H.size TF.heap hP1 hD1 ⟨Nat.le_trans hS.1 (by rw [f1]; omega), fun q h1 h2 => (hold q (Nat.lt_of_lt_of_le h1 hS.1)).trans (hS.2.1 q h1 h2), hS.2.2⟩ TF rfl X1
  exact ⟨t, step t (by rw [hT]; exact a1), b1⟩
/-- a constructor's object is the last piece -/
theorem x_jrD {dC : Nat → ClassId} {dI : Nat → Nat → Nat} {ct : Nat → ClassId} {A : Nat → Prop} {pre mid mid' : va_W} {H0 H H1 : Heap} {locs : List Loc} {t : State} (hP : va_P (dC, dI) vwCl (pre ++ mid) H) (hD : va_D A (pre ++ mid)) (hA : ∀ q, H0.size ≤ q → A q) (hS : va_S A H0 H locs) (hk : ∀ q : Nat, q < H.size → ¬ va_A mid H.size q → H1[q]? = H[q]?) (ht : t.heap = H1) (hB : WPos dC dI ct mid' (va_A mid H.size) t) : va_P (dC, dI) vwCl (pre ++ mid') H1 ∧ va_D A (pre ++ mid') := by
  refine ⟨x_jr hP hD hk (post_P hB ht), (va_D_left hD).app (hB.2.2.weaken (fun k q hq h => x_free (va_D_right hD) hS hA _ h)) (fun i j p q hi hj e => ?_)⟩
  have h1 : p.1 < H.size := ((va_P_app.mp hP).1 i p hi).lt
  rcases hB.2.2.2 j q hj with ⟨k, e2, h2⟩ | h2
  · exact va_D_ne hD p (List.mem_of_getElem? hi) _ (List.mem_of_getElem? h2) e
  · omega
/-- an array of references, by another picture of the same -/
theorem x_refs {D : va_G} {cl : List vw_C} {ws : va_W} {H : Heap} {p q n : Nat} {cA : ClassId} {f g : Nat → Option Nat} (hP : va_P D cl ws H) (h : ws[p]? = some (q, .inl (cA, n, .inr (.inr (.inr (.inr f)))))) (hfg : ∀ k, k < n → f k = g k) : va_P D cl (ws.set p (q, .inl (cA, n, .inr (.inr (.inr (.inr g)))))) H := by
  intro k x hx
  by_cases hk : k = p
  · subst hk
    have hlt : k < ws.length := (List.getElem?_eq_some_iff.mp h).1
    rw [List.getElem?_set_self hlt] at hx
    cases hx
    have h1 := hP k _ h
    show H[q]? = some (vp_cell cA _)
    have h1 : H[q]? = some (vp_cell cA _) := h1
    rw [h1, vp_cell_q, vp_cell_q]
    unfold arrV
    have e : (fun j : Fin n => va_rf (f j.val)) = fun j : Fin n => va_rf (g j.val) := by funext j; rw [hfg j.val j.isLt]
    rw [e]
  · rw [List.getElem?_set_ne (fun h => hk h.symm)] at hx
    exact hP k x hx
theorem s_fillL {nf : Nat} (hn : nf < 2 ^ 31) {val : Int32} {Post : (Nat → Int32) → Prop} : ∀ (k i : Nat) (f : Nat → Int32), i + k = nf → Post (fun j => if i ≤ j ∧ j < nf then val else f j) → wp_J0_fill_L5 nf Post (k + 1) val (nI i) (nI nf) f := by
  intro k
  induction k with
  | zero =>
    intro i f hi h
    refine ⟨fun c => ?_, fun c => absurd (nI_le (a := nf) (b := i) (by omega) (by omega)) c⟩
    have e : (fun j => if i ≤ j ∧ j < nf then val else f j) = f := by funext j; rw [if_neg (by omega)]
    rw [e] at h
    exact h
  | succ k ih =>
    intro i f hi h
    refine ⟨fun c => absurd c (nI_ge (by omega) hn), fun c => ⟨vp_in_nI (by omega) hn, ?_⟩⟩
    rw [nI_1, nI_clamp (by omega)]
    refine ih (i + 1) _ (by omega) ?_
    have e : (fun j => if i + 1 ≤ j ∧ j < nf then val else upd f i val j) = fun j => if i ≤ j ∧ j < nf then val else f j := by
      funext j
      unfold upd
      by_cases h1 : j = i
      · subst h1
        rw [if_neg (by omega), if_pos rfl, if_pos (by omega)]
      · by_cases h2 : i + 1 ≤ j ∧ j < nf
        · rw [if_pos h2, if_pos (by omega)]
        · rw [if_neg h2, if_neg h1, if_neg (by omega)]
    rw [e]
    exact h
theorem s_fill {nf : Nat} {val : Int32} {f : Nat → Int32} {Post : (Nat → Int32) → Prop} (hn : nf < 2 ^ 31) (h : Post (fun j => if j < nf then val else f j)) : wp_J0_fill nf val f Post := by
  refine ⟨nf + 1, s_fillL hn nf 0 f (by omega) ?_⟩
  have e : (fun j => if 0 ≤ j ∧ j < nf then val else f j) = fun j => if j < nf then val else f j := by funext j; simp
  rw [e]
  exact h
