/-! WORLDS IN GENERAL: a module's own cells by a pure picture; what it leans on beside them; its methods' contracts, calls and ends -/
set_option maxRecDepth 100000
/-- a world: classes; cells by picture; array classes; its addresses; what else holds of the state; what holds of the picture -/
abbrev WD (S : Type) : Type := va_G × (S → va_W) × List (ClassId × FieldType) × (Nat → Prop) × (State → Prop) × (S → Prop)
section WDS
variable {S : Type}
def wU (d : WD S) (σ : S) (U : State) : Prop := va_P d.1 vwCl (d.2.1 σ) U.heap ∧ va_K d.1 vwCl d.2.2.1 U ∧ va_D d.2.2.2.1 (d.2.1 σ) ∧ d.2.2.2.2.1 U ∧ d.2.2.2.2.2 σ
def wH (d : WD S) (σ : S) (s : State) (H : Heap) (locs : List Loc) : Prop := va_P d.1 vwCl (d.2.1 σ) H ∧ va_D d.2.2.2.1 (d.2.1 σ) ∧ va_S d.2.2.2.1 s.heap H locs ∧ d.2.2.2.2.2 σ
def wC (d : WD S) (own : String) (p : Program) (s : State) (m : MethodId) (args : Array Value) (c : Code) (cc : ByteArray) (nL : Nat) : Prop := FX p s m args c cc nL own ∧ va_K d.1 vwCl d.2.2.1 s ∧ d.2.2.2.2.1 s
/-- what is leant on stays: under the same machine, and while nothing outside the addresses changes -/
def wX (A : Nat → Prop) (X : State → Prop) : Prop := (∀ u U : State, U.vm = u.vm → U.heap = u.heap → X u → X U) ∧ ∀ (s U : State) (H : Heap) (locs : List Loc), X s → va_S A s.heap H locs → U.heap = H → s.WarmedH U.vm → X U
abbrev wPc (d : WD S) (a : Nat) (σ : S) (As : List Value) : Array Value → State → Prop := va_Pc (.ref a :: As) (wU d σ)
abbrev wPs (d : WD S) (σ : S) (As : List Value) : Array Value → State → Prop := va_Pc As (wU d σ)
abbrev wQi (d : WD S) (S' : S) (F : Int32) (E : S → Int32 → Prop) : Array Value → State → Outcome → State → Prop := va_Qi (fun r u => (u = S' ∧ r = F) ∧ E u r) (wU d) d.2.2.2.1
abbrev wQz (d : WD S) (S' : S) (F : Int32) (E : S → Int32 → Prop) : Array Value → State → Outcome → State → Prop := va_Qi (fun r u => ((u = S' ∧ r = F) ∧ (r = 0 ∨ r = 1)) ∧ E u r) (wU d) d.2.2.2.1
abbrev wQl (d : WD S) (S' : S) (F : Int64) (E : S → Int64 → Prop) : Array Value → State → Outcome → State → Prop := va_Ql (fun r u => (u = S' ∧ r = F) ∧ E u r) (wU d) d.2.2.2.1
abbrev wQv (d : WD S) (S' : S) (E : S → Prop) : Array Value → State → Outcome → State → Prop := va_Qv (fun u => u = S' ∧ E u) (wU d) d.2.2.2.1
theorem wU.same {d : WD S} {σ : S} {u U : State} (h : wU d σ u) (hX : wX d.2.2.2.1 d.2.2.2.2.1) (hvm : U.vm = u.vm) (hh : U.heap = u.heap) : wU d σ U := by
  have ha : u.vm.Alike U.vm := by rw [hvm]; exact Vm.Alike.refl _
  exact ⟨by rw [hh]; exact h.1, va_K.moved ha h.2.1, h.2.2.1, hX.1 u U hvm hh h.2.2.2.1, h.2.2.2.2⟩
/-- a method of such a world, from its entry; its receiver (if it has one) is the first of the values -/
theorem met_W {l : Launch} {y : MethodName} {cc : ByteArray} {maxL : Nat} {ret : Option FieldType} {rm : Room} {d : WD S} {σ : S} {As : List Value} {Qc : Array Value → State → Outcome → State → Prop} (own : String) (hy : plainName y.cls = true) (hyo : y.cls = own) (hlen : (lg_sl As).length ≤ maxL)
    (body : ∀ (p : Program) (e : Env) (s : State) (m : MethodId) (args : Array Value) (below : List Frame) (meth : Method) (c : Code), wC d own p s m args c cc maxL → meth.sig.returnType = ret → meth.locks = false → wH d σ s s.heap [] → ∀ ls : Array Slot, lv_has ls maxL (lv_args 0 As) → W p l e rm s m args below meth c s.heap [] 0 0 (MQ below Qc args s 0 0 d.2.2.2.1) (F0 m 0 ls [])) : Met l y (ws_ y cc maxL ret) rm (va_Pc As (wU d σ)) Qc 0 0 d.2.2.2.1 :=
  met_S own hy hyo rfl hlen (fun p e s m args below meth c C hr hlocks _ ha hB ls hl => body p e s m args below meth c ⟨C, hB.2.1, hB.2.2.2.1⟩ hr hlocks ⟨hB.1, hB.2.2.1, va_S.rf, hB.2.2.2.2⟩ ls hl)
theorem va_Papp {D : va_G} {cl : List vw_C} {x y : va_W} {H : Heap} (h1 : va_P D cl x H) (h2 : va_P D cl y H) : va_P D cl (x ++ y) H := by
  intro k q hk
  rw [List.getElem?_append] at hk
  split at hk
  · exact h1 k q hk
  · exact h2 _ q hk
theorem va_PappL {D : va_G} {cl : List vw_C} {x y : va_W} {H : Heap} (h : va_P D cl (x ++ y) H) : va_P D cl x H := fun k q hk => h k q (by
  rw [List.getElem?_append_left (List.getElem?_eq_some_iff.mp hk).1]; exact hk)
theorem va_PappR {D : va_G} {cl : List vw_C} {x y : va_W} {H : Heap} (h : va_P D cl (x ++ y) H) : va_P D cl y H := fun k q hk => h (x.length + k) q (by
  rw [List.getElem?_append_right (Nat.le_add_right _ _), Nat.add_sub_cancel_left]; exact hk)
theorem va_DappL {A : Nat → Prop} {x y : va_W} (h : va_D A (x ++ y)) : va_D A x := by
  have g : ∀ (k : Nat) (q : Nat × va_E), x[k]? = some q → (x ++ y)[k]? = some q := fun k q hk => by rw [List.getElem?_append_left (List.getElem?_eq_some_iff.mp hk).1]; exact hk
  exact ⟨fun i j p q hi hj e => h.1 i j p q (g i p hi) (g j q hj) e, fun k q hk => h.2 k q (g k q hk)⟩
theorem va_DappR {A : Nat → Prop} {x y : va_W} (h : va_D A (x ++ y)) : va_D A y := by
  have g : ∀ (k : Nat) (q : Nat × va_E), y[k]? = some q → (x ++ y)[x.length + k]? = some q := fun k q hk => by rw [List.getElem?_append_right (Nat.le_add_right _ _), Nat.add_sub_cancel_left]; exact hk
  refine ⟨fun i j p q hi hj e => ?_, fun k q hk => h.2 _ q (g k q hk)⟩
  have := h.1 _ _ p q (g i p hi) (g j q hj) e
  omega
/-- the cells' addresses are those of another list, in the same order -/
def va_sm (x y : va_W) : Prop := x.map Prod.fst = y.map Prod.fst
theorem va_Dsm {A : Nat → Prop} {x y : va_W} (e : va_sm x y) (h : va_D A x) : va_D A y := by
  have g : ∀ (k : Nat) (q : Nat × va_E), y[k]? = some q → ∃ q', x[k]? = some q' ∧ q'.1 = q.1 := fun k q hk => by
    have h1 : (y.map Prod.fst)[k]? = some q.1 := by rw [List.getElem?_map, hk]; rfl
    rw [← e, List.getElem?_map] at h1
    cases hx : x[k]? with
    | none => rw [hx] at h1; cases h1
    | some q' => rw [hx] at h1; exact ⟨q', rfl, Option.some.inj h1⟩
  refine ⟨fun i j p q hi hj e2 => ?_, fun k q hk => ?_⟩
  · obtain ⟨p', hp, ep⟩ := g i p hi
    obtain ⟨q', hq, eq⟩ := g j q hj
    exact h.1 i j p' q' hp hq (by rw [ep, eq]; exact e2)
  · obtain ⟨q', hq, eq⟩ := g k q hk
    rw [← eq]; exact h.2 k q' hq
theorem va_Dnot {A : Nat → Prop} {x y : va_W} (h : va_D A (x ++ y)) {k : Nat} {q : Nat × va_E} (hk : y[k]? = some q) : ∀ (j : Nat) (r : Nat × va_E), x[j]? = some r → r.1 ≠ q.1 := by
  intro j r hj e
  have := h.1 j (x.length + k) r q (by rw [List.getElem?_append_left (List.getElem?_eq_some_iff.mp hj).1]; exact hj) (by rw [List.getElem?_append_right (Nat.le_add_right _ _), Nat.add_sub_cancel_left]; exact hk) e
  have := (List.getElem?_eq_some_iff.mp hj).1
  omega
end WDS
section WROWS
variable {S S' : Type} {p : Program} {l : Launch} {e : Env} {R : Room} {s : State} {m : MethodId} {args : Array Value} {below : List Frame} {meth : Method} {c : Code} {H : Heap} {locs : List Loc} {cells slots : Nat} {Q : State → Prop}
variable {cc : ByteArray} {nL pc : Nat} {ls : Array Slot} {rest st0 : List Value} {own : String}
theorem w_calli {y : MethodName} {bytes : ByteArray} {maxL idx a ci q0 : Nat} {Cn : String} {T : u_T} {N : Nat} {fs : List Value} {rm : Room} {d : WD S} {σ S1 : S} {F : Int32} {E : S → Int32 → Prop} {As : List Value} (n : Nat) (hX : wX d.2.2.2.1 d.2.2.2.2.1) (C : wC d own p s m args c cc nL) (h : wH d σ s H locs) (hM : Met l y (ws_ y bytes maxL (some .int)) rm (wPc d a σ As) (wQi d S1 F E) 0 0 d.2.2.2.1) (hG : GoodIn lw_all (wsV own idx Cn y (ws_ y bytes maxL (some .int)))) (hrc : rm.cells = 0) (hrs : rm.slots = 0)
    (hce : vwCl[ci]? = some (Cn, T, N)) (hre : (d.2.1 σ)[q0]? = some (a, .inr (ci, fs))) (hd : y.cls = Cn ∧ y.cls ≠ "java/lang/invoke/MethodHandle" ∧ y.cls ≠ "java/lang/invoke/VarHandle" ∧ (parseMethodDescriptor y.desc).map (fun d => d.parameters.length) = some n) (hR : rm.frames + 1 ≤ R.frames ∧ 8 + (maxL + 11) + rm.locals ≤ R.locals) (hn : As.length = n) (hls : ls.size = nL) (hst : st0 = As.reverse ++ .ref a :: rest) (hW : (rest.map fun v => v.category).sum ≤ 8) (hcs : cells ≤ R.cells ∧ slots ≤ R.slots) (hdg : decode cc pc = .ok (.invokevirtual idx, 3))
    (kk : ∀ (r : Int32) (σ1 : S) (H1 : Heap) (locs1 : List Loc), σ1 = S1 → r = F → E σ1 r → wH d σ1 s H1 locs1 → W p l e R s m args below meth c H1 locs1 cells slots Q (F0 m (pc + 3) ls (.int r :: rest))) : W p l e R s m args below meth c H locs cells slots Q (F0 m pc ls st0) :=
  va_calli (va_runV (As := As) (rest := rest) C.1 hM (cwV n C.1.2.2.2.2 hG rfl hrc hrs hd hR) ⟨fun a U G mk q => ⟨q.1, q.2.same (U := U.calling G mk a) hX rfl rfl⟩, va_recv C.2.1 h.1 (ci := ci) (q0 := q0) hce hre, fun U hU hW => ⟨rfl, by rw [hU]; exact h.1, va_K.moved hW.alike C.2.1, h.2.1, hX.2 s U H locs C.2.2 h.2.2.1 hU hW, h.2.2.2⟩⟩ rfl hn hls hst (lv_room hW) hdg hcs) h.2.2.1 (fun _ _ q => q) (fun _ q => q)
    (fun r u t H1 locs1 ht _ hp hB _ _ hS => kk r u H1 locs1 hp.1.1 hp.1.2 hp.2 ⟨by rw [← ht]; exact hB.1, hB.2.2.1, hS, hB.2.2.2.2⟩)
theorem x_calli {y : MethodName} {bytes : ByteArray} {maxL idx a ci q0 : Nat} {Cn : String} {T : u_T} {N : Nat} {fs : List Value} {rm : Room} {d : WD S} {d' : WD S'} {σ : S} {τ S1 : S'} {F : Int32} {E : S' → Int32 → Prop} {As : List Value} {rs : va_W} (up : S' → S) (n : Nat) (hX : wX d'.2.2.2.1 d'.2.2.2.2.1) (hD1 : d'.1 = d.1) (hsp : d.2.1 σ = d'.2.1 τ ++ rs) (hup : ∀ τ', d.2.1 (up τ') = d'.2.1 τ' ++ rs) (hsm : ∀ τ', va_sm (d'.2.1 τ) (d'.2.1 τ')) (hA : ∀ q, d'.2.2.2.1 q ↔ ∃ (k : Nat) (e : va_E), (d'.2.1 τ)[k]? = some (q, e)) (hP2 : d.2.2.2.2.2 σ → d'.2.2.2.2.2 τ) (hP3 : ∀ τ', d.2.2.2.2.2 σ → d'.2.2.2.2.2 τ' → d.2.2.2.2.2 (up τ')) (C : wC d own p s m args c cc nL) (h : wH d σ s H locs) (hK' : va_K d.1 vwCl d'.2.2.1 s) (hX' : ∀ U : State, U.heap = H → s.WarmedH U.vm → d'.2.2.2.2.1 U) (hM : Met l y (ws_ y bytes maxL (some .int)) rm (wPc d' a τ As) (wQi d' S1 F E) 0 0 d'.2.2.2.1) (hG : GoodIn lw_all (wsV own idx Cn y (ws_ y bytes maxL (some .int)))) (hrc : rm.cells = 0) (hrs : rm.slots = 0)
    (hce : vwCl[ci]? = some (Cn, T, N)) (hre : (d.2.1 σ)[q0]? = some (a, .inr (ci, fs))) (hd : y.cls = Cn ∧ y.cls ≠ "java/lang/invoke/MethodHandle" ∧ y.cls ≠ "java/lang/invoke/VarHandle" ∧ (parseMethodDescriptor y.desc).map (fun d => d.parameters.length) = some n) (hR : rm.frames + 1 ≤ R.frames ∧ 8 + (maxL + 11) + rm.locals ≤ R.locals) (hn : As.length = n) (hls : ls.size = nL) (hst : st0 = As.reverse ++ .ref a :: rest) (hW : (rest.map fun v => v.category).sum ≤ 8) (hcs : cells ≤ R.cells ∧ slots ≤ R.slots) (hdg : decode cc pc = .ok (.invokevirtual idx, 3))
    (kk : ∀ (r : Int32) (τ1 : S') (H1 : Heap) (locs1 : List Loc), τ1 = S1 → r = F → E τ1 r → wH d (up τ1) s H1 locs1 → W p l e R s m args below meth c H1 locs1 cells slots Q (F0 m (pc + 3) ls (.int r :: rest))) : W p l e R s m args below meth c H locs cells slots Q (F0 m pc ls st0) := by
  have hP := h.1
  have hD := h.2.1
  rw [hsp] at hP hD
  have hAA : ∀ q, d'.2.2.2.1 q → d.2.2.2.1 q := fun q hq => by
    obtain ⟨k, e, hk⟩ := (hA q).mp hq
    exact (va_DappL hD).2 k (q, e) hk
  have hD' : va_D d'.2.2.2.1 (d'.2.1 τ) := ⟨(va_DappL hD).1, fun k q hk => (hA q.1).mpr ⟨k, q.2, hk⟩⟩
  exact va_calli (va_runV (As := As) (rest := rest) C.1 hM (cwV n C.1.2.2.2.2 hG rfl hrc hrs hd hR) ⟨fun a U G mk q => ⟨q.1, q.2.same (U := U.calling G mk a) hX rfl rfl⟩, va_recv C.2.1 h.1 (ci := ci) (q0 := q0) hce hre, fun U hU hW => ⟨rfl, by rw [hU, hD1]; exact va_PappL hP, by rw [hD1]; exact va_K.moved hW.alike hK', hD', hX' U hU hW, hP2 h.2.2.2⟩⟩ rfl hn hls hst (lv_room hW) hdg hcs) h.2.2.1 (fun q _ z => hAA q z) (fun q z => hAA q z)
    (fun r u t H1 locs1 ht _ hp hB _ hk hS => kk r u H1 locs1 hp.1.1 hp.1.2 hp.2 (by
      refine ⟨?_, ?_, hS, hP3 u h.2.2.2 hB.2.2.2.2⟩
      · rw [hup]
        refine va_Papp (by rw [← ht, ← hD1]; exact hB.1) ((va_PappR hP).kept (fun k q hq => hk q.1 ((va_PappR hP) k q hq).lt (fun z => ?_)))
        obtain ⟨k', e', hk'⟩ := (hA q.1).mp z
        exact va_Dnot hD hq k' (q.1, e') hk' rfl
      · rw [hup]
        exact va_Dsm (by unfold va_sm; rw [List.map_append, List.map_append]; exact congrArg (· ++ rs.map Prod.fst) (hsm u)) hD))
theorem w_callz {y : MethodName} {bytes : ByteArray} {maxL idx a ci q0 : Nat} {Cn : String} {T : u_T} {N : Nat} {fs : List Value} {rm : Room} {d : WD S} {σ S1 : S} {F : Int32} {E : S → Int32 → Prop} {As : List Value} (n : Nat) (hX : wX d.2.2.2.1 d.2.2.2.2.1) (C : wC d own p s m args c cc nL) (h : wH d σ s H locs) (hM : Met l y (ws_ y bytes maxL (some .boolean)) rm (wPc d a σ As) (wQz d S1 F E) 0 0 d.2.2.2.1) (hG : GoodIn lw_all (wsV own idx Cn y (ws_ y bytes maxL (some .boolean)))) (hrc : rm.cells = 0) (hrs : rm.slots = 0)
    (hce : vwCl[ci]? = some (Cn, T, N)) (hre : (d.2.1 σ)[q0]? = some (a, .inr (ci, fs))) (hd : y.cls = Cn ∧ y.cls ≠ "java/lang/invoke/MethodHandle" ∧ y.cls ≠ "java/lang/invoke/VarHandle" ∧ (parseMethodDescriptor y.desc).map (fun d => d.parameters.length) = some n) (hR : rm.frames + 1 ≤ R.frames ∧ 8 + (maxL + 11) + rm.locals ≤ R.locals) (hn : As.length = n) (hls : ls.size = nL) (hst : st0 = As.reverse ++ .ref a :: rest) (hW : (rest.map fun v => v.category).sum ≤ 8) (hcs : cells ≤ R.cells ∧ slots ≤ R.slots) (hdg : decode cc pc = .ok (.invokevirtual idx, 3))
    (kk : ∀ (r : Int32) (σ1 : S) (H1 : Heap) (locs1 : List Loc), σ1 = S1 → r = F → (r = 0 ∨ r = 1) → E σ1 r → wH d σ1 s H1 locs1 → W p l e R s m args below meth c H1 locs1 cells slots Q (F0 m (pc + 3) ls (.int r :: rest))) : W p l e R s m args below meth c H locs cells slots Q (F0 m pc ls st0) :=
  va_calli (va_runV (As := As) (rest := rest) C.1 hM (cwV n C.1.2.2.2.2 hG rfl hrc hrs hd hR) ⟨fun a U G mk q => ⟨q.1, q.2.same (U := U.calling G mk a) hX rfl rfl⟩, va_recv C.2.1 h.1 (ci := ci) (q0 := q0) hce hre, fun U hU hW => ⟨rfl, by rw [hU]; exact h.1, va_K.moved hW.alike C.2.1, h.2.1, hX.2 s U H locs C.2.2 h.2.2.1 hU hW, h.2.2.2⟩⟩ rfl hn hls hst (lv_room hW) hdg hcs) h.2.2.1 (fun _ _ q => q) (fun _ q => q)
    (fun r u t H1 locs1 ht _ hp hB _ _ hS => kk r u H1 locs1 hp.1.1.1 hp.1.1.2 hp.1.2 hp.2 ⟨by rw [← ht]; exact hB.1, hB.2.2.1, hS, hB.2.2.2.2⟩)
theorem x_callz {y : MethodName} {bytes : ByteArray} {maxL idx a ci q0 : Nat} {Cn : String} {T : u_T} {N : Nat} {fs : List Value} {rm : Room} {d : WD S} {d' : WD S'} {σ : S} {τ S1 : S'} {F : Int32} {E : S' → Int32 → Prop} {As : List Value} {rs : va_W} (up : S' → S) (n : Nat) (hX : wX d'.2.2.2.1 d'.2.2.2.2.1) (hD1 : d'.1 = d.1) (hsp : d.2.1 σ = d'.2.1 τ ++ rs) (hup : ∀ τ', d.2.1 (up τ') = d'.2.1 τ' ++ rs) (hsm : ∀ τ', va_sm (d'.2.1 τ) (d'.2.1 τ')) (hA : ∀ q, d'.2.2.2.1 q ↔ ∃ (k : Nat) (e : va_E), (d'.2.1 τ)[k]? = some (q, e)) (hP2 : d.2.2.2.2.2 σ → d'.2.2.2.2.2 τ) (hP3 : ∀ τ', d.2.2.2.2.2 σ → d'.2.2.2.2.2 τ' → d.2.2.2.2.2 (up τ')) (C : wC d own p s m args c cc nL) (h : wH d σ s H locs) (hK' : va_K d.1 vwCl d'.2.2.1 s) (hX' : ∀ U : State, U.heap = H → s.WarmedH U.vm → d'.2.2.2.2.1 U) (hM : Met l y (ws_ y bytes maxL (some .boolean)) rm (wPc d' a τ As) (wQz d' S1 F E) 0 0 d'.2.2.2.1) (hG : GoodIn lw_all (wsV own idx Cn y (ws_ y bytes maxL (some .boolean)))) (hrc : rm.cells = 0) (hrs : rm.slots = 0)
    (hce : vwCl[ci]? = some (Cn, T, N)) (hre : (d.2.1 σ)[q0]? = some (a, .inr (ci, fs))) (hd : y.cls = Cn ∧ y.cls ≠ "java/lang/invoke/MethodHandle" ∧ y.cls ≠ "java/lang/invoke/VarHandle" ∧ (parseMethodDescriptor y.desc).map (fun d => d.parameters.length) = some n) (hR : rm.frames + 1 ≤ R.frames ∧ 8 + (maxL + 11) + rm.locals ≤ R.locals) (hn : As.length = n) (hls : ls.size = nL) (hst : st0 = As.reverse ++ .ref a :: rest) (hW : (rest.map fun v => v.category).sum ≤ 8) (hcs : cells ≤ R.cells ∧ slots ≤ R.slots) (hdg : decode cc pc = .ok (.invokevirtual idx, 3))
    (kk : ∀ (r : Int32) (τ1 : S') (H1 : Heap) (locs1 : List Loc), τ1 = S1 → r = F → (r = 0 ∨ r = 1) → E τ1 r → wH d (up τ1) s H1 locs1 → W p l e R s m args below meth c H1 locs1 cells slots Q (F0 m (pc + 3) ls (.int r :: rest))) : W p l e R s m args below meth c H locs cells slots Q (F0 m pc ls st0) := by
  have hP := h.1
  have hD := h.2.1
  rw [hsp] at hP hD
  have hAA : ∀ q, d'.2.2.2.1 q → d.2.2.2.1 q := fun q hq => by
    obtain ⟨k, e, hk⟩ := (hA q).mp hq
    exact (va_DappL hD).2 k (q, e) hk
  have hD' : va_D d'.2.2.2.1 (d'.2.1 τ) := ⟨(va_DappL hD).1, fun k q hk => (hA q.1).mpr ⟨k, q.2, hk⟩⟩
  exact va_calli (va_runV (As := As) (rest := rest) C.1 hM (cwV n C.1.2.2.2.2 hG rfl hrc hrs hd hR) ⟨fun a U G mk q => ⟨q.1, q.2.same (U := U.calling G mk a) hX rfl rfl⟩, va_recv C.2.1 h.1 (ci := ci) (q0 := q0) hce hre, fun U hU hW => ⟨rfl, by rw [hU, hD1]; exact va_PappL hP, by rw [hD1]; exact va_K.moved hW.alike hK', hD', hX' U hU hW, hP2 h.2.2.2⟩⟩ rfl hn hls hst (lv_room hW) hdg hcs) h.2.2.1 (fun q _ z => hAA q z) (fun q z => hAA q z)
    (fun r u t H1 locs1 ht _ hp hB _ hk hS => kk r u H1 locs1 hp.1.1.1 hp.1.1.2 hp.1.2 hp.2 (by
      refine ⟨?_, ?_, hS, hP3 u h.2.2.2 hB.2.2.2.2⟩
      · rw [hup]
        refine va_Papp (by rw [← ht, ← hD1]; exact hB.1) ((va_PappR hP).kept (fun k q hq => hk q.1 ((va_PappR hP) k q hq).lt (fun z => ?_)))
        obtain ⟨k', e', hk'⟩ := (hA q.1).mp z
        exact va_Dnot hD hq k' (q.1, e') hk' rfl
      · rw [hup]
        exact va_Dsm (by unfold va_sm; rw [List.map_append, List.map_append]; exact congrArg (· ++ rs.map Prod.fst) (hsm u)) hD))
theorem w_calll {y : MethodName} {bytes : ByteArray} {maxL idx a ci q0 : Nat} {Cn : String} {T : u_T} {N : Nat} {fs : List Value} {rm : Room} {d : WD S} {σ S1 : S} {F : Int64} {E : S → Int64 → Prop} {As : List Value} (n : Nat) (hX : wX d.2.2.2.1 d.2.2.2.2.1) (C : wC d own p s m args c cc nL) (h : wH d σ s H locs) (hM : Met l y (ws_ y bytes maxL (some .long)) rm (wPc d a σ As) (wQl d S1 F E) 0 0 d.2.2.2.1) (hG : GoodIn lw_all (wsV own idx Cn y (ws_ y bytes maxL (some .long)))) (hrc : rm.cells = 0) (hrs : rm.slots = 0)
    (hce : vwCl[ci]? = some (Cn, T, N)) (hre : (d.2.1 σ)[q0]? = some (a, .inr (ci, fs))) (hd : y.cls = Cn ∧ y.cls ≠ "java/lang/invoke/MethodHandle" ∧ y.cls ≠ "java/lang/invoke/VarHandle" ∧ (parseMethodDescriptor y.desc).map (fun d => d.parameters.length) = some n) (hR : rm.frames + 1 ≤ R.frames ∧ 8 + (maxL + 11) + rm.locals ≤ R.locals) (hn : As.length = n) (hls : ls.size = nL) (hst : st0 = As.reverse ++ .ref a :: rest) (hW : (rest.map fun v => v.category).sum ≤ 8) (hcs : cells ≤ R.cells ∧ slots ≤ R.slots) (hdg : decode cc pc = .ok (.invokevirtual idx, 3))
    (kk : ∀ (r : Int64) (σ1 : S) (H1 : Heap) (locs1 : List Loc), σ1 = S1 → r = F → E σ1 r → wH d σ1 s H1 locs1 → W p l e R s m args below meth c H1 locs1 cells slots Q (F0 m (pc + 3) ls (.long r :: rest))) : W p l e R s m args below meth c H locs cells slots Q (F0 m pc ls st0) :=
  va_calll (va_runV (As := As) (rest := rest) C.1 hM (cwV n C.1.2.2.2.2 hG rfl hrc hrs hd hR) ⟨fun a U G mk q => ⟨q.1, q.2.same (U := U.calling G mk a) hX rfl rfl⟩, va_recv C.2.1 h.1 (ci := ci) (q0 := q0) hce hre, fun U hU hW => ⟨rfl, by rw [hU]; exact h.1, va_K.moved hW.alike C.2.1, h.2.1, hX.2 s U H locs C.2.2 h.2.2.1 hU hW, h.2.2.2⟩⟩ rfl hn hls hst (lv_room hW) hdg hcs) h.2.2.1 (fun _ _ q => q) (fun _ q => q)
    (fun r u t H1 locs1 ht _ hp hB _ _ hS => kk r u H1 locs1 hp.1.1 hp.1.2 hp.2 ⟨by rw [← ht]; exact hB.1, hB.2.2.1, hS, hB.2.2.2.2⟩)
theorem x_calll {y : MethodName} {bytes : ByteArray} {maxL idx a ci q0 : Nat} {Cn : String} {T : u_T} {N : Nat} {fs : List Value} {rm : Room} {d : WD S} {d' : WD S'} {σ : S} {τ S1 : S'} {F : Int64} {E : S' → Int64 → Prop} {As : List Value} {rs : va_W} (up : S' → S) (n : Nat) (hX : wX d'.2.2.2.1 d'.2.2.2.2.1) (hD1 : d'.1 = d.1) (hsp : d.2.1 σ = d'.2.1 τ ++ rs) (hup : ∀ τ', d.2.1 (up τ') = d'.2.1 τ' ++ rs) (hsm : ∀ τ', va_sm (d'.2.1 τ) (d'.2.1 τ')) (hA : ∀ q, d'.2.2.2.1 q ↔ ∃ (k : Nat) (e : va_E), (d'.2.1 τ)[k]? = some (q, e)) (hP2 : d.2.2.2.2.2 σ → d'.2.2.2.2.2 τ) (hP3 : ∀ τ', d.2.2.2.2.2 σ → d'.2.2.2.2.2 τ' → d.2.2.2.2.2 (up τ')) (C : wC d own p s m args c cc nL) (h : wH d σ s H locs) (hK' : va_K d.1 vwCl d'.2.2.1 s) (hX' : ∀ U : State, U.heap = H → s.WarmedH U.vm → d'.2.2.2.2.1 U) (hM : Met l y (ws_ y bytes maxL (some .long)) rm (wPc d' a τ As) (wQl d' S1 F E) 0 0 d'.2.2.2.1) (hG : GoodIn lw_all (wsV own idx Cn y (ws_ y bytes maxL (some .long)))) (hrc : rm.cells = 0) (hrs : rm.slots = 0)
    (hce : vwCl[ci]? = some (Cn, T, N)) (hre : (d.2.1 σ)[q0]? = some (a, .inr (ci, fs))) (hd : y.cls = Cn ∧ y.cls ≠ "java/lang/invoke/MethodHandle" ∧ y.cls ≠ "java/lang/invoke/VarHandle" ∧ (parseMethodDescriptor y.desc).map (fun d => d.parameters.length) = some n) (hR : rm.frames + 1 ≤ R.frames ∧ 8 + (maxL + 11) + rm.locals ≤ R.locals) (hn : As.length = n) (hls : ls.size = nL) (hst : st0 = As.reverse ++ .ref a :: rest) (hW : (rest.map fun v => v.category).sum ≤ 8) (hcs : cells ≤ R.cells ∧ slots ≤ R.slots) (hdg : decode cc pc = .ok (.invokevirtual idx, 3))
    (kk : ∀ (r : Int64) (τ1 : S') (H1 : Heap) (locs1 : List Loc), τ1 = S1 → r = F → E τ1 r → wH d (up τ1) s H1 locs1 → W p l e R s m args below meth c H1 locs1 cells slots Q (F0 m (pc + 3) ls (.long r :: rest))) : W p l e R s m args below meth c H locs cells slots Q (F0 m pc ls st0) := by
  have hP := h.1
  have hD := h.2.1
  rw [hsp] at hP hD
  have hAA : ∀ q, d'.2.2.2.1 q → d.2.2.2.1 q := fun q hq => by
    obtain ⟨k, e, hk⟩ := (hA q).mp hq
    exact (va_DappL hD).2 k (q, e) hk
  have hD' : va_D d'.2.2.2.1 (d'.2.1 τ) := ⟨(va_DappL hD).1, fun k q hk => (hA q.1).mpr ⟨k, q.2, hk⟩⟩
  exact va_calll (va_runV (As := As) (rest := rest) C.1 hM (cwV n C.1.2.2.2.2 hG rfl hrc hrs hd hR) ⟨fun a U G mk q => ⟨q.1, q.2.same (U := U.calling G mk a) hX rfl rfl⟩, va_recv C.2.1 h.1 (ci := ci) (q0 := q0) hce hre, fun U hU hW => ⟨rfl, by rw [hU, hD1]; exact va_PappL hP, by rw [hD1]; exact va_K.moved hW.alike hK', hD', hX' U hU hW, hP2 h.2.2.2⟩⟩ rfl hn hls hst (lv_room hW) hdg hcs) h.2.2.1 (fun q _ z => hAA q z) (fun q z => hAA q z)
    (fun r u t H1 locs1 ht _ hp hB _ hk hS => kk r u H1 locs1 hp.1.1 hp.1.2 hp.2 (by
      refine ⟨?_, ?_, hS, hP3 u h.2.2.2 hB.2.2.2.2⟩
      · rw [hup]
        refine va_Papp (by rw [← ht, ← hD1]; exact hB.1) ((va_PappR hP).kept (fun k q hq => hk q.1 ((va_PappR hP) k q hq).lt (fun z => ?_)))
        obtain ⟨k', e', hk'⟩ := (hA q.1).mp z
        exact va_Dnot hD hq k' (q.1, e') hk' rfl
      · rw [hup]
        exact va_Dsm (by unfold va_sm; rw [List.map_append, List.map_append]; exact congrArg (· ++ rs.map Prod.fst) (hsm u)) hD))
theorem w_callv {y : MethodName} {bytes : ByteArray} {maxL idx a ci q0 : Nat} {Cn : String} {T : u_T} {N : Nat} {fs : List Value} {rm : Room} {d : WD S} {σ S1 : S} {E : S → Prop} {As : List Value} (n : Nat) (hX : wX d.2.2.2.1 d.2.2.2.2.1) (C : wC d own p s m args c cc nL) (h : wH d σ s H locs) (hM : Met l y (ws_ y bytes maxL none) rm (wPc d a σ As) (wQv d S1  E) 0 0 d.2.2.2.1) (hG : GoodIn lw_all (wsV own idx Cn y (ws_ y bytes maxL none))) (hrc : rm.cells = 0) (hrs : rm.slots = 0)
    (hce : vwCl[ci]? = some (Cn, T, N)) (hre : (d.2.1 σ)[q0]? = some (a, .inr (ci, fs))) (hd : y.cls = Cn ∧ y.cls ≠ "java/lang/invoke/MethodHandle" ∧ y.cls ≠ "java/lang/invoke/VarHandle" ∧ (parseMethodDescriptor y.desc).map (fun d => d.parameters.length) = some n) (hR : rm.frames + 1 ≤ R.frames ∧ 8 + (maxL + 11) + rm.locals ≤ R.locals) (hn : As.length = n) (hls : ls.size = nL) (hst : st0 = As.reverse ++ .ref a :: rest) (hW : (rest.map fun v => v.category).sum ≤ 8) (hcs : cells ≤ R.cells ∧ slots ≤ R.slots) (hdg : decode cc pc = .ok (.invokevirtual idx, 3))
    (kk : ∀ (σ1 : S) (H1 : Heap) (locs1 : List Loc), σ1 = S1 → E σ1 → wH d σ1 s H1 locs1 → W p l e R s m args below meth c H1 locs1 cells slots Q (F0 m (pc + 3) ls rest)) : W p l e R s m args below meth c H locs cells slots Q (F0 m pc ls st0) :=
  va_callv (va_runV (As := As) (rest := rest) C.1 hM (cwV n C.1.2.2.2.2 hG rfl hrc hrs hd hR) ⟨fun a U G mk q => ⟨q.1, q.2.same (U := U.calling G mk a) hX rfl rfl⟩, va_recv C.2.1 h.1 (ci := ci) (q0 := q0) hce hre, fun U hU hW => ⟨rfl, by rw [hU]; exact h.1, va_K.moved hW.alike C.2.1, h.2.1, hX.2 s U H locs C.2.2 h.2.2.1 hU hW, h.2.2.2⟩⟩ rfl hn hls hst (lv_room hW) hdg hcs) h.2.2.1 (fun _ _ q => q) (fun _ q => q)
    (fun u t H1 locs1 ht _ hp hB _ _ hS => kk u H1 locs1 hp.1 hp.2 ⟨by rw [← ht]; exact hB.1, hB.2.2.1, hS, hB.2.2.2.2⟩)
theorem x_callv {y : MethodName} {bytes : ByteArray} {maxL idx a ci q0 : Nat} {Cn : String} {T : u_T} {N : Nat} {fs : List Value} {rm : Room} {d : WD S} {d' : WD S'} {σ : S} {τ S1 : S'} {E : S' → Prop} {As : List Value} {rs : va_W} (up : S' → S) (n : Nat) (hX : wX d'.2.2.2.1 d'.2.2.2.2.1) (hD1 : d'.1 = d.1) (hsp : d.2.1 σ = d'.2.1 τ ++ rs) (hup : ∀ τ', d.2.1 (up τ') = d'.2.1 τ' ++ rs) (hsm : ∀ τ', va_sm (d'.2.1 τ) (d'.2.1 τ')) (hA : ∀ q, d'.2.2.2.1 q ↔ ∃ (k : Nat) (e : va_E), (d'.2.1 τ)[k]? = some (q, e)) (hP2 : d.2.2.2.2.2 σ → d'.2.2.2.2.2 τ) (hP3 : ∀ τ', d.2.2.2.2.2 σ → d'.2.2.2.2.2 τ' → d.2.2.2.2.2 (up τ')) (C : wC d own p s m args c cc nL) (h : wH d σ s H locs) (hK' : va_K d.1 vwCl d'.2.2.1 s) (hX' : ∀ U : State, U.heap = H → s.WarmedH U.vm → d'.2.2.2.2.1 U) (hM : Met l y (ws_ y bytes maxL none) rm (wPc d' a τ As) (wQv d' S1  E) 0 0 d'.2.2.2.1) (hG : GoodIn lw_all (wsV own idx Cn y (ws_ y bytes maxL none))) (hrc : rm.cells = 0) (hrs : rm.slots = 0)
    (hce : vwCl[ci]? = some (Cn, T, N)) (hre : (d.2.1 σ)[q0]? = some (a, .inr (ci, fs))) (hd : y.cls = Cn ∧ y.cls ≠ "java/lang/invoke/MethodHandle" ∧ y.cls ≠ "java/lang/invoke/VarHandle" ∧ (parseMethodDescriptor y.desc).map (fun d => d.parameters.length) = some n) (hR : rm.frames + 1 ≤ R.frames ∧ 8 + (maxL + 11) + rm.locals ≤ R.locals) (hn : As.length = n) (hls : ls.size = nL) (hst : st0 = As.reverse ++ .ref a :: rest) (hW : (rest.map fun v => v.category).sum ≤ 8) (hcs : cells ≤ R.cells ∧ slots ≤ R.slots) (hdg : decode cc pc = .ok (.invokevirtual idx, 3))
    (kk : ∀ (τ1 : S') (H1 : Heap) (locs1 : List Loc), τ1 = S1 → E τ1 → wH d (up τ1) s H1 locs1 → W p l e R s m args below meth c H1 locs1 cells slots Q (F0 m (pc + 3) ls rest)) : W p l e R s m args below meth c H locs cells slots Q (F0 m pc ls st0) := by
  have hP := h.1
  have hD := h.2.1
  rw [hsp] at hP hD
  have hAA : ∀ q, d'.2.2.2.1 q → d.2.2.2.1 q := fun q hq => by
    obtain ⟨k, e, hk⟩ := (hA q).mp hq
    exact (va_DappL hD).2 k (q, e) hk
  have hD' : va_D d'.2.2.2.1 (d'.2.1 τ) := ⟨(va_DappL hD).1, fun k q hk => (hA q.1).mpr ⟨k, q.2, hk⟩⟩
  exact va_callv (va_runV (As := As) (rest := rest) C.1 hM (cwV n C.1.2.2.2.2 hG rfl hrc hrs hd hR) ⟨fun a U G mk q => ⟨q.1, q.2.same (U := U.calling G mk a) hX rfl rfl⟩, va_recv C.2.1 h.1 (ci := ci) (q0 := q0) hce hre, fun U hU hW => ⟨rfl, by rw [hU, hD1]; exact va_PappL hP, by rw [hD1]; exact va_K.moved hW.alike hK', hD', hX' U hU hW, hP2 h.2.2.2⟩⟩ rfl hn hls hst (lv_room hW) hdg hcs) h.2.2.1 (fun q _ z => hAA q z) (fun q z => hAA q z)
    (fun u t H1 locs1 ht _ hp hB _ hk hS => kk u H1 locs1 hp.1 hp.2 (by
      refine ⟨?_, ?_, hS, hP3 u h.2.2.2 hB.2.2.2.2⟩
      · rw [hup]
        refine va_Papp (by rw [← ht, ← hD1]; exact hB.1) ((va_PappR hP).kept (fun k q hq => hk q.1 ((va_PappR hP) k q hq).lt (fun z => ?_)))
        obtain ⟨k', e', hk'⟩ := (hA q.1).mp z
        exact va_Dnot hD hq k' (q.1, e') hk' rfl
      · rw [hup]
        exact va_Dsm (by unfold va_sm; rw [List.map_append, List.map_append]; exact congrArg (· ++ rs.map Prod.fst) (hsm u)) hD))
theorem w_reti {d : WD S} {σ S1 : S} {F v : Int32} {E : S → Int32 → Prop} (hX : wX d.2.2.2.1 d.2.2.2.2.1) (C : wC d own p s m args c cc nL) (h : wH d σ s H locs) (hr : meth.sig.returnType = some .int) (hlocks : meth.locks = false) (hs : S1 = σ) (he : F = v) (hE : E σ v) (hdg : decode cc pc = .ok (.ireturn, 1)) : W p l e R s m args below meth c H locs cells slots (MQ below (wQi d S1 F E) args s cells slots d.2.2.2.1) (F0 m pc ls [.int v]) :=
  W.iret (v := v) C.1.1 C.1.2.1 hr (fun t ht hW => ⟨⟨v, σ, rfl, ⟨⟨hs.symm, he.symm⟩, hE⟩, by rw [ht]; exact h.1, va_K.moved hW.alike C.2.1, h.2.1, hX.2 s t H locs C.2.2 h.2.2.1 ht hW, h.2.2.2⟩, h.2.2.1.F ht⟩) h.2.2.1.2.2 hdg hlocks
theorem w_retz {d : WD S} {σ S1 : S} {F v : Int32} {E : S → Int32 → Prop} (hX : wX d.2.2.2.1 d.2.2.2.2.1) (C : wC d own p s m args c cc nL) (h : wH d σ s H locs) (hr : meth.sig.returnType = some .boolean) (hlocks : meth.locks = false) (hs : S1 = σ) (he : F = v) (h01 : v = 0 ∨ v = 1) (hE : E σ v) (hdg : decode cc pc = .ok (.ireturn, 1)) : W p l e R s m args below meth c H locs cells slots (MQ below (wQz d S1 F E) args s cells slots d.2.2.2.1) (F0 m pc ls [.int v]) :=
  W.zret (v := v) C.1.1 C.1.2.1 hr (b_nar h01) (fun t ht hW => ⟨⟨v, σ, rfl, ⟨⟨⟨hs.symm, he.symm⟩, h01⟩, hE⟩, by rw [ht]; exact h.1, va_K.moved hW.alike C.2.1, h.2.1, hX.2 s t H locs C.2.2 h.2.2.1 ht hW, h.2.2.2⟩, h.2.2.1.F ht⟩) h.2.2.1.2.2 hdg hlocks
theorem w_retl {d : WD S} {σ S1 : S} {F v : Int64} {E : S → Int64 → Prop} (hX : wX d.2.2.2.1 d.2.2.2.2.1) (C : wC d own p s m args c cc nL) (h : wH d σ s H locs) (hr : meth.sig.returnType = some .long) (hlocks : meth.locks = false) (hs : S1 = σ) (he : F = v) (hE : E σ v) (hdg : decode cc pc = .ok (.lreturn, 1)) : W p l e R s m args below meth c H locs cells slots (MQ below (wQl d S1 F E) args s cells slots d.2.2.2.1) (F0 m pc ls [.long v]) :=
  W.lret (v := v) C.1.1 C.1.2.1 hr (fun t ht hW => ⟨⟨v, σ, rfl, ⟨⟨hs.symm, he.symm⟩, hE⟩, by rw [ht]; exact h.1, va_K.moved hW.alike C.2.1, h.2.1, hX.2 s t H locs C.2.2 h.2.2.1 ht hW, h.2.2.2⟩, h.2.2.1.F ht⟩) h.2.2.1.2.2 hdg hlocks
theorem w_retv {d : WD S} {σ S1 : S} {E : S → Prop} (hX : wX d.2.2.2.1 d.2.2.2.2.1) (C : wC d own p s m args c cc nL) (h : wH d σ s H locs) (hr : meth.sig.returnType = none) (hlocks : meth.locks = false) (hs : S1 = σ) (hE : E σ) (hdg : decode cc pc = .ok (.return_, 1)) : W p l e R s m args below meth c H locs cells slots (MQ below (wQv d S1 E) args s cells slots d.2.2.2.1) (F0 m pc ls []) :=
  W.vret C.1.1 C.1.2.1 hr (fun t ht hW => ⟨⟨σ, rfl, ⟨hs.symm, hE⟩, by rw [ht]; exact h.1, va_K.moved hW.alike C.2.1, h.2.1, hX.2 s t H locs C.2.2 h.2.2.1 ht hW, h.2.2.2⟩, h.2.2.1.F ht⟩) h.2.2.1.2.2 hdg hlocks
theorem wH.same {d : WD S} {σ : S} {H1 : Heap} {locs1 : List Loc} (h : wH d σ s H locs) (hk : ∀ q : Nat, q < H.size → H1[q]? = H[q]?) (hS : va_S d.2.2.2.1 s.heap H1 locs1) : wH d σ s H1 locs1 := ⟨h.1.kept (fun k q hq => hk q.1 (h.1 k q hq).lt), h.2.1, hS, h.2.2.2⟩
end WROWS
/-! nest mates: the links between LetMe and what is nested in it -/
def nestF : List (String × Nat × String × String × String × String) := [("LetMe", 111, "LetMe$Tray", "row", "Ljava/lang/Object;", "LetMe"), ("LetMe", 189, "LetMe$Bad", "kind", "I", "LetMe"), ("LetMe", 192, "LetMe$Bad", "place", "I", "LetMe"), ("LetMe", 92, "LetMe$Refused", "why", "I", "LetMe"), ("LetMe$Act", 65, "LetMe$Table", "person", "[LLetMe$Person;", "LetMe"), ("LetMe", 159, "LetMe$Table", "person", "[LLetMe$Person;", "LetMe"), ("LetMe$Reader", 217, "LetMe$Table", "person", "[LLetMe$Person;", "LetMe"), ("LetMe$Act", 62, "LetMe$Table", "people", "I", "LetMe"), ("LetMe$Reader", 191, "LetMe$Table", "people", "I", "LetMe"), ("LetMe", 167, "LetMe$Table", "people", "I", "LetMe"), ("LetMe$Reader", 223, "LetMe$Table", "couples", "I", "LetMe"), ("LetMe", 233, "LetMe$Table", "couples", "I", "LetMe"), ("LetMe$Reader", 229, "LetMe$Table", "dishes", "I", "LetMe"), ("LetMe", 236, "LetMe$Table", "dishes", "I", "LetMe"), ("LetMe$Reader", 182, "LetMe$Table", "split", "I", "LetMe"), ("LetMe", 239, "LetMe$Table", "split", "I", "LetMe"), ("LetMe$When", 27, "LetMe$Table", "law", "I", "LetMe"), ("LetMe$Reader", 186, "LetMe$Table", "law", "I", "LetMe"), ("LetMe", 242, "LetMe$Table", "law", "I", "LetMe"), ("LetMe", 261, "LetMe$Table", "rounds", "I", "LetMe"), ("LetMe", 264, "LetMe$Table", "gifts", "I", "LetMe"), ("LetMe$Reader", 194, "LetMe$Table", "inside", "I", "LetMe"), ("LetMe", 270, "LetMe$Table", "inside", "I", "LetMe"), ("LetMe", 299, "LetMe$Table", "price", "[I", "LetMe"), ("LetMe", 302, "LetMe$Table", "by", "[I", "LetMe"), ("LetMe$When", 36, "LetMe$Table", "paid", "[I", "LetMe"), ("LetMe", 228, "LetMe$Table", "paid", "[I", "LetMe"), ("LetMe", 411, "LetMe$Table", "owes", "[I", "LetMe"), ("LetMe", 428, "LetMe$Table", "drinks", "[I", "LetMe"), ("LetMe", 156, "LetMe$House", "table", "LLetMe$Table;", "LetMe"), ("LetMe", 210, "LetMe$House", "year", "LLetMe$Loop;", "LetMe"), ("LetMe$Reader", 22, "LetMe", "tape", "[B", "LetMe"), ("LetMe$Reader", 55, "LetMe", "bad", "LLetMe$Bad;", "LetMe"), ("LetMe", 225, "LetMe$Reader", "steps", "I", "LetMe"), ("LetMe$Table", 64, "LetMe$Person", "name", "J", "LetMe"), ("LetMe$Act", 81, "LetMe$Person", "insists", "I", "LetMe"), ("LetMe$Table", 125, "LetMe$Person", "insists", "I", "LetMe"), ("LetMe$Reader", 206, "LetMe$Person", "insists", "I", "LetMe"), ("LetMe", 279, "LetMe$Person", "insists", "I", "LetMe"), ("LetMe$Act", 69, "LetMe$Person", "quick", "I", "LetMe"), ("LetMe$Table", 122, "LetMe$Person", "quick", "I", "LetMe"), ("LetMe$Reader", 208, "LetMe$Person", "quick", "I", "LetMe"), ("LetMe", 284, "LetMe$Person", "quick", "I", "LetMe"), ("LetMe$Reader", 210, "LetMe$Person", "minds", "I", "LetMe"), ("LetMe", 287, "LetMe$Person", "minds", "I", "LetMe"), ("LetMe$Reader", 212, "LetMe$Person", "means", "I", "LetMe"), ("LetMe", 290, "LetMe$Person", "means", "I", "LetMe"), ("LetMe$Table", 96, "LetMe$Person", "mate", "I", "LetMe"), ("LetMe$Reader", 220, "LetMe$Person", "mate", "I", "LetMe"), ("LetMe", 293, "LetMe$Person", "mate", "I", "LetMe"), ("LetMe$Table", 72, "LetMe$Person", "guest", "Z", "LetMe"), ("LetMe$Reader", 214, "LetMe$Person", "guest", "Z", "LetMe"), ("LetMe$Act", 24, "LetMe$Living", "table", "LLetMe$Table;", "LetMe"), ("LetMe$When", 44, "LetMe$Living", "table", "LLetMe$Table;", "LetMe"), ("LetMe$Step", 9, "LetMe$Living", "done", "I", "LetMe"), ("LetMe", 492, "LetMe$Living", "done", "I", "LetMe"), ("LetMe$Act", 88, "LetMe$Living", "missed", "I", "LetMe"), ("LetMe", 475, "LetMe$Living", "missed", "I", "LetMe"), ("LetMe", 478, "LetMe$Living", "dinners", "I", "LetMe"), ("LetMe$Act", 78, "LetMe$Living", "draws", "I", "LetMe"), ("LetMe", 481, "LetMe$Living", "draws", "I", "LetMe"), ("LetMe$Act", 55, "LetMe$Living", "rounds", "I", "LetMe"), ("LetMe", 484, "LetMe$Living", "rounds", "I", "LetMe"), ("LetMe$Loop", 13, "LetMe$Living", "isOver", "Z", "LetMe"), ("LetMe$Act", 58, "LetMe$Living", "isOver", "Z", "LetMe"), ("LetMe$Block", 23, "LetMe$Living", "isOver", "Z", "LetMe"), ("LetMe$Step", 15, "LetMe$Living", "isOver", "Z", "LetMe"), ("LetMe$Step", 19, "LetMe$Living", "isLeft", "Z", "LetMe"), ("LetMe", 485, "LetMe$Living", "isLeft", "Z", "LetMe")]
def nestM : List (String × Nat × MethodName × String) := [("LetMe", 17, ⟨"LetMe$Tray", "<init>", "()V"⟩, "LetMe"), ("LetMe", 54, ⟨"LetMe$House", "<init>", "()V"⟩, "LetMe"), ("LetMe$House", 9, ⟨"LetMe$Table", "<init>", "()V"⟩, "LetMe"), ("LetMe", 74, ⟨"LetMe$Table", "<init>", "()V"⟩, "LetMe"), ("LetMe$Loop", 1, ⟨"LetMe$Block", "<init>", "()V"⟩, "LetMe"), ("LetMe$Block", 1, ⟨"LetMe$Step", "<init>", "()V"⟩, "LetMe"), ("LetMe$When", 3, ⟨"LetMe$Block", "<init>", "()V"⟩, "LetMe"), ("LetMe$Act", 3, ⟨"LetMe$Step", "<init>", "()V"⟩, "LetMe")]
def NW (U : State) : Prop := (∀ q ∈ nestF, va_Nw (.fieldLinkNest q.1 q.2.1 q.2.2.1 q.2.2.2.1 q.2.2.2.2.1 q.2.2.2.2.2) U) ∧ (∀ q ∈ nestM, va_Nw (.methodLinkNest q.1 q.2.1 q.2.2.1 q.2.2.2) U)
theorem NW.warm {s U : State} (hW : s.WarmedH U.vm) (h : NW s) : NW U := ⟨fun q hq => va_Nw.warmF hW (h.1 q hq), fun q hq => va_Nw.warmM hW (h.2 q hq)⟩
theorem NW.same {u U : State} (hvm : u.vm = U.vm) (h : NW u) : NW U := ⟨fun q hq => va_Nw.same rfl hvm (h.1 q hq), fun q hq => va_Nw.same rfl hvm (h.2 q hq)⟩
theorem nF {U : State} {args : Array Value} {a b n d h : String} {x : Nat} (hN : NW U) (i : Nat) (hi : nestF[i]? = some (a, x, b, n, d, h)) : (Cond.fieldLinkNest a x b n d h).before args U = true := va_Nw.use rfl (hN.1 _ (List.mem_of_getElem? hi))
theorem nM {U : State} {args : Array Value} {a h : String} {y : MethodName} {x : Nat} (hN : NW U) (i : Nat) (hi : nestM[i]? = some (a, x, y, h)) : (Cond.methodLinkNest a x y h).before args U = true := va_Nw.use rfl (hN.2 _ (List.mem_of_getElem? hi))
