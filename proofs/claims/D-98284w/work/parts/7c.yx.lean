/-! RAW WORLDS: a text being read; calls and ends that may throw the fault's object -/
set_option maxRecDepth 100000
/-- what is leant on: the tables' words, the strings of a reader, outside the own cells -/
def rXr (a : Nat → Nat × Nat) (A : Nat → Prop) (U : State) : Prop := NW2 U ∧ rSt a A U U.heap ∧ rLk a U
theorem wXr (a : Nat → Nat × Nat) (A : Nat → Prop) : wX A (rXr a A) := ⟨fun u U hvm hh h => by
    have ha : u.vm.Alike U.vm := by rw [hvm]; exact Vm.Alike.refl _
    exact ⟨h.1.same hvm, ⟨fun i hi => by rw [hh]; exact (h.2.1.1 i hi).moved ha, by rw [hh]; exact h.2.1.2.moved ha⟩, h.2.2.same hvm⟩,
  fun s U H locs h hS hU hW => ⟨h.1.warm hW, ⟨fun i hi => by rw [hU]; exact ((h.2.1.1 i hi).kept hS.2.1).moved hW.alike, by rw [hU]; exact (h.2.1.2.kept hS.2.1).moved hW.alike⟩, h.2.2.warm hW⟩⟩
/-- in a call: the same outside fewer cells -/
theorem rXr.call {a : Nat → Nat × Nat} {A A1 : Nat → Prop} {s U : State} {H : Heap} {locs : List Loc} (h : rXr a A s) (hS : va_S A s.heap H locs) (hA : ∀ q, A1 q → A q) (hU : U.heap = H) (hW : s.WarmedH U.vm) : rXr a A1 U := by
  have h := (wXr a A).2 s U H locs h hS hU hW
  exact ⟨h.1, ⟨fun i hi => (h.2.1.1 i hi).narrow hA, h.2.1.2.narrow hA⟩, h.2.2⟩
theorem rA_iff (g : GR) (σ : MS × MS) (q : Nat) : rA g q ↔ ∃ (k : Nat) (e : va_E), (rw_ g σ)[k]? = some (q, e) := by
  have e : (rw_ g (m00, m00)).map Prod.fst = (rw_ g σ).map Prod.fst := rfl
  have z : ∀ (x y : va_W), x.map Prod.fst = y.map Prod.fst → (∃ (k : Nat) (e : va_E), x[k]? = some (q, e)) → ∃ (k : Nat) (e : va_E), y[k]? = some (q, e) := by
    rintro x y h ⟨k, e, hk⟩
    have h1 : (y.map Prod.fst)[k]? = some q := by rw [← h, List.getElem?_map, hk]; rfl
    rw [List.getElem?_map] at h1
    cases hy : y[k]? with
    | none => rw [hy] at h1; cases h1
    | some q' => rw [hy] at h1; exact ⟨k, q'.2, by rw [hy]; exact congrArg some (Prod.ext (Option.some.inj h1) rfl)⟩
  exact ⟨z _ _ e, z _ _ e.symm⟩
/-- what a call in the reader's own world leans on, out of the raw one -/
theorem rX_of {g : GR} {σ : MS × MS} {A : Nat → Prop} {R1 fz : va_W} {s : State} {H : Heap} {locs : List Loc} (hf : fzT fz g.1) (hz : ∀ q ∈ rfz g, q ∈ fz) (hN : rXr g.2.2.2.1 A s) (hS : va_S A s.heap H locs) (hP : va_P g.1.1 vwCl (rw_ g σ ++ (R1 ++ fz)) H) (hD : va_D A (rw_ g σ ++ (R1 ++ fz))) : ∀ U : State, U.heap = H → s.WarmedH U.vm → rX g U := fun U hU hW => by
  have hAA : ∀ q, rA g q → A q := fun q hq => by
    obtain ⟨k, e, hk⟩ := (rA_iff g σ q).mp hq
    exact (va_DappL hD).2 k (q, e) hk
  have h := rXr.call hN hS hAA hU hW
  have hP2 : va_P g.1.1 vwCl ((rw_ g σ ++ R1) ++ fz) H := by rw [List.append_assoc]; exact hP
  have hD2 : va_D A ((rw_ g σ ++ R1) ++ fz) := by rw [List.append_assoc]; exact hD
  have hA2 : ∀ q, rA g q → ∃ (k : Nat) (e : va_E), (rw_ g σ ++ R1)[k]? = some (q, e) := fun q hq => by
    obtain ⟨k, e, hk⟩ := (rA_iff g σ q).mp hq
    exact ⟨k, e, by rw [List.getElem?_append_left (List.getElem?_eq_some_iff.mp hk).1]; exact hk⟩
  have hz2 := zF_of hP2 hD2 hA2
  refine ⟨⟨⟨?_, h.1.1⟩, ?_⟩, h.2⟩
  · rw [hU]; exact tF_of hf hP2 hD2 hA2
  · rw [hU]
    refine ⟨va_P_iff.mpr (fun q hq => va_P_iff.mp hz2.1 q (hz q hq)), fun k q hk => ?_⟩
    obtain ⟨j, hj⟩ := List.getElem?_of_mem (hz q (List.mem_of_getElem? hk))
    exact hz2.2 j q hj
/-- the fault's object thrown, in a raw world -/
abbrev yXX (D : va_G) (tys : List (ClassId × FieldType)) (X : State → Prop) (A : Nat → Prop) (aX : Nat) {Su : Type} (px : Su → Prop) (cf : Su → va_W) : String → Nat → State → State → Prop := vx_X px (fun Ex q u t => (Ex = RX2 ∧ q = aX) ∧ yB D tys X A cf u t) A
theorem met_YX {l : Launch} {y : MethodName} {cc : ByteArray} {maxL : Nat} {ret : Option FieldType} {rm : Room} {D : va_G} {tys : List (ClassId × FieldType)} {X : State → Prop} {k : Nat} {ws : va_W} {As : List Value} {Qc : Array Value → State → Outcome → State → Prop} {XC : String → Nat → State → State → Prop} {mc ms : Nat} (own : String) (hy : plainName y.cls = true) (hyo : y.cls = own) (hlen : (lg_sl As).length ≤ maxL)
    (body : ∀ (p : Program) (e : Env) (s : State) (m : MethodId) (args : Array Value) (below : List Frame) (meth : Method) (c : Code), wC (dW D tys (va_A ws k) X) own p s m args c cc maxL → meth.sig.returnType = ret → meth.locks = false → (∀ x ∈ c.exceptionTable.toList, False) → va_P D vwCl ws s.heap → va_D (va_A ws k) ws → k ≤ s.heap.size → ∀ ls : Array Slot, lv_has ls maxL (lv_args 0 As) → W p l e rm s m args below meth c s.heap [] 0 0 (vx_MQ below Qc XC args s mc ms (va_A ws k)) (F0 m 0 ls [])) : vx_Met l y (ws_ y cc maxL ret) rm (yPc D tys X k ws As) Qc XC mc ms (va_A ws k) := by
  refine vx_ofW (cc := cc) (maxL := maxL) (ret := ret) hy rfl ?_
  intro p e s m args below meth c s₁ B0 hml htab hv
  obtain ⟨rfl, hB, hk⟩ := hv
  have hts := atoms_spec (ws := ws_ y cc maxL ret) B0.pre
  have hts : ∀ w ∈ lw_all, w.before _ s = true := fun w h => hts w (List.mem_cons_of_mem _ h)
  have hown : s.vm.findClass own = some m.cls := by rw [← hyo]; exact findClass_of_methodNamed B0.named
  have hl := lv_entry As hlen
  rw [lg_entry_eq]
  exact body p e s m _ below meth c ⟨⟨B0.exec, B0.bytes, hml, hown, hts⟩, hB.2.1, hB.2.2.2.1⟩ B0.returns B0.notSynchronized htab hB.1 hB.2.2.1 hk _ hl
section YX
variable {S Su : Type} {p : Program} {l : Launch} {e : Env} {R : Room} {s : State} {m : MethodId} {args : Array Value} {below : List Frame} {meth : Method} {c : Code} {H : Heap} {locs : List Loc} {cells slots : Nat} {Q : State → Prop}
variable {cc : ByteArray} {nL pc : Nat} {ls : Array Slot} {rest st0 : List Value} {own : String} {D : va_G} {tys : List (ClassId × FieldType)} {X : State → Prop} {A : Nat → Prop} {Rw : va_W} {cf : Su → va_W}
theorem yx_out {Qc : Array Value → State → Outcome → State → Prop} {px : Su → Prop} {aX q0 : Nat} {fs : List Value} {mc ms : Nat} (u : Su) (hX : wX A X) (C : wC (dW D tys A X) own p s m args c cc nL) (hP : va_P D vwCl (cf u) H) (hD : va_D A (cf u)) (hS : va_S A s.heap H locs) (htab : ∀ x ∈ c.exceptionTable.toList, False) (hlocks : meth.locks = false) (hp : px u) (hq : (cf u)[q0]? = some (aX, .inr (2, fs))) (hcm : cells ≤ mc) (hsm : slots ≤ ms) : vx_W p l e R s m args below meth c H locs cells slots (vx_MQ below Qc (yXX D tys X A aX px cf) args s mc ms A) (F0 m pc ls rest) aX := by
  obtain ⟨cell, g1, g2, g3⟩ := va_recv C.2.1 hP (ci := 2) (q0 := q0) (q := (RX2, TX2, 8)) (a := aX) (fs := fs) rfl hq
  have hv : cell.vm = .none := by
    obtain ⟨q', h1, cell', e1, e2, e3, -⟩ := hP q0 (aX, .inr (2, fs)) hq
    rw [g1] at e1
    cases e1
    exact e3
  exact vx_out (E := RX2) (fun x hx => absurd hx (htab x)) hlocks g1 hv g3 (fun t ht hW => ⟨u, hp, ⟨⟨rfl, rfl⟩, by rw [ht]; exact hP, va_K.moved hW.alike C.2.1, hD, hX.2 s t H locs C.2.2 hS ht hW, trivial⟩, hS.F ht⟩) hS.2.2 hcm hsm
theorem yx_calli {y : MethodName} {bytes : ByteArray} {maxL idx a aX ci q0 : Nat} {Cn : String} {T : u_T} {N : Nat} {fs : List Value} {rm : Room} {d : WD S} {σ S1 : S} {b : Bool} {F : Int32} {E : S → Int32 → Prop} {As : List Value} (n : Nat) (hX : wX d.2.2.2.1 d.2.2.2.2.1) (hD1 : d.1 = D) (hA : ∀ q, d.2.2.2.1 q ↔ ∃ (k : Nat) (e : va_E), (d.2.1 σ)[k]? = some (q, e)) (C : wC (dW D tys A X) own p s m args c cc nL) (hK1 : va_K D vwCl d.2.2.1 s) (hP : va_P D vwCl (d.2.1 σ ++ Rw) H) (hD : va_D A (d.2.1 σ ++ Rw)) (hS : va_S A s.heap H locs) (hXU : ∀ U : State, U.heap = H → s.WarmedH U.vm → d.2.2.2.2.1 U) (hPs : d.2.2.2.2.2 σ) (hM : vx_Met l y (ws_ y bytes maxL (some .int)) rm (va_Pc (.ref a :: As) (wU d σ)) (va_Qi (fun r u => b = false ∧ ((u = S1 ∧ r = F) ∧ E u r)) (wU d) d.2.2.2.1) (vx_X (fun u => b = true ∧ u = S1) (fun Ex q u t => (Ex = RX2 ∧ q = aX) ∧ wU d u t) d.2.2.2.1) 0 0 d.2.2.2.1) (hG : GoodIn lw_all (wsV own idx Cn y (ws_ y bytes maxL (some .int)))) (hrc : rm.cells = 0) (hrs : rm.slots = 0)
    (hce : vwCl[ci]? = some (Cn, T, N)) (hre : (d.2.1 σ)[q0]? = some (a, .inr (ci, fs))) (hd : y.cls = Cn ∧ y.cls ≠ "java/lang/invoke/MethodHandle" ∧ y.cls ≠ "java/lang/invoke/VarHandle" ∧ (parseMethodDescriptor y.desc).map (fun d => d.parameters.length) = some n) (hR : rm.frames + 1 ≤ R.frames ∧ 8 + (maxL + 11) + rm.locals ≤ R.locals) (hn : As.length = n) (hls : ls.size = nL) (hst : st0 = As.reverse ++ .ref a :: rest) (hW : (rest.map fun v => v.category).sum ≤ 8) (hcs : cells ≤ R.cells ∧ slots ≤ R.slots) (hdg : decode cc pc = .ok (.invokevirtual idx, 3))
    (kx : ∀ (σ1 : S) (H1 : Heap) (locs1 : List Loc), b = true → σ1 = S1 → d.2.2.2.2.2 σ1 → va_P D vwCl (d.2.1 σ1 ++ Rw) H1 → va_D A (d.2.1 σ1 ++ Rw) → va_S A s.heap H1 locs1 → vx_W p l e R s m args below meth c H1 locs1 cells slots Q (F0 m pc ls rest) aX)
    (kk : ∀ (r : Int32) (σ1 : S) (H1 : Heap) (locs1 : List Loc), b = false → σ1 = S1 → r = F → E σ1 r → d.2.2.2.2.2 σ1 → va_P D vwCl (d.2.1 σ1 ++ Rw) H1 → va_D A (d.2.1 σ1 ++ Rw) → va_S A s.heap H1 locs1 → W p l e R s m args below meth c H1 locs1 cells slots Q (F0 m (pc + 3) ls (.int r :: rest))) : W p l e R s m args below meth c H locs cells slots Q (F0 m pc ls st0) := by
  have hAA := yw_A (H0 := H) hD hA
  have hpre := yw_pre (As := .ref a :: As) hX hD1 hK1 hP hD hA hXU hPs
  exact vx_calli (vx_runV (As := As) (rest := rest) C.1 hM (cwV n C.1.2.2.2.2 hG rfl hrc hrs hd hR) ⟨hpre.1, va_recv C.2.1 (va_PappL hP) (ci := ci) (q0 := q0) hce hre, hpre.2⟩ rfl hn hls hst (lv_room hW) hdg hcs) hS (fun q _ h => hAA.2 q h) hAA.2 (fun q _ h => hAA.2 q h)
    (fun E9 ce q9 u t H1 locs1 ht _ hp hB hz hk hS1 _ _ _ => by
      obtain ⟨⟨_, e9⟩, hB⟩ := hB
      subst e9
      have hB1 : va_P D vwCl (d.2.1 u) H1 := by rw [← ht, ← hD1]; exact hB.1
      obtain ⟨a1, a2⟩ := va_front hP hD hk hAA.1 hAA.2 hB1 hB.2.2.1
      exact kx u H1 locs1 hp.1 hp.2 hB.2.2.2.2 a1 a2 hS1)
    (fun r u t H1 locs1 ht _ hp hB hz hk hS1 => by
      have hB1 : va_P D vwCl (d.2.1 u) H1 := by rw [← ht, ← hD1]; exact hB.1
      obtain ⟨a1, a2⟩ := va_front hP hD hk hAA.1 hAA.2 hB1 hB.2.2.1
      exact kk r u H1 locs1 hp.1 hp.2.1.1 hp.2.1.2 hp.2.2 hB.2.2.2.2 a1 a2 hS1)
theorem yx_calll {y : MethodName} {bytes : ByteArray} {maxL idx a aX ci q0 : Nat} {Cn : String} {T : u_T} {N : Nat} {fs : List Value} {rm : Room} {d : WD S} {σ S1 : S} {b : Bool} {F : Int64} {E : S → Int64 → Prop} {As : List Value} (n : Nat) (hX : wX d.2.2.2.1 d.2.2.2.2.1) (hD1 : d.1 = D) (hA : ∀ q, d.2.2.2.1 q ↔ ∃ (k : Nat) (e : va_E), (d.2.1 σ)[k]? = some (q, e)) (C : wC (dW D tys A X) own p s m args c cc nL) (hK1 : va_K D vwCl d.2.2.1 s) (hP : va_P D vwCl (d.2.1 σ ++ Rw) H) (hD : va_D A (d.2.1 σ ++ Rw)) (hS : va_S A s.heap H locs) (hXU : ∀ U : State, U.heap = H → s.WarmedH U.vm → d.2.2.2.2.1 U) (hPs : d.2.2.2.2.2 σ) (hM : vx_Met l y (ws_ y bytes maxL (some .long)) rm (va_Pc (.ref a :: As) (wU d σ)) (va_Ql (fun r u => b = false ∧ ((u = S1 ∧ r = F) ∧ E u r)) (wU d) d.2.2.2.1) (vx_X (fun u => b = true ∧ u = S1) (fun Ex q u t => (Ex = RX2 ∧ q = aX) ∧ wU d u t) d.2.2.2.1) 0 0 d.2.2.2.1) (hG : GoodIn lw_all (wsV own idx Cn y (ws_ y bytes maxL (some .long)))) (hrc : rm.cells = 0) (hrs : rm.slots = 0)
    (hce : vwCl[ci]? = some (Cn, T, N)) (hre : (d.2.1 σ)[q0]? = some (a, .inr (ci, fs))) (hd : y.cls = Cn ∧ y.cls ≠ "java/lang/invoke/MethodHandle" ∧ y.cls ≠ "java/lang/invoke/VarHandle" ∧ (parseMethodDescriptor y.desc).map (fun d => d.parameters.length) = some n) (hR : rm.frames + 1 ≤ R.frames ∧ 8 + (maxL + 11) + rm.locals ≤ R.locals) (hn : As.length = n) (hls : ls.size = nL) (hst : st0 = As.reverse ++ .ref a :: rest) (hW : (rest.map fun v => v.category).sum ≤ 8) (hcs : cells ≤ R.cells ∧ slots ≤ R.slots) (hdg : decode cc pc = .ok (.invokevirtual idx, 3))
    (kx : ∀ (σ1 : S) (H1 : Heap) (locs1 : List Loc), b = true → σ1 = S1 → d.2.2.2.2.2 σ1 → va_P D vwCl (d.2.1 σ1 ++ Rw) H1 → va_D A (d.2.1 σ1 ++ Rw) → va_S A s.heap H1 locs1 → vx_W p l e R s m args below meth c H1 locs1 cells slots Q (F0 m pc ls rest) aX)
    (kk : ∀ (r : Int64) (σ1 : S) (H1 : Heap) (locs1 : List Loc), b = false → σ1 = S1 → r = F → E σ1 r → d.2.2.2.2.2 σ1 → va_P D vwCl (d.2.1 σ1 ++ Rw) H1 → va_D A (d.2.1 σ1 ++ Rw) → va_S A s.heap H1 locs1 → W p l e R s m args below meth c H1 locs1 cells slots Q (F0 m (pc + 3) ls (.long r :: rest))) : W p l e R s m args below meth c H locs cells slots Q (F0 m pc ls st0) := by
  have hAA := yw_A (H0 := H) hD hA
  have hpre := yw_pre (As := .ref a :: As) hX hD1 hK1 hP hD hA hXU hPs
  exact vx_calll (vx_runV (As := As) (rest := rest) C.1 hM (cwV n C.1.2.2.2.2 hG rfl hrc hrs hd hR) ⟨hpre.1, va_recv C.2.1 (va_PappL hP) (ci := ci) (q0 := q0) hce hre, hpre.2⟩ rfl hn hls hst (lv_room hW) hdg hcs) hS (fun q _ h => hAA.2 q h) hAA.2 (fun q _ h => hAA.2 q h)
    (fun E9 ce q9 u t H1 locs1 ht _ hp hB hz hk hS1 _ _ _ => by
      obtain ⟨⟨_, e9⟩, hB⟩ := hB
      subst e9
      have hB1 : va_P D vwCl (d.2.1 u) H1 := by rw [← ht, ← hD1]; exact hB.1
      obtain ⟨a1, a2⟩ := va_front hP hD hk hAA.1 hAA.2 hB1 hB.2.2.1
      exact kx u H1 locs1 hp.1 hp.2 hB.2.2.2.2 a1 a2 hS1)
    (fun r u t H1 locs1 ht _ hp hB hz hk hS1 => by
      have hB1 : va_P D vwCl (d.2.1 u) H1 := by rw [← ht, ← hD1]; exact hB.1
      obtain ⟨a1, a2⟩ := va_front hP hD hk hAA.1 hAA.2 hB1 hB.2.2.1
      exact kk r u H1 locs1 hp.1 hp.2.1.1 hp.2.1.2 hp.2.2 hB.2.2.2.2 a1 a2 hS1)
theorem yx_callv {y : MethodName} {bytes : ByteArray} {maxL idx a aX ci q0 : Nat} {Cn : String} {T : u_T} {N : Nat} {fs : List Value} {rm : Room} {d : WD S} {σ S1 : S} {b : Bool} {E : S → Prop} {As : List Value} (n : Nat) (hX : wX d.2.2.2.1 d.2.2.2.2.1) (hD1 : d.1 = D) (hA : ∀ q, d.2.2.2.1 q ↔ ∃ (k : Nat) (e : va_E), (d.2.1 σ)[k]? = some (q, e)) (C : wC (dW D tys A X) own p s m args c cc nL) (hK1 : va_K D vwCl d.2.2.1 s) (hP : va_P D vwCl (d.2.1 σ ++ Rw) H) (hD : va_D A (d.2.1 σ ++ Rw)) (hS : va_S A s.heap H locs) (hXU : ∀ U : State, U.heap = H → s.WarmedH U.vm → d.2.2.2.2.1 U) (hPs : d.2.2.2.2.2 σ) (hM : vx_Met l y (ws_ y bytes maxL none) rm (va_Pc (.ref a :: As) (wU d σ)) (va_Qv (fun u => b = false ∧ (u = S1 ∧ E u)) (wU d) d.2.2.2.1) (vx_X (fun u => b = true ∧ u = S1) (fun Ex q u t => (Ex = RX2 ∧ q = aX) ∧ wU d u t) d.2.2.2.1) 0 0 d.2.2.2.1) (hG : GoodIn lw_all (wsV own idx Cn y (ws_ y bytes maxL none))) (hrc : rm.cells = 0) (hrs : rm.slots = 0)
    (hce : vwCl[ci]? = some (Cn, T, N)) (hre : (d.2.1 σ)[q0]? = some (a, .inr (ci, fs))) (hd : y.cls = Cn ∧ y.cls ≠ "java/lang/invoke/MethodHandle" ∧ y.cls ≠ "java/lang/invoke/VarHandle" ∧ (parseMethodDescriptor y.desc).map (fun d => d.parameters.length) = some n) (hR : rm.frames + 1 ≤ R.frames ∧ 8 + (maxL + 11) + rm.locals ≤ R.locals) (hn : As.length = n) (hls : ls.size = nL) (hst : st0 = As.reverse ++ .ref a :: rest) (hW : (rest.map fun v => v.category).sum ≤ 8) (hcs : cells ≤ R.cells ∧ slots ≤ R.slots) (hdg : decode cc pc = .ok (.invokevirtual idx, 3))
    (kx : ∀ (σ1 : S) (H1 : Heap) (locs1 : List Loc), b = true → σ1 = S1 → d.2.2.2.2.2 σ1 → va_P D vwCl (d.2.1 σ1 ++ Rw) H1 → va_D A (d.2.1 σ1 ++ Rw) → va_S A s.heap H1 locs1 → vx_W p l e R s m args below meth c H1 locs1 cells slots Q (F0 m pc ls rest) aX)
    (kk : ∀ (σ1 : S) (H1 : Heap) (locs1 : List Loc), b = false → σ1 = S1 → E σ1 → d.2.2.2.2.2 σ1 → va_P D vwCl (d.2.1 σ1 ++ Rw) H1 → va_D A (d.2.1 σ1 ++ Rw) → va_S A s.heap H1 locs1 → W p l e R s m args below meth c H1 locs1 cells slots Q (F0 m (pc + 3) ls rest)) : W p l e R s m args below meth c H locs cells slots Q (F0 m pc ls st0) := by
  have hAA := yw_A (H0 := H) hD hA
  have hpre := yw_pre (As := .ref a :: As) hX hD1 hK1 hP hD hA hXU hPs
  exact vx_callv (vx_runV (As := As) (rest := rest) C.1 hM (cwV n C.1.2.2.2.2 hG rfl hrc hrs hd hR) ⟨hpre.1, va_recv C.2.1 (va_PappL hP) (ci := ci) (q0 := q0) hce hre, hpre.2⟩ rfl hn hls hst (lv_room hW) hdg hcs) hS (fun q _ h => hAA.2 q h) hAA.2 (fun q _ h => hAA.2 q h)
    (fun E9 ce q9 u t H1 locs1 ht _ hp hB hz hk hS1 _ _ _ => by
      obtain ⟨⟨_, e9⟩, hB⟩ := hB
      subst e9
      have hB1 : va_P D vwCl (d.2.1 u) H1 := by rw [← ht, ← hD1]; exact hB.1
      obtain ⟨a1, a2⟩ := va_front hP hD hk hAA.1 hAA.2 hB1 hB.2.2.1
      exact kx u H1 locs1 hp.1 hp.2 hB.2.2.2.2 a1 a2 hS1)
    (fun u t H1 locs1 ht _ hp hB hz hk hS1 => by
      have hB1 : va_P D vwCl (d.2.1 u) H1 := by rw [← ht, ← hD1]; exact hB.1
      obtain ⟨a1, a2⟩ := va_front hP hD hk hAA.1 hAA.2 hB1 hB.2.2.1
      exact kk u H1 locs1 hp.1 hp.2.1 hp.2.2 hB.2.2.2.2 a1 a2 hS1)
/-- a call that answers a cell of its world -/
theorem yx_callq {y : MethodName} {bytes : ByteArray} {maxL idx a b ci q0 : Nat} {Cn D9 : String} {T : u_T} {N : Nat} {fs : List Value} {rm : Room} {d : WD S} {σ S1 : S} {As : List Value} (n : Nat) (hX : wX d.2.2.2.1 d.2.2.2.2.1) (hD1 : d.1 = D) (hA : ∀ q, d.2.2.2.1 q ↔ ∃ (k : Nat) (e : va_E), (d.2.1 σ)[k]? = some (q, e)) (C : wC (dW D tys A X) own p s m args c cc nL) (hK1 : va_K D vwCl d.2.2.1 s) (hP : va_P D vwCl (d.2.1 σ ++ Rw) H) (hD : va_D A (d.2.1 σ ++ Rw)) (hS : va_S A s.heap H locs) (hXU : ∀ U : State, U.heap = H → s.WarmedH U.vm → d.2.2.2.2.1 U) (hPs : d.2.2.2.2.2 σ) (hM : Met l y (ws_ y bytes maxL (some (.object D9))) rm (wPc d a σ As) (va_Qr (fun u => u = S1) (fun u c U => wU d u U ∧ c = b) d.2.2.2.1) 0 0 d.2.2.2.1) (hG : GoodIn lw_all (wsV own idx Cn y (ws_ y bytes maxL (some (.object D9))))) (hrc : rm.cells = 0) (hrs : rm.slots = 0)
    (hce : vwCl[ci]? = some (Cn, T, N)) (hre : (d.2.1 σ)[q0]? = some (a, .inr (ci, fs))) (hd : y.cls = Cn ∧ y.cls ≠ "java/lang/invoke/MethodHandle" ∧ y.cls ≠ "java/lang/invoke/VarHandle" ∧ (parseMethodDescriptor y.desc).map (fun d => d.parameters.length) = some n) (hR : rm.frames + 1 ≤ R.frames ∧ 8 + (maxL + 11) + rm.locals ≤ R.locals) (hn : As.length = n) (hls : ls.size = nL) (hst : st0 = As.reverse ++ .ref a :: rest) (hW : (rest.map fun v => v.category).sum ≤ 8) (hcs : cells ≤ R.cells ∧ slots ≤ R.slots) (hdg : decode cc pc = .ok (.invokevirtual idx, 3))
    (kk : ∀ (σ1 : S) (H1 : Heap) (locs1 : List Loc), σ1 = S1 → d.2.2.2.2.2 σ1 → va_P D vwCl (d.2.1 σ1 ++ Rw) H1 → va_D A (d.2.1 σ1 ++ Rw) → va_S A s.heap H1 locs1 → W p l e R s m args below meth c H1 locs1 cells slots Q (F0 m (pc + 3) ls (.ref b :: rest))) : W p l e R s m args below meth c H locs cells slots Q (F0 m pc ls st0) := by
  have hAA := yw_A (H0 := H) hD hA
  have hpre := yw_pre (As := .ref a :: As) hX hD1 hK1 hP hD hA hXU hPs
  exact va_callr (va_runV (As := As) (rest := rest) C.1 hM (cwV n C.1.2.2.2.2 hG rfl hrc hrs hd hR) ⟨hpre.1, va_recv C.2.1 (va_PappL hP) (ci := ci) (q0 := q0) hce hre, hpre.2⟩ rfl hn hls hst (lv_room hW) hdg hcs) hS (fun q _ h => hAA.2 q h) hAA.2 (fun u ra t H1 locs1 ht _ hp hB hz hk hS1 => by
    obtain ⟨hB, rfl⟩ := hB
    have hB1 : va_P D vwCl (d.2.1 u) H1 := by rw [← ht, ← hD1]; exact hB.1
    obtain ⟨a1, a2⟩ := va_front hP hD hk hAA.1 hAA.2 hB1 hB.2.2.1
    exact kk u H1 locs1 hp hB.2.2.2.2 a1 a2 hS1)
/-- a call that answers a cell, or throws -/
theorem vx_callr9 {S9 SX : Type} {A0 A1 AX free : Nat → Prop} {H0 : Heap} {a : Array Value} {mc ms : Nat} {post : S9 → Prop} {px : SX → Prop} {B : S9 → Nat → State → Prop} {BX : String → Nat → SX → State → Prop} (hr : vx_Run p l e R s m args below meth c H locs cells slots mc ms (F0 m pc ls st0) rest (va_Qr post B A1 a) (vx_X px BX AX) free) (hS : va_S A0 H0 H locs) (hA : ∀ q, q < H.size → A1 q → A0 q) (hf : ∀ q, free q → A0 q) (hAX : ∀ q, q < H.size → AX q → A0 q)
    (kx : ∀ (E : String) (ce : Cell) (q9 : Addr) (u : SX) (t : State) (H1 : Heap) (locs1 : List Loc), t.heap = H1 → s.vm.Alike t.vm → px u → BX E q9 u t → H.size ≤ H1.size → (∀ q : Nat, q < H.size → ¬ AX q → H1[q]? = H[q]?) → va_S A0 H0 H1 locs1 → H1[q9]? = some ce → ce.vm = .none → s.vm.findClass E = some ce.cls → vx_W p l e R s m args below meth c H1 locs1 (cells + mc) (slots + ms) Q (F0 m pc ls rest) q9)
    (kk : ∀ (u : S9) (ra : Nat) (t : State) (H1 : Heap) (locs1 : List Loc), t.heap = H1 → s.vm.Alike t.vm → post u → B u ra t → H.size ≤ H1.size → (∀ q : Nat, q < H.size → ¬ A1 q → H1[q]? = H[q]?) → va_S A0 H0 H1 locs1 → W p l e R s m args below meth c H1 locs1 (cells + mc) (slots + ms) Q (F0 m (pc + 3) ls (.ref ra :: rest))) : W p l e R s m args below meth c H locs cells slots Q (F0 m pc ls st0) := by
  intro T hT X
  rcases hr T hT X with ⟨v, st₀, t, T', L, h0, X', hL, e1, e2, ⟨⟨u, ra, hv, hp, hb⟩, hF⟩, st⟩ | ⟨q, st₀, t, T', L, E, ce, h0, X', hL, e1, e2, ⟨u, hp, hb, hF⟩, hce, hcv, hcl, st⟩
  · cases hv
    obtain ⟨k1, k2, k3⟩ := vx_keep h0 e1 hS hA hf hL hF
    obtain ⟨t2, a1, b1⟩ := kk u ra t T'.heap (locs ++ L) e1.symm (by rw [← e2]; exact X'.warmed.alike) hp hb k1 k2 k3 T' rfl X'
    exact ⟨t2, st t2 a1, b1⟩
  · obtain ⟨k1, k2, k3⟩ := vx_keep h0 e1 hS hAX hf hL hF
    obtain ⟨t2, a1, b1⟩ := kx E ce q u t T'.heap (locs ++ L) e1.symm (by rw [← e2]; exact X'.warmed.alike) hp hb k1 k2 k3 (by rw [e1]; exact hce) hcv hcl T' rfl X'
    exact ⟨t2, st.trans a1, b1⟩
/-- a call from a raw world into a raw one, which may throw -/
theorem y_xcallv {SX : Type} {X1 : State → Prop} {A1 : Nat → Prop} {P : va_W} {a : Array Value} {mc ms aX : Nat} {post : Su → Prop} {px : SX → Prop} {cfx : SX → va_W} (hr : vx_Run p l e R s m args below meth c H locs cells slots mc ms (F0 m pc ls st0) rest (va_Qv post (yB D tys X1 A1 cf) A1 a) (yXX D tys X1 A1 aX px cfx) A1) (hP : va_P D vwCl (P ++ Rw) H) (hD : va_D A (P ++ Rw)) (hS : va_S A s.heap H locs) (hA1 : ∀ q, A1 q → va_A P H.size q) (hA0 : ∀ q, A1 q → A q)
    (kx : ∀ (u : SX) (H1 : Heap) (locs1 : List Loc), px u → va_P D vwCl (cfx u ++ Rw) H1 → va_D A (cfx u ++ Rw) → va_S A s.heap H1 locs1 → H.size ≤ H1.size → vx_W p l e R s m args below meth c H1 locs1 (cells + mc) (slots + ms) Q (F0 m pc ls rest) aX)
    (kk : ∀ (u : Su) (H1 : Heap) (locs1 : List Loc), post u → va_P D vwCl (cf u ++ Rw) H1 → va_D A (cf u ++ Rw) → va_S A s.heap H1 locs1 → H.size ≤ H1.size → W p l e R s m args below meth c H1 locs1 (cells + mc) (slots + ms) Q (F0 m (pc + 3) ls rest)) : W p l e R s m args below meth c H locs cells slots Q (F0 m pc ls st0) :=
  vx_callv hr hS (fun q _ h => hA0 q h) hA0 (fun q _ h => hA0 q h)
    (fun E9 ce q9 u t H1 locs1 ht _ hp hB hz hk hS1 _ _ _ => by
      obtain ⟨⟨_, e9⟩, hB⟩ := hB
      subst e9
      have hB1 : va_P D vwCl (cfx u) H1 := by rw [← ht]; exact hB.1
      obtain ⟨a1, a2⟩ := va_front hP hD hk hA1 hA0 hB1 hB.2.2.1
      exact kx u H1 locs1 hp a1 a2 hS1 hz)
    (fun u t H1 locs1 ht _ hp hB hz hk hS1 => by
      have hB1 : va_P D vwCl (cf u) H1 := by rw [← ht]; exact hB.1
      obtain ⟨a1, a2⟩ := va_front hP hD hk hA1 hA0 hB1 hB.2.2.1
      exact kk u H1 locs1 hp a1 a2 hS1 hz)
/-- the same where the answer is a cell -/
theorem y_xcallr {SX : Type} {X1 : State → Prop} {A1 : Nat → Prop} {P : va_W} {a : Array Value} {mc ms aX : Nat} {post : Su → Prop} {px : SX → Prop} {cfx : SX → va_W} {ad : Su → Nat} (hr : vx_Run p l e R s m args below meth c H locs cells slots mc ms (F0 m pc ls st0) rest (va_Qr post (fun u b U => b = ad u ∧ yB D tys X1 A1 cf u U) A1 a) (yXX D tys X1 A1 aX px cfx) A1) (hP : va_P D vwCl (P ++ Rw) H) (hD : va_D A (P ++ Rw)) (hS : va_S A s.heap H locs) (hA1 : ∀ q, A1 q → va_A P H.size q) (hA0 : ∀ q, A1 q → A q)
    (kx : ∀ (u : SX) (H1 : Heap) (locs1 : List Loc), px u → va_P D vwCl (cfx u ++ Rw) H1 → va_D A (cfx u ++ Rw) → va_S A s.heap H1 locs1 → H.size ≤ H1.size → vx_W p l e R s m args below meth c H1 locs1 (cells + mc) (slots + ms) Q (F0 m pc ls rest) aX)
    (kk : ∀ (u : Su) (H1 : Heap) (locs1 : List Loc), post u → va_P D vwCl (cf u ++ Rw) H1 → va_D A (cf u ++ Rw) → va_S A s.heap H1 locs1 → H.size ≤ H1.size → W p l e R s m args below meth c H1 locs1 (cells + mc) (slots + ms) Q (F0 m (pc + 3) ls (.ref (ad u) :: rest))) : W p l e R s m args below meth c H locs cells slots Q (F0 m pc ls st0) :=
  vx_callr9 hr hS (fun q _ h => hA0 q h) hA0 (fun q _ h => hA0 q h)
    (fun E9 ce q9 u t H1 locs1 ht _ hp hB hz hk hS1 _ _ _ => by
      obtain ⟨⟨_, e9⟩, hB⟩ := hB
      subst e9
      have hB1 : va_P D vwCl (cfx u) H1 := by rw [← ht]; exact hB.1
      obtain ⟨a1, a2⟩ := va_front hP hD hk hA1 hA0 hB1 hB.2.2.1
      exact kx u H1 locs1 hp a1 a2 hS1 hz)
    (fun u b t H1 locs1 ht _ hp hB hz hk hS1 => by
      obtain ⟨hb, hB⟩ := hB
      subst hb
      have hB1 : va_P D vwCl (cf u) H1 := by rw [← ht]; exact hB.1
      obtain ⟨a1, a2⟩ := va_front hP hD hk hA1 hA0 hB1 hB.2.2.1
      exact kk u H1 locs1 hp a1 a2 hS1 hz)
end YX
