/-! RAW WORLDS: methods with handlers -/
set_option maxRecDepth 100000
theorem met_YW {l : Launch} {y : MethodName} {cc : ByteArray} {maxL : Nat} {ret : Option FieldType} {hh : List (Nat × Nat × Nat × Nat)} {rm : Room} {D : va_G} {tys : List (ClassId × FieldType)} {X : State → Prop} {k : Nat} {ws : va_W} {As : List Value} {Qc : Array Value → State → Outcome → State → Prop} {mc ms : Nat} (own : String) (hy : plainName y.cls = true) (hyo : y.cls = own) (hlen : (lg_sl As).length ≤ maxL)
    (body : ∀ (p : Program) (e : Env) (s : State) (m : MethodId) (args : Array Value) (below : List Frame) (meth : Method) (c : Code), wC (dW D tys (va_A ws k) X) own p s m args c cc maxL → meth.sig.returnType = ret → meth.locks = false → c.exceptionTable.toList = tableOf hh → va_P D vwCl ws s.heap → va_D (va_A ws k) ws → k ≤ s.heap.size → ∀ ls : Array Slot, lv_has ls maxL (lv_args 0 As) → W p l e rm s m args below meth c s.heap [] 0 0 (MQ below Qc args s mc ms (va_A ws k)) (F0 m 0 ls [])) : Met l y (wsW_ y cc maxL ret hh) rm (yPc D tys X k ws As) Qc mc ms (va_A ws k) := by
  refine va_MetW (cc := cc) (maxL := maxL) (ret := ret) (hh := hh) hy rfl ?_
  intro p e s m args below meth c s₁ B0 hml hv
  obtain ⟨rfl, hB, hk⟩ := hv
  have hts0 := atoms_spec (ws := wsW_ y cc maxL ret hh) B0.pre
  have hts : ∀ w ∈ lw_all, w.before _ s = true := fun w h => hts0 w (List.mem_cons_of_mem _ h)
  have htab := vx_table (x := y) B0 (hts0 _ List.mem_cons_self)
  have hown : s.vm.findClass own = some m.cls := by rw [← hyo]; exact findClass_of_methodNamed B0.named
  have hl := lv_entry As hlen
  rw [lg_entry_eq]
  exact body p e s m _ below meth c ⟨⟨B0.exec, B0.bytes, hml, hown, hts⟩, hB.2.1, hB.2.2.2.1⟩ B0.returns B0.notSynchronized htab hB.1 hB.2.2.1 hk _ hl
section YC
variable {p : Program} {l : Launch} {e : Env} {R : Room} {s : State} {m : MethodId} {args : Array Value} {below : List Frame} {meth : Method} {c : Code} {H : Heap} {locs : List Loc} {cells slots : Nat} {Q : State → Prop}
variable {cc : ByteArray} {nL pc : Nat} {ls : Array Slot} {rest : List Value} {own : String} {D : va_G} {tys : List (ClassId × FieldType)} {X : State → Prop} {A : Nat → Prop} {ws : va_W}
/-- a thrown cell caught by the only row of the table -/
theorem y_catch {E : String} {aX q0 ci : Nat} {T : u_T} {N : Nat} {fs : List Value} (x : ExceptionTableEntry) (C : wC (dW D tys A X) own p s m args c cc nL) (htab : c.exceptionTable.toList = [x]) (hx : covers x pc = true) (h0 : x.catchType ≠ 0) {name : String} (hlink : Cond.classLink own x.catchType name ∈ lw_all) (hcast : va_Nw (.castable E name) s) (hP : va_P D vwCl ws H) (hce : vwCl[ci]? = some (E, T, N)) (hq : ws[q0]? = some (aX, .inr (ci, fs)))
    (kk : W p l e R s m args below meth c H locs cells slots Q (F0 m x.handlerPc ls [.ref aX])) : vx_W p l e R s m args below meth c H locs cells slots Q (F0 m pc ls rest) aX := by
  obtain ⟨cell, g1, g2, g3⟩ := va_recv C.2.1 hP (ci := ci) (q0 := q0) (q := (E, T, N)) (a := aX) (fs := fs) hce hq
  have hv : cell.vm = .none := by
    obtain ⟨q', h1, cell', e1, e2, e3, -⟩ := hP q0 (aX, .inr (ci, fs)) hq
    rw [g1] at e1
    cases e1
    exact e3
  exact vx_catch C.1.2.2.2.1 [] x [] htab (fun z hz => by cases hz) hx h0 (C.1.2.2.2.2 _ hlink) (va_Nw.use rfl hcast) g1 hv g3 kk
end YC
