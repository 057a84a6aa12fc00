/-! GENERAL: the classes that the worlds hold; pure pictures of cells; laws of small ints -/
set_option maxRecDepth 100000
abbrev vwCl : List vw_C := [(RX0, TX0, 23), (RX1, TX1, 1), (RX2, TX2, 8), (RX3, TX3, 7), (RX4, TX4, 2), (RX5, TX5, 14), (RX6, TX6, 35), (RX7, TX7, 9), (RX8, TX8, 7), (RX11, TX11, 3), (RX12, TX12, 7), (RX13, TX13, 4), (RX14, TX14, 9)]

/-- a pure picture: int fields, long fields, int (and byte) arrays, long arrays, each by its number -/
abbrev MS : Type := (Nat → Int32) × (Nat → Int64) × (Nat → Nat → Int32) × (Nat → Nat → Int64)
def gi (σ : MS) (k : Nat) : Int32 := σ.1 k
def gl (σ : MS) (k : Nat) : Int64 := σ.2.1 k
def ga (σ : MS) (k : Nat) (i : Int32) : Int32 := σ.2.2.1 k i.toNatClampNeg
def gb (σ : MS) (k : Nat) (i : Int32) : Int64 := σ.2.2.2 k i.toNatClampNeg
def si (σ : MS) (k : Nat) (v : Int32) : MS := (upd σ.1 k v, σ.2)
def sl (σ : MS) (k : Nat) (v : Int64) : MS := (σ.1, vp_updL σ.2.1 k v, σ.2.2)
def sa (σ : MS) (k : Nat) (i v : Int32) : MS := (σ.1, σ.2.1, va_up σ.2.2.1 k (upd (σ.2.2.1 k) i.toNatClampNeg v), σ.2.2.2)
def sb (σ : MS) (k : Nat) (i : Int32) (v : Int64) : MS := (σ.1, σ.2.1, σ.2.2.1, va_up σ.2.2.2 k (vp_updL (σ.2.2.2 k) i.toNatClampNeg v))
def m00 : MS := (fun _ => 0, fun _ => 0, fun _ _ => 0, fun _ _ => 0)
def jmin (x y : Int32) : Int32 := if y < x then y else x
def jmax (x y : Int32) : Int32 := if x < y then y else x
def jabs (x : Int32) : Int32 := if 0 ≤ x then x else 0 - x
def jabsL (x : Int64) : Int64 := if 0 < x then x else -x
theorem i_lit {a : Int32} {x : Int} (h : a.toInt = x) : a.toInt = x := h
theorem i_bm {x : Int} (h : -2147483648 ≤ x ∧ x < 2147483648) : x.bmod (2 ^ 32) = x := by
  rw [Int.bmod_def]; split <;> omega
theorem i_add {a b : Int32} {x y : Int} (ha : a.toInt = x) (hb : b.toInt = y) (h : -2147483648 ≤ x + y ∧ x + y < 2147483648) : (a + b).toInt = x + y := by
  rw [Int32.toInt_add, ha, hb]; exact i_bm h
theorem i_sub {a b : Int32} {x y : Int} (ha : a.toInt = x) (hb : b.toInt = y) (h : -2147483648 ≤ x - y ∧ x - y < 2147483648) : (a - b).toInt = x - y := by
  rw [Int32.toInt_sub, ha, hb]; exact i_bm h
theorem i_mul {a b : Int32} {x y : Int} (ha : a.toInt = x) (hb : b.toInt = y) (h : -2147483648 ≤ x * y ∧ x * y < 2147483648) : (a * b).toInt = x * y := by
  rw [Int32.toInt_mul, ha, hb]; exact i_bm h
theorem i_neg {a : Int32} {x : Int} (ha : a.toInt = x) (h : -2147483648 < x) : (-a).toInt = -x := by
  have h2 := Int32.toInt_lt a
  rw [Int32.toInt_neg, ha]; exact i_bm (by omega)
theorem ix_of {x : Int32} {n : Nat} {X : Int} (h : x.toInt = X) (h2 : 0 ≤ X ∧ X < (n : Int)) : vp_in x n := vp_in_iff.mpr (by rw [h]; exact h2)
theorem c_lt {x y : Int32} (h : x < y) : x.toInt < y.toInt := Int32.lt_iff_toInt_lt.mp h
theorem c_nlt {x y : Int32} (h : ¬ x < y) : y.toInt ≤ x.toInt := Int.not_lt.mp (fun q => h (Int32.lt_iff_toInt_lt.mpr q))
theorem c_le {x y : Int32} (h : x ≤ y) : x.toInt ≤ y.toInt := Int32.le_iff_toInt_le.mp h
theorem c_nle {x y : Int32} (h : ¬ x ≤ y) : y.toInt < x.toInt := Int.not_le.mp (fun q => h (Int32.le_iff_toInt_le.mpr q))
theorem c_eq {x y : Int32} (h : x = y) : x.toInt = y.toInt := congrArg _ h
theorem c_ne {x y : Int32} (h : ¬ x = y) : ¬ x.toInt = y.toInt := fun q => h (Int32.toInt_inj.mp q)
theorem b_nar {r : Int32} (h : r = 0 ∨ r = 1) : narrow .boolean (.int r) = .int r := by
  rcases h with h | h <;> subst h <;> rfl
theorem z_if {c : Prop} [Decidable c] {a b : Int32} (ha : a = 0 ∨ a = 1) (hb : b = 0 ∨ b = 1) : (if c then a else b) = 0 ∨ (if c then a else b) = 1 := by
  split
  · exact ha
  · exact hb
/-- what is known of the launch's classes, and where the cells lie: (classes, addresses by number, array classes) -/
abbrev GE : Type := va_G × (Nat → Nat) × (Nat → ClassId)

/-- a static method of ints alone: what it asks, what it answers -/
abbrev sPc (As : List Value) : Array Value → State → Prop := va_Pc As (fun _ => True)
abbrev sQi (F : Int32) : Array Value → State → Outcome → State → Prop := va_Qi (fun r (_ : Unit) => r = F) (fun _ _ => True) (fun _ => False)
abbrev sQz (F : Int32) : Array Value → State → Outcome → State → Prop := va_Qi (fun r (_ : Unit) => r = F ∧ (r = 0 ∨ r = 1)) (fun _ _ => True) (fun _ => False)
abbrev sQl (F : Int64) : Array Value → State → Outcome → State → Prop := va_Ql (fun r (_ : Unit) => r = F) (fun _ _ => True) (fun _ => False)
/-- a method's own facts -/
def FX (p : Program) (s : State) (m : MethodId) (args : Array Value) (c : Code) (cc : ByteArray) (nL : Nat) (own : String) : Prop :=
  p.tables.exec = Jvm.exec ∧ c.code = cc ∧ c.maxLocals = nL ∧ s.vm.findClass own = some m.cls ∧ ∀ w ∈ lw_all, w.before args s = true
theorem met_S {l : Launch} {y : MethodName} {cc : ByteArray} {maxL : Nat} {ret : Option FieldType} {rm : Room} {Pc : Array Value → State → Prop} {Qc : Array Value → State → Outcome → State → Prop} {mc ms : Nat} {free : Addr → Prop} {As : List Value} {B : State → Prop} (own : String) (hy : plainName y.cls = true) (hyo : y.cls = own) (hPc : Pc = va_Pc As B) (hlen : (lg_sl As).length ≤ maxL)
    (body : ∀ (p : Program) (e : Env) (s : State) (m : MethodId) (args : Array Value) (below : List Frame) (meth : Method) (c : Code), FX p s m args c cc maxL own → meth.sig.returnType = ret → meth.locks = false → meth.name = y.name → args = As.toArray → B s → ∀ ls : Array Slot, lv_has ls maxL (lv_args 0 As) → W p l e rm s m args below meth c s.heap [] 0 0 (MQ below Qc args s mc ms free) (F0 m 0 ls [])) : Met l y (ws_ y cc maxL ret) rm Pc Qc mc ms free := by
  subst hPc
  refine Met.ofW (cc := cc) (maxL := maxL) (ret := ret) hy rfl ?_
  intro p e s m args below meth c s₁ B0 hml hv
  obtain ⟨rfl, hB⟩ := hv
  have hts := atoms_spec (ws := ws_ y cc maxL ret) B0.pre
  have hts : ∀ w ∈ lw_all, w.before _ s = true := fun w h => hts w (List.mem_cons_of_mem _ h)
  have hown : s.vm.findClass own = some m.cls := by rw [← hyo]; exact findClass_of_methodNamed B0.named
  have hl := lv_entry As hlen
  rw [lg_entry_eq]
  exact body p e s m _ below meth c ⟨B0.exec, B0.bytes, hml, hown, hts⟩ B0.returns B0.notSynchronized (name_of_methodNamed B0.named B0.method).1 rfl hB _ hl
section ROWS
variable {p : Program} {l : Launch} {e : Env} {R : Room} {s : State} {m : MethodId} {args : Array Value} {below : List Frame} {meth : Method} {c : Code} {H : Heap} {locs : List Loc} {cells slots : Nat} {Q : State → Prop}
variable {cc : ByteArray} {nL pc : Nat} {ls : Array Slot} {rest st0 : List Value} {own : String} {A0 : Nat → Prop}
/-- a call of such a static method: nothing that was there changes -/
theorem s_calli {y : MethodName} {bytes : ByteArray} {maxL idx : Nat} {rt : FieldType} {rm : Room} {F : Int32} {As : List Value} (n : Nat) (C : FX p s m args c cc nL own) (hM : Met l y (ws_ y bytes maxL (some rt)) rm (sPc As) (sQi F) 0 0 (fun _ => False)) (hG : GoodIn lw_all (va_wsS own idx y (ws_ y bytes maxL (some rt)))) (hrc : rm.cells = 0) (hrs : rm.slots = 0)
    (hd : y.cls ≠ "java/lang/invoke/MethodHandle" ∧ y.cls ≠ "java/lang/invoke/VarHandle" ∧ (parseMethodDescriptor y.desc).map (fun d => d.parameters.length) = some n) (hR : rm.frames + 1 ≤ R.frames ∧ 8 + (maxL + 11) + rm.locals ≤ R.locals) (hn : As.length = n) (hls : ls.size = nL) (hst : st0 = As.reverse ++ rest) (hW : (rest.map fun v => v.category).sum ≤ 8) (hcs : cells ≤ R.cells ∧ slots ≤ R.slots) (hdg : decode cc pc = .ok (.invokestatic idx, 3)) (hS : va_S A0 s.heap H locs)
    (kk : ∀ (r : Int32) (H1 : Heap) (locs1 : List Loc), r = F → H.size ≤ H1.size → (∀ q : Nat, q < H.size → H1[q]? = H[q]?) → va_S A0 s.heap H1 locs1 → W p l e R s m args below meth c H1 locs1 cells slots Q (F0 m (pc + 3) ls (.int r :: rest))) : W p l e R s m args below meth c H locs cells slots Q (F0 m pc ls st0) :=
  va_calli (va_runS (As := As) (rest := rest) C hM (va_cwS n C.2.2.2.2 hG rfl hrc hrs hd hR) ⟨fun _ _ _ _ q => q, fun _ _ _ => ⟨rfl, trivial⟩⟩ rfl hn hls hst (lv_room hW) hdg hcs) hS (fun _ _ h => h.elim) (fun _ h => h.elim)
    (fun r _ _ H1 locs1 _ _ hp _ hz hk hS1 => kk r H1 locs1 hp hz (fun q h => hk q h (fun z => z)) hS1)
theorem s_callz {y : MethodName} {bytes : ByteArray} {maxL idx : Nat} {rt : FieldType} {rm : Room} {F : Int32} {As : List Value} (n : Nat) (C : FX p s m args c cc nL own) (hM : Met l y (ws_ y bytes maxL (some rt)) rm (sPc As) (sQz F) 0 0 (fun _ => False)) (hG : GoodIn lw_all (va_wsS own idx y (ws_ y bytes maxL (some rt)))) (hrc : rm.cells = 0) (hrs : rm.slots = 0)
    (hd : y.cls ≠ "java/lang/invoke/MethodHandle" ∧ y.cls ≠ "java/lang/invoke/VarHandle" ∧ (parseMethodDescriptor y.desc).map (fun d => d.parameters.length) = some n) (hR : rm.frames + 1 ≤ R.frames ∧ 8 + (maxL + 11) + rm.locals ≤ R.locals) (hn : As.length = n) (hls : ls.size = nL) (hst : st0 = As.reverse ++ rest) (hW : (rest.map fun v => v.category).sum ≤ 8) (hcs : cells ≤ R.cells ∧ slots ≤ R.slots) (hdg : decode cc pc = .ok (.invokestatic idx, 3)) (hS : va_S A0 s.heap H locs)
    (kk : ∀ (r : Int32) (H1 : Heap) (locs1 : List Loc), r = F → (r = 0 ∨ r = 1) → H.size ≤ H1.size → (∀ q : Nat, q < H.size → H1[q]? = H[q]?) → va_S A0 s.heap H1 locs1 → W p l e R s m args below meth c H1 locs1 cells slots Q (F0 m (pc + 3) ls (.int r :: rest))) : W p l e R s m args below meth c H locs cells slots Q (F0 m pc ls st0) :=
  va_calli (va_runS (As := As) (rest := rest) C hM (va_cwS n C.2.2.2.2 hG rfl hrc hrs hd hR) ⟨fun _ _ _ _ q => q, fun _ _ _ => ⟨rfl, trivial⟩⟩ rfl hn hls hst (lv_room hW) hdg hcs) hS (fun _ _ h => h.elim) (fun _ h => h.elim)
    (fun r _ _ H1 locs1 _ _ hp _ hz hk hS1 => kk r H1 locs1 hp.1 hp.2 hz (fun q h => hk q h (fun z => z)) hS1)
theorem s_calll {y : MethodName} {bytes : ByteArray} {maxL idx : Nat} {rt : FieldType} {rm : Room} {F : Int64} {As : List Value} (n : Nat) (C : FX p s m args c cc nL own) (hM : Met l y (ws_ y bytes maxL (some rt)) rm (sPc As) (sQl F) 0 0 (fun _ => False)) (hG : GoodIn lw_all (va_wsS own idx y (ws_ y bytes maxL (some rt)))) (hrc : rm.cells = 0) (hrs : rm.slots = 0)
    (hd : y.cls ≠ "java/lang/invoke/MethodHandle" ∧ y.cls ≠ "java/lang/invoke/VarHandle" ∧ (parseMethodDescriptor y.desc).map (fun d => d.parameters.length) = some n) (hR : rm.frames + 1 ≤ R.frames ∧ 8 + (maxL + 11) + rm.locals ≤ R.locals) (hn : As.length = n) (hls : ls.size = nL) (hst : st0 = As.reverse ++ rest) (hW : (rest.map fun v => v.category).sum ≤ 8) (hcs : cells ≤ R.cells ∧ slots ≤ R.slots) (hdg : decode cc pc = .ok (.invokestatic idx, 3)) (hS : va_S A0 s.heap H locs)
    (kk : ∀ (r : Int64) (H1 : Heap) (locs1 : List Loc), r = F → H.size ≤ H1.size → (∀ q : Nat, q < H.size → H1[q]? = H[q]?) → va_S A0 s.heap H1 locs1 → W p l e R s m args below meth c H1 locs1 cells slots Q (F0 m (pc + 3) ls (.long r :: rest))) : W p l e R s m args below meth c H locs cells slots Q (F0 m pc ls st0) :=
  va_calll (va_runS (As := As) (rest := rest) C hM (va_cwS n C.2.2.2.2 hG rfl hrc hrs hd hR) ⟨fun _ _ _ _ q => q, fun _ _ _ => ⟨rfl, trivial⟩⟩ rfl hn hls hst (lv_room hW) hdg hcs) hS (fun _ _ h => h.elim) (fun _ h => h.elim)
    (fun r _ _ H1 locs1 _ _ hp _ hz hk hS1 => kk r H1 locs1 hp hz (fun q h => hk q h (fun z => z)) hS1)
/-- ends of static methods -/
theorem s_reti {F v : Int32} (C : FX p s m args c cc nL own) (hr : meth.sig.returnType = some .int) (hlocks : meth.locks = false) (hS : va_S (fun _ => False) s.heap H locs) (he : F = v) (hdg : decode cc pc = .ok (.ireturn, 1)) : W p l e R s m args below meth c H locs cells slots (MQ below (sQi F) args s cells slots (fun _ => False)) (F0 m pc ls [.int v]) :=
  W.iret (v := v) C.1 C.2.1 hr (fun t ht _ => ⟨⟨v, (), rfl, he.symm, trivial⟩, hS.F ht⟩) hS.2.2 hdg hlocks
theorem s_retz {F v : Int32} (C : FX p s m args c cc nL own) (hr : meth.sig.returnType = some .boolean) (hlocks : meth.locks = false) (hS : va_S (fun _ => False) s.heap H locs) (he : F = v) (h01 : v = 0 ∨ v = 1) (hdg : decode cc pc = .ok (.ireturn, 1)) : W p l e R s m args below meth c H locs cells slots (MQ below (sQz F) args s cells slots (fun _ => False)) (F0 m pc ls [.int v]) :=
  W.zret (v := v) C.1 C.2.1 hr (b_nar h01) (fun t ht _ => ⟨⟨v, (), rfl, ⟨he.symm, h01⟩, trivial⟩, hS.F ht⟩) hS.2.2 hdg hlocks
theorem s_retl {F v : Int64} (C : FX p s m args c cc nL own) (hr : meth.sig.returnType = some .long) (hlocks : meth.locks = false) (hS : va_S (fun _ => False) s.heap H locs) (he : F = v) (hdg : decode cc pc = .ok (.lreturn, 1)) : W p l e R s m args below meth c H locs cells slots (MQ below (sQl F) args s cells slots (fun _ => False)) (F0 m pc ls [.long v]) :=
  W.lret (v := v) C.1 C.2.1 hr (fun t ht _ => ⟨⟨v, (), rfl, he.symm, trivial⟩, hS.F ht⟩) hS.2.2 hdg hlocks
end ROWS
