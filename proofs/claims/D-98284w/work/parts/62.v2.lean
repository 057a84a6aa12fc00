/-! A YEAR LIVED: blocks of steps, by the depth of what is nested -/
set_option maxRecDepth 100000
theorem lw_U {own : String} {idx : Nat} {C owner : String} {x y : MethodName} {b : ByteArray} {L : Nat} {r : Option FieldType} (h1 : Cond.methodLink own idx x ∈ lw_all) (h2 : Cond.sameMethod x.cls owner x.name x.desc ∈ lw_all) (h3 : Cond.selects C x y ∈ lw_all) (h4 : Cond.instanceMethod y ∈ lw_all) (h5 : Cond.initialized y.cls ∈ lw_all) (h6 : Cond.code y b L r ∈ lw_all) : GoodIn lw_all (va_wsU own idx C owner x y (ws_ y b L r)) := by
  unfold va_wsU
  refine lw_app (fun w hw => ?_) (lw_meth h6)
  simp only [List.mem_cons, List.not_mem_nil, or_false] at hw
  rcases hw with rfl | rfl | rfl | rfl | rfl <;> assumption
/-- a step: an act by its four ints; a loop by how often; a test by its five ints; what is within -/
abbrev ST (T : Type) : Type := (Int32 × Int32 × Int32 × Int32) ⊕ ((Int32 × T) ⊕ ((Int32 × Int32 × Int32 × Int32 × Int32) × T))
def TR : Nat → Type
  | 0 => PUnit
  | d + 1 => List (ST (TR d))
def trl {d : Nat} (t : TR (d + 1)) : List (ST (TR d)) := t
def itS (f : MS × MS → MS × MS) : Nat → MS × MS → MS × MS
  | 0, σ => σ
  | n + 1, σ => if gi (own σ) 7 = 0 then itS f n (f σ) else σ
def seqS {X : Type} (f : X → MS × MS → MS × MS) : List X → MS × MS → MS × MS
  | [], σ => σ
  | x :: t, σ => if gi (own σ) 7 = 0 then seqS f t (f x σ) else σ
def doS {T : Type} (sm : T → MS × MS → MS × MS) : ST T → MS × MS → MS × MS
  | .inl w, σ => f_X13_does σ w.1 w.2.1 w.2.2.1 w.2.2.2
  | .inr (.inl y), σ => itS (sm y.2) y.1.toNatClampNeg σ
  | .inr (.inr y), σ => if f_X12_is σ y.1.1 y.1.2.1 y.1.2.2.1 y.1.2.2.2.1 y.1.2.2.2.2 = 0 then σ else sm y.2 σ
def goS {T : Type} (sm : T → MS × MS → MS × MS) (x : ST T) (σ : MS × MS) : MS × MS :=
  if gi (own σ) 2 = 300 then lsi (lsi σ 7 1) 8 1 else doS sm x (lsi σ 2 (gi (own σ) 2 + 1))
def semT : (d : Nat) → TR d → MS × MS → MS × MS
  | 0, _, σ => σ
  | d + 1, t, σ => seqS (goS (semT d)) t σ
/-- a step's cell; what it holds -/
def stepF (cS : ClassId) (z : va_W) {T : Type} (B : (Nat → Option Nat) → Nat → T → Prop) : ST T → Nat → Prop
  | .inl w, a => ∃ ka : Nat, z[ka]? = some (a, .inr (11, [.int w.1, .int w.2.1, .int w.2.2.1, .int w.2.2.2]))
  | .inr (.inl y), a => ∃ (ka ks st n len : Nat) (f : Nat → Option Nat), z[ka]? = some (a, .inr (9, [.ref st, .int (nI n), .int y.1])) ∧ z[ks]? = some (st, .inl (cS, len, .inr (.inr (.inr (.inr f))))) ∧ (n ≤ len ∧ n ≤ 100) ∧ B f n y.2
  | .inr (.inr y), a => ∃ (ka ks st n len : Nat) (f : Nat → Option Nat), z[ka]? = some (a, .inr (10, [.ref st, .int (nI n), .int y.1.1, .int y.1.2.1, .int y.1.2.2.1, .int y.1.2.2.2.1, .int y.1.2.2.2.2])) ∧ z[ks]? = some (st, .inl (cS, len, .inr (.inr (.inr (.inr f))))) ∧ (n ≤ len ∧ n ≤ 100) ∧ B f n y.2
def blkF (cS : ClassId) (z : va_W) : (d : Nat) → (Nat → Option Nat) → Nat → TR d → Prop
  | 0, _, n, _ => n = 0
  | d + 1, f, n, t => n = (trl t).length ∧ ∀ (k : Nat) (x : ST (TR d)), (trl t)[k]? = some x → ∃ a : Nat, f k = some a ∧ stepF cS z (blkF cS z d) x a
/-- what the steps tell is in range -/
def okS {T : Type} (N : Int) (B : T → Prop) : ST T → Prop
  | .inl w => AW w.1 w.2.1 w.2.2.1 N
  | .inr (.inl y) => (0 ≤ y.1.toInt ∧ y.1.toInt ≤ 99) ∧ B y.2
  | .inr (.inr y) => WWh y.1.1 y.1.2.1 y.1.2.2.1 N ∧ B y.2
def okT (N : Int) : (d : Nat) → TR d → Prop
  | 0, _ => True
  | d + 1, t => ∀ (k : Nat) (x : ST (TR d)), (trl t)[k]? = some x → okS N (okT N d) x
/-- what holds between steps -/
def IV (g : GV) (σ : MS × MS) : Prop := (0 ≤ (gi (ttb σ) 1).toInt ∧ (gi (ttb σ) 1).toInt ≤ 6) ∧ (0 ≤ (gi (ttb σ) 3).toInt ∧ (gi (ttb σ) 3).toInt ≤ 16 ∧ (gi (ttb σ) 3).toInt ≤ (g.1.2.1 50 : Int)) ∧ (0 ≤ (gi (own σ) 1).toInt ∧ (gi (own σ) 1).toInt ≤ 65535)
def QG (g : GV) : Prop := ∀ p : Nat, p < g.1.2.1 51 → 0 ≤ (g.1.2.2.2.2.1 2 p).toInt ∧ (g.1.2.2.2.2.1 2 p).toInt ≤ 20
section V2
variable {p : Program} {l : Launch} {e : Env} {R : Room} {s : State} {m : MethodId} {args : Array Value} {below : List Frame} {meth : Method} {c : Code} {H : Heap} {locs : List Loc} {cells slots : Nat} {Q : State → Prop}
variable {cc : ByteArray} {nL pc : Nat} {ls : Array Slot} {rest st0 : List Value} {g : GV} {σ : MS × MS} {own' : String}
/-- a call on a frozen step of a method that a class above names -/
theorem V_ucallv {x y : MethodName} {bytes : ByteArray} {maxL idx a ka ci : Nat} {Cn owner : String} {T : u_T} {N : Nat} {fs : List Value} {rm : Room} {S1 : MS × MS} {E : MS × MS → Prop} {As : List Value} (n : Nat) (C : wC (dV g) own' p s m args c cc nL) (h : wH (dV g) σ s H locs) (hM : Met l y (ws_ y bytes maxL none) rm (wPc (dV g) a σ As) (wQv (dV g) S1 E) 0 0 (dV g).2.2.2.1) (cw : va_CU R s args own' Cn owner idx x y bytes maxL none (ws_ y bytes maxL none) rm 0 0 n)
    (hce : vwCl[ci]? = some (Cn, T, N)) (hre : g.2.2[ka]? = some (a, .inr (ci, fs))) (hn : As.length = n) (hls : ls.size = nL) (hst : st0 = As.reverse ++ .ref a :: rest) (hW : (rest.map fun v => v.category).sum ≤ 8) (hcs : cells ≤ R.cells ∧ slots ≤ R.slots) (hdg : decode cc pc = .ok (.invokevirtual idx, 3))
    (kk : ∀ (σ1 : MS × MS) (H1 : Heap) (locs1 : List Loc), σ1 = S1 → E σ1 → wH (dV g) σ1 s H1 locs1 → W p l e R s m args below meth c H1 locs1 cells slots Q (F0 m (pc + 3) ls rest)) : W p l e R s m args below meth c H locs cells slots Q (F0 m pc ls st0) :=
  va_callv (va_runU (As := As) (rest := rest) C.1 hM cw ⟨fun a U G mk q => ⟨q.1, q.2.same (U := U.calling G mk a) (wXV g) rfl rfl⟩, va_recv C.2.1 (C.2.2.2.1.kept h.2.2.1).1 (ci := ci) (q0 := ka) hce hre, fun U hU hW => ⟨rfl, by rw [hU]; exact h.1, va_K.moved hW.alike C.2.1, h.2.1, (wXV g).2 s U H locs C.2.2 h.2.2.1 hU hW, h.2.2.2⟩⟩ rfl hn hls hst (lv_room hW) hdg hcs) h.2.2.1 (fun _ _ q => q) (fun _ q => q)
    (fun u t H1 locs1 ht _ hp hB _ _ hS => kk u H1 locs1 hp.1 hp.2 ⟨by rw [← ht]; exact hB.1, hB.2.2.1, hS, hB.2.2.2.2⟩)
end V2
/-- a block's cell -/
def blkA (g : GV) (a ka st : Nat) (v : Int32) : Prop := (∃ x : Int32, g.2.2[ka]? = some (a, .inr (9, [.ref st, .int v, .int x]))) ∨ (∃ x1 x2 x3 x4 x5 : Int32, g.2.2[ka]? = some (a, .inr (10, [.ref st, .int v, .int x1, .int x2, .int x3, .int x4, .int x5])))
abbrev rmA (d : Nat) : Room := { frames := 10 * d, cells := 0, slots := 0, locals := 321 * d }
abbrev rmG (d : Nat) : Room := { frames := 10 * d + 9, cells := 0, slots := 0, locals := 321 * d + 300 }
abbrev rmD (d : Nat) : Room := { frames := 10 * d + 8, cells := 0, slots := 0, locals := 321 * d + 278 }
def KGo (l : Launch) (g : GV) (d : Nat) : Prop := ∀ (x : ST (TR d)) (a : Nat) (σ : MS × MS), stepF (g.1.2.2.1 5) g.2.2 (blkF (g.1.2.2.1 5) g.2.2 d) x a → okS (g.1.2.1 51 : Int) (okT (g.1.2.1 51 : Int) d) x → IV g σ → Met l yX9_go (ws_ yX9_go cX9_go 2 none) (rmG d) (wPc (dV g) a σ [.ref (g.2.1 99)]) (wQv (dV g) (goS (semT d) x σ) (IV g)) 0 0 (dV g).2.2.2.1
def KAll (l : Launch) (g : GV) (d : Nat) : Prop := ∀ (t : TR d) (a ka ks st n len : Nat) (f : Nat → Option Nat) (σ : MS × MS), blkA g a ka st (nI n) → g.2.2[ks]? = some (st, .inl (g.1.2.2.1 5, len, .inr (.inr (.inr (.inr f))))) → (n ≤ len ∧ n ≤ 100) → blkF (g.1.2.2.1 5) g.2.2 d f n t → okT (g.1.2.1 51 : Int) d t → IV g σ → Met l yX10_all (ws_ yX10_all cX10_all 3 none) (rmA d) (wPc (dV g) a σ [.ref (g.2.1 99)]) (wQv (dV g) (semT d t σ) (IV g)) 0 0 (dV g).2.2.2.1
section V3
variable {p : Program} {l : Launch} {e : Env} {R : Room} {s : State} {m : MethodId} {args : Array Value} {below : List Frame} {meth : Method} {c : Code} {H : Heap} {locs : List Loc} {cells slots : Nat} {Q : State → Prop}
variable {cc : ByteArray} {nL pc : Nat} {ls : Array Slot} {rest st0 : List Value} {g : GV} {σ : MS × MS} {own' : String}
theorem V10_size {a ka st : Nat} {v : Int32} (C : wC (dV g) RX10 p s m args c cc nL) (h : wH (dV g) σ s H locs) (hB : blkA g a ka st v) (hdg : decode cc pc = .ok (.getfield 13, 3)) (kk : W p l e R s m args below meth c H locs cells slots Q (F0 m (pc + 3) ls (.int v :: rest))) : W p l e R s m args below meth c H locs cells slots Q (F0 m pc ls (.ref a :: rest)) := by
  rcases hB with ⟨x, hx⟩ | ⟨x1, x2, x3, x4, x5, hx⟩
  · exact va_get (D := g.1.1) (cl := vwCl) (ci := 9) (v := .int v) (C := RX11) (T := TX11) (N := 3) C.1.1 C.1.2.1 C.1.2.2.2.2 in_X11 C.1.2.2.2.1 C.2.1 (C.2.2.2.1.kept h.2.2.1).1 ka hx rfl 1 (by decide) (C.1.2.2.2.2 _ q897) (fun _ h9 => h9) rfl hdg kk
  · exact va_get (D := g.1.1) (cl := vwCl) (ci := 10) (v := .int v) (C := RX12) (T := TX12) (N := 7) C.1.1 C.1.2.1 C.1.2.2.2.2 in_X12 C.1.2.2.2.1 C.2.1 (C.2.2.2.1.kept h.2.2.1).1 ka hx rfl 1 (by decide) (C.1.2.2.2.2 _ q897) (fun _ h9 => h9) rfl hdg kk
theorem V10_steps {a ka st : Nat} {v : Int32} (C : wC (dV g) RX10 p s m args c cc nL) (h : wH (dV g) σ s H locs) (hB : blkA g a ka st v) (hdg : decode cc pc = .ok (.getfield 7, 3)) (kk : W p l e R s m args below meth c H locs cells slots Q (F0 m (pc + 3) ls (.ref st :: rest))) : W p l e R s m args below meth c H locs cells slots Q (F0 m pc ls (.ref a :: rest)) := by
  rcases hB with ⟨x, hx⟩ | ⟨x1, x2, x3, x4, x5, hx⟩
  · exact va_get (D := g.1.1) (cl := vwCl) (ci := 9) (v := .ref st) (C := RX11) (T := TX11) (N := 3) C.1.1 C.1.2.1 C.1.2.2.2.2 in_X11 C.1.2.2.2.1 C.2.1 (C.2.2.2.1.kept h.2.2.1).1 ka hx rfl 0 (by decide) (C.1.2.2.2.2 _ q896) (fun _ h9 => h9) rfl hdg kk
  · exact va_get (D := g.1.1) (cl := vwCl) (ci := 10) (v := .ref st) (C := RX12) (T := TX12) (N := 7) C.1.1 C.1.2.1 C.1.2.2.2.2 in_X12 C.1.2.2.2.1 C.2.1 (C.2.2.2.1.kept h.2.2.1).1 ka hx rfl 0 (by decide) (C.1.2.2.2.2 _ q896) (fun _ h9 => h9) rfl hdg kk
theorem V11_times {a ka : Nat} {st : Nat} {v w : Int32} (C : wC (dV g) RX11 p s m args c cc nL) (h : wH (dV g) σ s H locs) (hx : g.2.2[ka]? = some (a, .inr (9, [.ref st, .int v, .int w]))) (hdg : decode cc pc = .ok (.getfield 7, 3)) (kk : W p l e R s m args below meth c H locs cells slots Q (F0 m (pc + 3) ls (.int w :: rest))) : W p l e R s m args below meth c H locs cells slots Q (F0 m pc ls (.ref a :: rest)) :=
  va_get (D := g.1.1) (cl := vwCl) (ci := 9) (v := .int w) (C := RX11) (T := TX11) (N := 3) C.1.1 C.1.2.1 C.1.2.2.2.2 in_X11 C.1.2.2.2.1 C.2.1 (C.2.2.2.1.kept h.2.2.1).1 ka hx rfl 2 (by decide) (C.1.2.2.2.2 _ q895) (fun _ h9 => h9) rfl hdg kk
/-- go, on a step of any kind -/
theorem V_go {d : Nat} {x : ST (TR d)} {a : Nat} (C : wC (dV g) RX10 p s m args c cc nL) (h : wH (dV g) σ s H locs) (hK : KGo l g d) (hx : stepF (g.1.2.2.1 5) g.2.2 (blkF (g.1.2.2.1 5) g.2.2 d) x a) (hok : okS (g.1.2.1 51 : Int) (okT (g.1.2.1 51 : Int) d) x) (hI : IV g σ) (hR : (rmG d).frames + 1 ≤ R.frames ∧ 8 + (2 + 11) + (rmG d).locals ≤ R.locals) (hls : ls.size = nL) (hW : (rest.map fun v => v.category).sum ≤ 8) (hcs : cells ≤ R.cells ∧ slots ≤ R.slots) (hdg : decode cc pc = .ok (.invokevirtual 29, 3))
    (kk : ∀ (σ1 : MS × MS) (H1 : Heap) (locs1 : List Loc), σ1 = goS (semT d) x σ → IV g σ1 → wH (dV g) σ1 s H1 locs1 → W p l e R s m args below meth c H1 locs1 cells slots Q (F0 m (pc + 3) ls rest)) : W p l e R s m args below meth c H locs cells slots Q (F0 m pc ls (.ref (g.2.1 99) :: .ref a :: rest)) := by
  have hM := hK x a σ hx hok hI
  have hd : ("LetMe$Step" : String) ≠ "java/lang/invoke/MethodHandle" ∧ ("LetMe$Step" : String) ≠ "java/lang/invoke/VarHandle" ∧ (parseMethodDescriptor yX9_go.desc).map (fun d => d.parameters.length) = some 1 := by decide +kernel
  rcases x with w | y | y
  · obtain ⟨ka, hka⟩ := hx
    exact V_ucallv (x := yX9_go) (Cn := RX13) (ci := 11) (ka := ka) (owner := "LetMe$Step") (As := [.ref (g.2.1 99)]) (rest := rest) 1 C h hM (va_cwU 1 C.1.2.2.2.2 (lw_U q1451 q1453 q1454 q1452 q165 q1457) rfl rfl rfl rfl hd hR) rfl hka rfl hls rfl hW hcs hdg kk
  · obtain ⟨ka, ks, st, n, len, f, hka, -⟩ := hx
    exact V_ucallv (x := yX9_go) (Cn := RX11) (ci := 9) (ka := ka) (owner := "LetMe$Step") (As := [.ref (g.2.1 99)]) (rest := rest) 1 C h hM (va_cwU 1 C.1.2.2.2.2 (lw_U q1451 q1453 q1455 q1452 q165 q1457) rfl rfl rfl rfl hd hR) rfl hka rfl hls rfl hW hcs hdg kk
  · obtain ⟨ka, ks, st, n, len, f, hka, -⟩ := hx
    exact V_ucallv (x := yX9_go) (Cn := RX12) (ci := 10) (ka := ka) (owner := "LetMe$Step") (As := [.ref (g.2.1 99)]) (rest := rest) 1 C h hM (va_cwU 1 C.1.2.2.2.2 (lw_U q1451 q1453 q1456 q1452 q165 q1457) rfl rfl rfl rfl hd hR) rfl hka rfl hls rfl hW hcs hdg kk
end V3
set_option maxHeartbeats 4000000 in
theorem k_all0 (l : Launch) (g : GV) : KAll l g 0 := by
  intro t a ka ks st n len f σ hB hks hn hF hT hI
  have hn0 : n = 0 := hF
  subst hn0
  refine met_W RX10 (by decide) rfl (Nat.le_of_ble_eq_true rfl) ?_
  intro p e s m args below meth c C hr hlocks h ls hl
  have hx := C.1.1
  have hb := C.1.2.1
  have hl : lv_has ls 3 [(0, .ref a), (1, .ref (g.2.1 99))] := hl
  refine lv_iconst (v := 0) hx hb dX10_all_0 (by decide) ?_
  refine lv_istore_n (lv' := [(2, .int 0), (0, .ref a), (1, .ref (g.2.1 99))]) hx hb dX10_all_1 rfl hl (by decide) rfl (fun ls hl => ?_)
  refine lv_iload_n hx hb dX10_all_2 rfl (lv_at hl 0 rfl) ?_
  refine lv_aload_n hx hb dX10_all_3 rfl (lv_at hl 1 rfl) ?_
  refine V10_size C h hB dX10_all_4 ?_
  refine lv_icmp_ge (tgt := 33) hx hb dX10_all_7 (by decide) (fun _ => ?_) (fun c7 => absurd (by decide) c7)
  exact w_retv (wXV g) C h hr hlocks rfl hI dX10_all_33
set_option maxHeartbeats 4000000 in
theorem k_allS (l : Launch) (g : GV) (d : Nat) (hG : KGo l g d) : KAll l g (d + 1) := by
  intro t a ka ks st n len f σ hB hks hn hF hT hI
  obtain ⟨hlen, hF⟩ := hF
  refine met_W RX10 (by decide) rfl (Nat.le_of_ble_eq_true rfl) ?_
  intro p e s m args below meth c C hr hlocks h ls hl
  have hx := C.1.1
  have hb := C.1.2.1
  have hl : lv_has ls 3 [(0, .ref a), (1, .ref (g.2.1 99))] := hl
  refine lv_iconst (v := 0) hx hb dX10_all_0 (by decide) ?_
  refine lv_istore_n (lv' := [(2, .int 0), (0, .ref a), (1, .ref (g.2.1 99))]) hx hb dX10_all_1 rfl hl (by decide) rfl (fun ls hl => ?_)
  have hL : ∀ (k j : Nat) (σ1 : MS × MS) (H : Heap) (locs : List Loc) (ls : Array Slot), n < j + k → j ≤ n → IV g σ1 → semT (d + 1) t σ = seqS (goS (semT d)) (List.drop j (trl t)) σ1 → wH (dV g) σ1 s H locs → lv_has ls 3 [(2, .int (nI j)), (0, .ref a), (1, .ref (g.2.1 99))] → W p l e (rmA (d + 1)) s m args below meth c H locs 0 0 (MQ below (wQv (dV g) (semT (d + 1) t σ) (IV g)) args s 0 0 (dV g).2.2.2.1) (F0 m 2 ls []) := by
    intro k
    induction k with
    | zero => intro j σ1 H locs ls h1 h2; omega
    | succ k ih =>
      intro j σ1 H locs ls h1 h2 hI1 he h hl
      refine lv_iload_n hx hb dX10_all_2 rfl (lv_at hl 0 rfl) ?_
      refine lv_aload_n hx hb dX10_all_3 rfl (lv_at hl 1 rfl) ?_
      refine V10_size C h hB dX10_all_4 ?_
      refine lv_icmp_ge (tgt := 33) hx hb dX10_all_7 (by decide) (fun c7 => ?_) (fun c7 => ?_)
      · have hj : j = n := by
          have := c_le c7
          rw [nI_toInt (by omega), nI_toInt (by omega)] at this
          omega
        have e0 : List.drop j (trl t) = [] := List.drop_eq_nil_of_le (by rw [hj, hlen]; exact Nat.le_refl _)
        rw [e0] at he
        exact w_retv (wXV g) C h hr hlocks he hI1 dX10_all_33
      · have hj : j < n := by
          have := c_nle c7
          rw [nI_toInt (by omega), nI_toInt (by omega)] at this
          omega
        refine lv_aload_n hx hb dX10_all_10 rfl (lv_at hl 2 rfl) ?_
        refine V10_g7 C h dX10_all_11 ?_
        have hjt : j < (trl t).length := by omega
        have ed : List.drop j (trl t) = (trl t)[j] :: List.drop (j + 1) (trl t) := List.drop_eq_getElem_cons hjt
        rw [ed, seqS] at he
        refine lv_if_ne (tgt := 33) hx hb dX10_all_14 (by decide) (fun c14 => ?_) (fun c14 => ?_)
        · rw [if_neg c14] at he
          exact w_retv (wXV g) C h hr hlocks he hI1 dX10_all_33
        · rw [if_pos c14] at he
          have hget : (trl t)[j]? = some (trl t)[j] := List.getElem?_eq_getElem hjt
          obtain ⟨aj, hfj, hsj⟩ := hF j _ hget
          refine lv_aload_n hx hb dX10_all_17 rfl (lv_at hl 1 rfl) ?_
          refine V10_steps C h hB dX10_all_18 ?_
          refine lv_iload_n hx hb dX10_all_21 rfl (lv_at hl 0 rfl) ?_
          refine va_aldq (C := RX9) (i := nI j) hx hb C.2.1 (C.2.2.2.1.kept h.2.2.1).1 ks 2 hks rfl (vp_in_iff.mpr (by rw [nI_toInt (by omega)]; omega)) dX10_all_22 ?_
          rw [nI_clamp (by omega), hfj]
          refine lv_aload_n hx hb dX10_all_23 rfl (lv_at hl 2 rfl) ?_
          refine V_go (rest := []) C h hG hsj (hT j _ hget) hI1 ⟨by show 10 * d + 9 + 1 ≤ 10 * (d + 1); omega, by show 8 + (2 + 11) + (321 * d + 300) ≤ 321 * (d + 1); omega⟩ hl.1 (Nat.le_of_ble_eq_true rfl) ⟨Nat.le_refl _, Nat.le_refl _⟩ dX10_all_24 (fun σ2 H locs e2 hI2 h => ?_)
          refine lv_iinc (v := nI (j + 1)) (lv' := [(2, .int (nI (j + 1))), (0, .ref a), (1, .ref (g.2.1 99))]) hx hb dX10_all_27 hl (k := 0) rfl (by rw [← nI_1]; rfl) (by decide) rfl (fun ls hl => ?_)
          refine lv_goto (tgt := 2) hx hb dX10_all_30 (by decide) ?_
          exact ih (j + 1) σ2 H locs ls (by omega) (by omega) hI2 (by rw [e2]; exact he) h hl
  exact hL (n + 1) 0 σ _ _ ls (by omega) (by omega) hI rfl h hl
set_option maxHeartbeats 4000000 in
theorem k_loop (l : Launch) (g : GV) (d : Nat) (hA : KAll l g d) (y : Int32 × TR d) (a ka ks st n len : Nat) (f : Nat → Option Nat) (σ : MS × MS) (hka : g.2.2[ka]? = some (a, .inr (9, [.ref st, .int (nI n), .int y.1]))) (hks : g.2.2[ks]? = some (st, .inl (g.1.2.2.1 5, len, .inr (.inr (.inr (.inr f)))))) (hn : n ≤ len ∧ n ≤ 100) (hF : blkF (g.1.2.2.1 5) g.2.2 d f n y.2) (ht : 0 ≤ y.1.toInt ∧ y.1.toInt ≤ 99) (hT : okT (g.1.2.1 51 : Int) d y.2) (hI : IV g σ) : Met l yX11_does (ws_ yX11_does cX11_does 3 none) (rmD d) (wPc (dV g) a σ [.ref (g.2.1 99)]) (wQv (dV g) (itS (semT d y.2) y.1.toNatClampNeg σ) (IV g)) 0 0 (dV g).2.2.2.1 := by
  obtain ⟨tm, tr⟩ := y
  obtain ⟨T, hT9, eT⟩ := small_nI (n := 99) ht
  dsimp only at eT hka hF hT ⊢
  subst eT
  rw [nI_clamp (by omega)]
  refine met_W RX11 (by decide) rfl (Nat.le_of_ble_eq_true rfl) ?_
  intro p e s m args below meth c C hr hlocks h ls hl
  have hx := C.1.1
  have hb := C.1.2.1
  have hl : lv_has ls 3 [(0, .ref a), (1, .ref (g.2.1 99))] := hl
  refine lv_iconst (v := 0) hx hb dX11_does_0 (by decide) ?_
  refine lv_istore_n (lv' := [(2, .int 0), (0, .ref a), (1, .ref (g.2.1 99))]) hx hb dX11_does_1 rfl hl (by decide) rfl (fun ls hl => ?_)
  have hL : ∀ (k j : Nat) (σ1 : MS × MS) (H : Heap) (locs : List Loc) (ls : Array Slot), T < j + k → j ≤ T → IV g σ1 → itS (semT d tr) T σ = itS (semT d tr) (T - j) σ1 → wH (dV g) σ1 s H locs → lv_has ls 3 [(2, .int (nI j)), (0, .ref a), (1, .ref (g.2.1 99))] → W p l e (rmD d) s m args below meth c H locs 0 0 (MQ below (wQv (dV g) (itS (semT d tr) T σ) (IV g)) args s 0 0 (dV g).2.2.2.1) (F0 m 2 ls []) := by
    intro k
    induction k with
    | zero => intro j σ1 H locs ls h1 h2; omega
    | succ k ih =>
      intro j σ1 H locs ls h1 h2 hI1 he h hl
      refine lv_iload_n hx hb dX11_does_2 rfl (lv_at hl 0 rfl) ?_
      refine lv_aload_n hx hb dX11_does_3 rfl (lv_at hl 1 rfl) ?_
      refine V11_times C h hka dX11_does_4 ?_
      refine lv_icmp_ge (tgt := 28) hx hb dX11_does_7 (by decide) (fun c7 => ?_) (fun c7 => ?_)
      · have hj : j = T := by
          have := c_le c7
          rw [nI_toInt (by omega), nI_toInt (by omega)] at this
          omega
        rw [hj, Nat.sub_self] at he
        exact w_retv (wXV g) C h hr hlocks he hI1 dX11_does_28
      · have hj : j < T := by
          have := c_nle c7
          rw [nI_toInt (by omega), nI_toInt (by omega)] at this
          omega
        refine lv_aload_n hx hb dX11_does_10 rfl (lv_at hl 2 rfl) ?_
        refine V11_g7 C h dX11_does_11 ?_
        have ed : T - j = (T - (j + 1)) + 1 := by omega
        rw [ed, itS] at he
        refine lv_if_ne (tgt := 28) hx hb dX11_does_14 (by decide) (fun c14 => ?_) (fun c14 => ?_)
        · rw [if_neg c14] at he
          exact w_retv (wXV g) C h hr hlocks he hI1 dX11_does_28
        · rw [if_pos c14] at he
          refine lv_aload_n hx hb dX11_does_17 rfl (lv_at hl 1 rfl) ?_
          refine lv_aload_n hx hb dX11_does_18 rfl (lv_at hl 2 rfl) ?_
          refine V_ucallv (x := ⟨"LetMe$Loop", "all", "(LLetMe$Living;)V"⟩) (Cn := RX11) (ci := 9) (ka := ka) (owner := "LetMe$Block") (As := [.ref (g.2.1 99)]) (rest := []) 1 C h (hA tr a ka ks st n len f σ1 (Or.inl ⟨_, hka⟩) hks hn hF hT hI1) (va_cwU 1 C.1.2.2.2.2 (lw_U q1492 q1446 q1448 q1449 q166 q1450) rfl rfl rfl rfl (by decide +kernel) ⟨by show 10 * d + 1 ≤ 10 * d + 8; omega, by show 8 + (3 + 11) + 321 * d ≤ 321 * d + 278; omega⟩) rfl hka rfl hl.1 rfl (Nat.le_of_ble_eq_true rfl) ⟨Nat.le_refl _, Nat.le_refl _⟩ dX11_does_19 (fun σ2 H locs e2 hI2 h => ?_)
          refine lv_iinc (v := nI (j + 1)) (lv' := [(2, .int (nI (j + 1))), (0, .ref a), (1, .ref (g.2.1 99))]) hx hb dX11_does_22 hl (k := 0) rfl (by rw [← nI_1]; rfl) (by decide) rfl (fun ls hl => ?_)
          refine lv_goto (tgt := 2) hx hb dX11_does_25 (by decide) ?_
          exact ih (j + 1) σ2 H locs ls (by omega) (by omega) hI2 (by rw [e2]; exact he) h hl
  exact hL (T + 1) 0 σ _ _ ls (by omega) (by omega) hI rfl h hl
set_option maxHeartbeats 4000000 in
theorem k_when (l : Launch) (g : GV) (d : Nat) (hA : KAll l g d) (y : (Int32 × Int32 × Int32 × Int32 × Int32) × TR d) (a ka ks st n len : Nat) (f : Nat → Option Nat) (σ : MS × MS) (hka : g.2.2[ka]? = some (a, .inr (10, [.ref st, .int (nI n), .int y.1.1, .int y.1.2.1, .int y.1.2.2.1, .int y.1.2.2.2.1, .int y.1.2.2.2.2]))) (hks : g.2.2[ks]? = some (st, .inl (g.1.2.2.1 5, len, .inr (.inr (.inr (.inr f)))))) (hn : n ≤ len ∧ n ≤ 100) (hF : blkF (g.1.2.2.1 5) g.2.2 d f n y.2) (ht : WWh y.1.1 y.1.2.1 y.1.2.2.1 (g.1.2.1 51 : Int)) (hT : okT (g.1.2.1 51 : Int) d y.2) (hI : IV g σ) : Met l yX12_does (ws_ yX12_does cX12_does 2 none) (rmD d) (wPc (dV g) a σ [.ref (g.2.1 99)]) (wQv (dV g) (if f_X12_is σ y.1.1 y.1.2.1 y.1.2.2.1 y.1.2.2.2.1 y.1.2.2.2.2 = 0 then σ else semT d y.2 σ) (IV g)) 0 0 (dV g).2.2.2.1 := by
  refine met_W RX12 (by decide) rfl (Nat.le_of_ble_eq_true rfl) ?_
  intro p e s m args below meth c C hr hlocks h ls hl
  have hx := C.1.1
  have hb := C.1.2.1
  have hl : lv_has ls 2 [(0, .ref a), (1, .ref (g.2.1 99))] := hl
  have hP : tP g.1 (ttb σ) := h.2.2.2
  have hnn := (tP_n hP).1
  refine lv_aload_n hx hb dX12_does_0 rfl (lv_at hl 0 rfl) ?_
  refine lv_aload_n hx hb dX12_does_1 rfl (lv_at hl 1 rfl) ?_
  refine V12_g0 C h dX12_does_2 ?_
  refine V_acallz (ci := 10) (ka := ka) (As := [.ref (g.1.2.1 99)]) (rest := []) 1 C h (k_X12_is l g σ a ka st (nI n) y.1.1 y.1.2.1 y.1.2.2.1 y.1.2.2.2.1 y.1.2.2.2.2 hka hI.1 hI.2.1 (by rw [hnn]; exact ht)) (lw_V q1496 q1498 qs63 q168 q1499) rfl rfl rfl hka (by decide +kernel) ⟨by show 4 + 1 ≤ 10 * d + 8; omega, by show 8 + (3 + 11) + 90 ≤ 321 * d + 278; omega⟩ rfl hl.1 rfl (Nat.le_of_ble_eq_true rfl) ⟨Nat.le_refl _, Nat.le_refl _⟩ dX12_does_5 (fun r σ2 H locs e2 er br hE h => ?_)
  rw [e2] at h
  refine lv_if_eq (tgt := 16) hx hb dX12_does_8 (by decide) (fun c8 => ?_) (fun c8 => ?_)
  · rw [er] at c8
    exact w_retv (wXV g) C h hr hlocks (if_pos c8) hI dX12_does_16
  · rw [er] at c8
    refine lv_aload_n hx hb dX12_does_11 rfl (lv_at hl 0 rfl) ?_
    refine lv_aload_n hx hb dX12_does_12 rfl (lv_at hl 1 rfl) ?_
    refine V_ucallv (x := ⟨"LetMe$When", "all", "(LLetMe$Living;)V"⟩) (Cn := RX12) (ci := 10) (ka := ka) (owner := "LetMe$Block") (As := [.ref (g.2.1 99)]) (rest := []) 1 C h (hA y.2 a ka ks st n len f σ (Or.inr ⟨_, _, _, _, _, hka⟩) hks hn hF hT hI) (va_cwU 1 C.1.2.2.2.2 (lw_U q1502 q1503 q1504 q1449 q166 q1450) rfl rfl rfl rfl (by decide +kernel) ⟨by show 10 * d + 1 ≤ 10 * d + 8; omega, by show 8 + (3 + 11) + 321 * d ≤ 321 * d + 278; omega⟩) rfl hka rfl hl.1 rfl (Nat.le_of_ble_eq_true rfl) ⟨Nat.le_refl _, Nat.le_refl _⟩ dX12_does_13 (fun σ2 H locs e2 hI2 h => ?_)
    rw [e2] at h hI2
    exact w_retv (wXV g) C h hr hlocks (if_neg c8) hI2 dX12_does_16
set_option maxHeartbeats 4000000 in
theorem k_goS (l : Launch) (g : GV) (hQ : QG g) (d : Nat) (hA : KAll l g d) : KGo l g d := by
  intro x a σ hx' hok hI
  refine met_W RX9 (by decide) rfl (Nat.le_of_ble_eq_true rfl) ?_
  intro p e s m args below meth c C hr hlocks h ls hl
  have hx := C.1.1
  have hb := C.1.2.1
  have hl : lv_has ls 2 [(0, .ref a), (1, .ref (g.2.1 99))] := hl
  have hP : tP g.1 (ttb σ) := h.2.2.2
  have hnn := (tP_n hP).1
  refine lv_aload_n hx hb dX9_go_0 rfl (lv_at hl 1 rfl) ?_
  refine V9_g2 C h dX9_go_1 ?_
  refine lv_sipush (v := 300) hx hb dX9_go_4 (by decide) ?_
  refine lv_icmp_ne (tgt := 21) hx hb dX9_go_7 (by decide) (fun c7 => ?_) (fun c7 => ?_)
  · refine lv_aload_n hx hb dX9_go_21 rfl (lv_at hl 1 rfl) ?_
    refine lv_dup hx hb dX9_go_22 rfl ?_
    refine V9_g2 C h dX9_go_23 ?_
    refine lv_iconst (v := 1) hx hb dX9_go_26 (by decide) ?_
    refine lv_iadd hx hb dX9_go_27 ?_
    refine V9_p2 C h dX9_go_28 (fun σ1 H locs e1 h => ?_)
    have he : goS (semT d) x σ = doS (semT d) x σ1 := by unfold goS; rw [if_neg c7, e1]
    have hI1 : IV g σ1 := by rw [e1]; exact hI
    clear e1
    refine lv_aload_n hx hb dX9_go_31 rfl (lv_at hl 0 rfl) ?_
    refine lv_aload_n hx hb dX9_go_32 rfl (lv_at hl 1 rfl) ?_
    have hd : ("LetMe$Step" : String) ≠ "java/lang/invoke/MethodHandle" ∧ ("LetMe$Step" : String) ≠ "java/lang/invoke/VarHandle" ∧ (parseMethodDescriptor "(LLetMe$Living;)V").map (fun d => d.parameters.length) = some 1 := by decide +kernel
    rcases x with w | y | y
    · obtain ⟨ka, hka⟩ := hx'
      refine V_ucallv (x := ⟨"LetMe$Step", "does", "(LLetMe$Living;)V"⟩) (Cn := RX13) (ci := 11) (ka := ka) (owner := "LetMe$Step") (As := [.ref (g.2.1 99)]) (rest := []) 1 C h (k_X13_does l g σ1 a ka w.1 w.2.1 w.2.2.1 w.2.2.2 hka hI1.1 hI1.2.1 hI1.2.2 hQ (by have hP1 : tP g.1 (ttb σ1) := h.2.2.2; rw [(tP_n hP1).1]; exact hok)) (va_cwA 1 C.1.2.2.2.2 (lw_U q1458 q1460 q1461 q1462 q169 q1463) rfl rfl rfl C.2.2.2.2 hd ⟨by show 8 + 1 ≤ 10 * d + 9; omega, by show 8 + (2 + 11) + 182 ≤ 321 * d + 300; omega⟩) rfl hka rfl hl.1 rfl (Nat.le_of_ble_eq_true rfl) ⟨Nat.le_refl _, Nat.le_refl _⟩ dX9_go_33 (fun σ2 H locs e2 hE h => ?_)
      refine w_retv (wXV g) C h hr hlocks (he.trans e2.symm) ?_ dX9_go_36
      obtain ⟨a1, a2, a3⟩ := hE
      obtain ⟨b1, b2, b3⟩ := hI1
      exact ⟨by rw [a1]; exact b1, by rw [a2]; exact b2, a3⟩
    · obtain ⟨ka, ks, st, n, len, f, hka, hks, hn, hF⟩ := hx'
      refine V_ucallv (x := ⟨"LetMe$Step", "does", "(LLetMe$Living;)V"⟩) (Cn := RX11) (ci := 9) (ka := ka) (owner := "LetMe$Step") (As := [.ref (g.2.1 99)]) (rest := []) 1 C h (k_loop l g d hA y a ka ks st n len f σ1 hka hks hn hF hok.1 hok.2 hI1) (va_cwA 1 C.1.2.2.2.2 (lw_U q1458 q1460 q1489 q1490 q167 q1491) rfl rfl rfl C.2.2.2.2 hd ⟨by show 10 * d + 8 + 1 ≤ 10 * d + 9; omega, by show 8 + (3 + 11) + (321 * d + 278) ≤ 321 * d + 300; omega⟩) rfl hka rfl hl.1 rfl (Nat.le_of_ble_eq_true rfl) ⟨Nat.le_refl _, Nat.le_refl _⟩ dX9_go_33 (fun σ2 H locs e2 hE h => ?_)
      exact w_retv (wXV g) C h hr hlocks (he.trans e2.symm) hE dX9_go_36
    · obtain ⟨ka, ks, st, n, len, f, hka, hks, hn, hF⟩ := hx'
      refine V_ucallv (x := ⟨"LetMe$Step", "does", "(LLetMe$Living;)V"⟩) (Cn := RX12) (ci := 10) (ka := ka) (owner := "LetMe$Step") (As := [.ref (g.2.1 99)]) (rest := []) 1 C h (k_when l g d hA y a ka ks st n len f σ1 hka hks hn hF hok.1 hok.2 hI1) (va_cwA 1 C.1.2.2.2.2 (lw_U q1458 q1460 q1493 q1494 q168 q1495) rfl rfl rfl C.2.2.2.2 hd ⟨by show 10 * d + 8 + 1 ≤ 10 * d + 9; omega, by show 8 + (2 + 11) + (321 * d + 278) ≤ 321 * d + 300; omega⟩) rfl hka rfl hl.1 rfl (Nat.le_of_ble_eq_true rfl) ⟨Nat.le_refl _, Nat.le_refl _⟩ dX9_go_33 (fun σ2 H locs e2 hE h => ?_)
      exact w_retv (wXV g) C h hr hlocks (he.trans e2.symm) hE dX9_go_36
  · skip
    refine lv_aload_n hx hb dX9_go_10 rfl (lv_at hl 1 rfl) ?_
    refine lv_iconst (v := 1) hx hb dX9_go_11 (by decide) ?_
    refine V9_p7 C h rfl dX9_go_12 (fun σ1 H locs e1 h => ?_)
    refine lv_aload_n hx hb dX9_go_15 rfl (lv_at hl 1 rfl) ?_
    refine lv_iconst (v := 1) hx hb dX9_go_16 (by decide) ?_
    refine V9_p8 C h rfl dX9_go_17 (fun σ2 H locs e2 h => ?_)
    subst e2
    subst e1
    exact w_retv (wXV g) C h hr hlocks (if_pos c7) hI dX9_go_20
/-- a block of steps, of any depth -/
theorem k_all (l : Launch) (g : GV) (hQ : QG g) : ∀ d, KAll l g d
  | 0 => k_all0 l g
  | d + 1 => k_allS l g d (k_goS l g hQ d (k_all l g hQ d))
