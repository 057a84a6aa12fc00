/-! RAW WORLDS: the cells themselves are the picture; methods that make cells -/
set_option maxRecDepth 100000
theorem va_P_iff {D : va_G} {cl : List vw_C} {ws : va_W} {H : Heap} : va_P D cl ws H ↔ ∀ q ∈ ws, va_at D cl q H :=
  ⟨fun h q hq => by obtain ⟨k, hk⟩ := List.getElem?_of_mem hq; exact h k q hk, fun h _ q hk => h q (List.mem_of_getElem? hk)⟩
theorem va_D_iff {A : Nat → Prop} {ws : va_W} : va_D A ws ↔ (ws.map Prod.fst).Nodup ∧ ∀ q ∈ ws, A q.1 := by
  constructor
  · intro h
    refine ⟨List.pairwise_iff_getElem.mpr (fun i j hi hj hij e => ?_), fun q hq => ?_⟩
    · have hi' : i < ws.length := by rw [List.length_map] at hi; exact hi
      have hj' : j < ws.length := by rw [List.length_map] at hj; exact hj
      simp only [List.getElem_map] at e
      have := h.1 i j _ _ (List.getElem?_eq_getElem hi') (List.getElem?_eq_getElem hj') e
      omega
    · obtain ⟨k, hk⟩ := List.getElem?_of_mem hq
      exact h.2 k q hk
  · intro h
    refine ⟨fun i j p q hi hj e => ?_, fun _ q hk => h.2 q (List.mem_of_getElem? hk)⟩
    obtain ⟨hil, hi2⟩ := List.getElem?_eq_some_iff.mp hi
    obtain ⟨hjl, hj2⟩ := List.getElem?_eq_some_iff.mp hj
    have hp := List.pairwise_iff_getElem.mp h.1
    rcases Nat.lt_trichotomy i j with hl | hl | hl
    · exact (hp i j (by rw [List.length_map]; exact hil) (by rw [List.length_map]; exact hjl) hl (by simp only [List.getElem_map]; rw [hi2, hj2]; exact e)).elim
    · exact hl
    · exact (hp j i (by rw [List.length_map]; exact hjl) (by rw [List.length_map]; exact hil) hl (by simp only [List.getElem_map]; rw [hi2, hj2]; exact e.symm)).elim
theorem va_Pperm {D : va_G} {cl : List vw_C} {x y : va_W} {H : Heap} (h : x.Perm y) (hP : va_P D cl x H) : va_P D cl y H := va_P_iff.mpr fun q hq => va_P_iff.mp hP q (h.mem_iff.mpr hq)
theorem va_Dperm {A : Nat → Prop} {x y : va_W} (h : x.Perm y) (hD : va_D A x) : va_D A y := va_D_iff.mpr ⟨(h.map Prod.fst).nodup_iff.mp (va_D_iff.mp hD).1, fun q hq => (va_D_iff.mp hD).2 q (h.mem_iff.mpr hq)⟩
/-- two lists hold the same cells -/
theorem va_perm {x y : va_W} (h : ∀ (c : va_W → Nat) (w : Nat × va_E → Nat), (∀ u v, c (u ++ v) = c u + c v) → (∀ a u, c (a :: u) = w a + c u) → c [] = 0 → c x = c y) : x.Perm y := by
  letI : DecidableEq (Nat × va_E) := fun a b => Classical.propDecidable (a = b)
  rw [List.perm_iff_count]
  intro a
  exact h (List.count a) (fun b => List.count a [b]) (fun u v => List.count_append) (fun b u => by rw [← List.singleton_append, List.count_append]) rfl
abbrev dW (D : va_G) (tys : List (ClassId × FieldType)) (A : Nat → Prop) (X : State → Prop) : WD va_W := (D, fun ws => ws, tys, A, X, fun _ => True)
theorem va_A_iff {x y : va_W} (e : va_sm x y) (k q : Nat) : va_A x k q ↔ va_A y k q := by
  have z : ∀ (x y : va_W), x.map Prod.fst = y.map Prod.fst → va_A x k q → va_A y k q := by
    rintro x y h (⟨j, e, hj⟩ | h1)
    · have h1 : (y.map Prod.fst)[j]? = some q := by rw [← h, List.getElem?_map, hj]; rfl
      rw [List.getElem?_map] at h1
      cases hy : y[j]? with
      | none => rw [hy] at h1; cases h1
      | some q' => rw [hy] at h1; exact Or.inl ⟨j, q'.2, by rw [hy]; exact congrArg some (Prod.ext (Option.some.inj h1) rfl)⟩
    · exact Or.inr h1
  exact ⟨z x y e, z y x e.symm⟩
theorem va_A_mem {ws : va_W} {k q : Nat} : va_A ws k q ↔ q ∈ ws.map Prod.fst ∨ k ≤ q := by
  constructor
  · rintro (⟨j, e, hj⟩ | h)
    · exact Or.inl (List.mem_map.mpr ⟨_, List.mem_of_getElem? hj, rfl⟩)
    · exact Or.inr h
  · rintro (h | h)
    · obtain ⟨x, hx, e⟩ := List.mem_map.mp h
      obtain ⟨j, hj⟩ := List.getElem?_of_mem hx
      exact Or.inl ⟨j, x.2, by rw [hj, ← e]⟩
    · exact Or.inr h
/-- a method's start and end, in a raw world: from the cells ws, and all from k on -/
abbrev yPc (D : va_G) (tys : List (ClassId × FieldType)) (X : State → Prop) (k : Nat) (ws : va_W) (As : List Value) : Array Value → State → Prop := va_Pc As (fun U => wU (dW D tys (va_A ws k) X) ws U ∧ k ≤ U.heap.size)
abbrev yB (D : va_G) (tys : List (ClassId × FieldType)) (X : State → Prop) (A : Nat → Prop) {Su : Type} (cf : Su → va_W) : Su → State → Prop := fun u U => wU (dW D tys A X) (cf u) U
theorem met_Y {l : Launch} {y : MethodName} {cc : ByteArray} {maxL : Nat} {ret : Option FieldType} {rm : Room} {D : va_G} {tys : List (ClassId × FieldType)} {X : State → Prop} {k : Nat} {ws : va_W} {As : List Value} {Qc : Array Value → State → Outcome → State → Prop} {mc ms : Nat} (own : String) (hy : plainName y.cls = true) (hyo : y.cls = own) (hlen : (lg_sl As).length ≤ maxL)
    (body : ∀ (p : Program) (e : Env) (s : State) (m : MethodId) (args : Array Value) (below : List Frame) (meth : Method) (c : Code), wC (dW D tys (va_A ws k) X) own p s m args c cc maxL → meth.sig.returnType = ret → meth.locks = false → meth.name = y.name → va_P D vwCl ws s.heap → va_D (va_A ws k) ws → k ≤ s.heap.size → ∀ ls : Array Slot, lv_has ls maxL (lv_args 0 As) → W p l e rm s m args below meth c s.heap [] 0 0 (MQ below Qc args s mc ms (va_A ws k)) (F0 m 0 ls [])) : Met l y (ws_ y cc maxL ret) rm (yPc D tys X k ws As) Qc mc ms (va_A ws k) :=
  met_S own hy hyo rfl hlen (fun p e s m args below meth c C hr hlocks hn ha hB ls hl => body p e s m args below meth c ⟨C, hB.1.2.1, hB.1.2.2.2.1⟩ hr hlocks hn hB.1.1 hB.1.2.2.1 hB.2 ls hl)
/-- behind a call: the caller's other cells beside what came back -/
theorem va_front {D : va_G} {cl : List vw_C} {A0 A1 : Nat → Prop} {P P' Rw : va_W} {H H1 : Heap} (hP : va_P D cl (P ++ Rw) H) (hD : va_D A0 (P ++ Rw)) (hk : ∀ q : Nat, q < H.size → ¬ A1 q → H1[q]? = H[q]?) (hA1 : ∀ q, A1 q → va_A P H.size q) (hA0 : ∀ q, A1 q → A0 q) (hP' : va_P D cl P' H1) (hD' : va_D A1 P') : va_P D cl (P' ++ Rw) H1 ∧ va_D A0 (P' ++ Rw) := by
  have apart : ∀ q ∈ Rw, q.1 < H.size ∧ ¬ A1 q.1 := by
    intro q hq
    obtain ⟨j, hj⟩ := List.getElem?_of_mem hq
    have hl := ((va_PappR hP) j q hj).lt
    refine ⟨hl, fun z => ?_⟩
    rcases hA1 q.1 z with ⟨i, e, hi⟩ | h
    · exact va_Dnot hD hj i (q.1, e) hi rfl
    · omega
  refine ⟨va_Papp hP' ((va_PappR hP).kept (fun k q hq => hk q.1 (apart q (List.mem_of_getElem? hq)).1 (apart q (List.mem_of_getElem? hq)).2)), va_D.app (hD'.weaken (fun _ q _ h => hA0 q.1 h)) (va_DappR hD) (fun i j x y hx hy hxy => ?_)⟩
  exact (apart y (List.mem_of_getElem? hy)).2 (by rw [← hxy]; exact hD'.2 i x hx)
theorem va_freeF {A0 : Nat → Prop} {P Rw : va_W} {H0 H : Heap} {locs : List Loc} (hD : va_D A0 (P ++ Rw)) (hS : va_S A0 H0 H locs) (hA : ∀ q, H0.size ≤ q → A0 q) : ∀ q, va_A P H.size q → A0 q := by
  rintro q (⟨k, e, hk⟩ | h)
  · exact (va_DappL hD).2 k (q, e) hk
  · exact hA q (Nat.le_trans hS.1 h)
section YROWS
variable {Su : Type} {p : Program} {l : Launch} {e : Env} {R : Room} {s : State} {m : MethodId} {args : Array Value} {below : List Frame} {meth : Method} {c : Code} {H : Heap} {locs : List Loc} {cells slots : Nat} {Q : State → Prop}
variable {cc : ByteArray} {nL pc : Nat} {ls : Array Slot} {rest st0 : List Value} {own : String} {D : va_G} {tys : List (ClassId × FieldType)} {X1 : State → Prop} {A A1 : Nat → Prop} {P Rw : va_W} {a : Array Value} {mc ms : Nat} {cf : Su → va_W}
theorem y_callv {post : Su → Prop} (hr : va_Run p l e R s m args below meth c H locs cells slots mc ms (F0 m pc ls st0) rest (va_Qv post (yB D tys X1 A1 cf) A1 a) A1) (hP : va_P D vwCl (P ++ Rw) H) (hD : va_D A (P ++ Rw)) (hS : va_S A s.heap H locs) (hA1 : ∀ q, A1 q → va_A P H.size q) (hA0 : ∀ q, A1 q → A q)
    (kk : ∀ (u : Su) (H1 : Heap) (locs1 : List Loc), post u → va_P D vwCl (cf u ++ Rw) H1 → va_D A (cf u ++ Rw) → va_S A s.heap H1 locs1 → H.size ≤ H1.size → va_D A1 (cf u) → W p l e R s m args below meth c H1 locs1 (cells + mc) (slots + ms) Q (F0 m (pc + 3) ls rest)) : W p l e R s m args below meth c H locs cells slots Q (F0 m pc ls st0) :=
  va_callv hr hS (fun q _ h => hA0 q h) hA0 (fun u t H1 locs1 ht _ hp hB hz hk hS1 => by
    have hB1 : va_P D vwCl (cf u) H1 := by rw [← ht]; exact hB.1
    obtain ⟨a1, a2⟩ := va_front hP hD hk hA1 hA0 hB1 hB.2.2.1
    exact kk u H1 locs1 hp a1 a2 hS1 hz hB.2.2.1)
theorem y_calli {post : Int32 → Su → Prop} (hr : va_Run p l e R s m args below meth c H locs cells slots mc ms (F0 m pc ls st0) rest (va_Qi post (yB D tys X1 A1 cf) A1 a) A1) (hP : va_P D vwCl (P ++ Rw) H) (hD : va_D A (P ++ Rw)) (hS : va_S A s.heap H locs) (hA1 : ∀ q, A1 q → va_A P H.size q) (hA0 : ∀ q, A1 q → A q)
    (kk : ∀ (r : Int32) (u : Su) (H1 : Heap) (locs1 : List Loc), post r u → va_P D vwCl (cf u ++ Rw) H1 → va_D A (cf u ++ Rw) → va_S A s.heap H1 locs1 → H.size ≤ H1.size → va_D A1 (cf u) → W p l e R s m args below meth c H1 locs1 (cells + mc) (slots + ms) Q (F0 m (pc + 3) ls (.int r :: rest))) : W p l e R s m args below meth c H locs cells slots Q (F0 m pc ls st0) :=
  va_calli hr hS (fun q _ h => hA0 q h) hA0 (fun r u t H1 locs1 ht _ hp hB hz hk hS1 => by
    have hB1 : va_P D vwCl (cf u) H1 := by rw [← ht]; exact hB.1
    obtain ⟨a1, a2⟩ := va_front hP hD hk hA1 hA0 hB1 hB.2.2.1
    exact kk r u H1 locs1 hp a1 a2 hS1 hz hB.2.2.1)
/-- an answer that is a cell -/
theorem y_callr {post : Su → Prop} {ad : Su → Nat} (hr : va_Run p l e R s m args below meth c H locs cells slots mc ms (F0 m pc ls st0) rest (va_Qr post (fun u b U => b = ad u ∧ yB D tys X1 A1 cf u U) A1 a) A1) (hP : va_P D vwCl (P ++ Rw) H) (hD : va_D A (P ++ Rw)) (hS : va_S A s.heap H locs) (hA1 : ∀ q, A1 q → va_A P H.size q) (hA0 : ∀ q, A1 q → A q)
    (kk : ∀ (u : Su) (H1 : Heap) (locs1 : List Loc), post u → va_P D vwCl (cf u ++ Rw) H1 → va_D A (cf u ++ Rw) → va_S A s.heap H1 locs1 → H.size ≤ H1.size → va_D A1 (cf u) → W p l e R s m args below meth c H1 locs1 (cells + mc) (slots + ms) Q (F0 m (pc + 3) ls (.ref (ad u) :: rest))) : W p l e R s m args below meth c H locs cells slots Q (F0 m pc ls st0) :=
  va_callr hr hS (fun q _ h => hA0 q h) hA0 (fun u b t H1 locs1 ht _ hp hB hz hk hS1 => by
    obtain ⟨hb, hB⟩ := hB
    subst hb
    have hB1 : va_P D vwCl (cf u) H1 := by rw [← ht]; exact hB.1
    obtain ⟨a1, a2⟩ := va_front hP hD hk hA1 hA0 hB1 hB.2.2.1
    exact kk u H1 locs1 hp a1 a2 hS1 hz hB.2.2.1)
end YROWS
/-- an array class is known by its name -/
theorem va_K_same {D : va_G} {cl : List vw_C} {tys : List (ClassId × FieldType)} {U : State} {ty : FieldType} {c1 c2 : ClassId} {i j : Nat} (h : va_K D cl tys U) (hi : tys[i]? = some (c1, ty)) (hj : tys[j]? = some (c2, ty)) : c1 = c2 := by
  have h1 := (h.2 i _ hi).2
  have h2 := (h.2 j _ hj).2
  cases ty with
  | object C =>
    obtain ⟨k1, p1, -, -, -, e1⟩ := h1
    obtain ⟨k2, p2, -, -, -, e2⟩ := h2
    exact Option.some.inj (e1.symm.trans e2)
  | _ => exact Option.some.inj (h1.symm.trans h2)
