/-! A TABLE: its cells by a pure picture (int fields 1..8, arrays 9..13, the people as arrays 21..26 and names 20); a row a field -/
set_option maxRecDepth 100000
/-- addresses by number (99 the table, 0 the people's array, 9..13 its arrays; 50: places of the first two, 51: how many people), array classes, people's addresses, their fields, their names -/
abbrev GT : Type := va_G × (Nat → Nat) × (Nat → ClassId) × (Nat → Nat) × (Nat → Nat → Int32) × (Nat → Int64)
def twf (g : GT) (τ : MS) : List Value := [.ref (g.2.1 0), .int (τ.1 1), .int (τ.1 2), .int (τ.1 3), .int (τ.1 4), .int (τ.1 5), .int (τ.1 6), .int (τ.1 7), .int (τ.1 8), .ref (g.2.1 9), .ref (g.2.1 10), .ref (g.2.1 11), .ref (g.2.1 12), .ref (g.2.1 13)]
def tw (g : GT) (τ : MS) : va_W := [(g.2.1 99, .inr (5, twf g τ)), (g.2.1 9, .inl (g.2.2.1 0, g.2.1 50, .inl (τ.2.2.1 9))), (g.2.1 10, .inl (g.2.2.1 0, g.2.1 50, .inl (τ.2.2.1 10))), (g.2.1 11, .inl (g.2.2.1 0, 6, .inl (τ.2.2.1 11))), (g.2.1 12, .inl (g.2.2.1 0, 36, .inl (τ.2.2.1 12))), (g.2.1 13, .inl (g.2.2.1 0, 6, .inl (τ.2.2.1 13)))]
abbrev tty (g : GT) : List (ClassId × FieldType) := [(g.2.2.1 0, .int), (g.2.2.1 3, .object RX8)]
def tA (g : GT) (q : Nat) : Prop := ∃ (k : Nat) (e : va_E), (tw g m00)[k]? = some (q, e)
def prf (g : GT) (p : Nat) : List Value := [.long (g.2.2.2.2.2 p), .int (g.2.2.2.2.1 1 p), .int (g.2.2.2.2.1 2 p), .int (g.2.2.2.2.1 3 p), .int (g.2.2.2.2.1 4 p), .int (g.2.2.2.2.1 5 p), .int (g.2.2.2.2.1 6 p)]
/-- the people, who do not change: their array, themselves; all outside the addresses A -/
def tF (g : GT) (A : Nat → Prop) (H : Heap) : Prop := (∃ f : Nat → Option Nat, va_P g.1 vwCl [(g.2.1 0, .inl (g.2.2.1 3, 6, .inr (.inr (.inr (.inr f)))))] H ∧ ¬ A (g.2.1 0) ∧ ∀ p : Nat, p < g.2.1 51 → f p = some (g.2.2.2.1 p)) ∧ ∀ p : Nat, p < g.2.1 51 → va_P g.1 vwCl [(g.2.2.2.1 p, .inr (8, prf g p))] H ∧ ¬ A (g.2.2.2.1 p)
/-- what ties the picture to them -/
def tP (g : GT) (τ : MS) : Prop := (gi τ 1 = nI (g.2.1 51) ∧ g.2.1 51 ≤ 6) ∧ (τ.2.2.1 21 = g.2.2.2.2.1 1 ∧ τ.2.2.1 22 = g.2.2.2.2.1 2 ∧ τ.2.2.1 23 = g.2.2.2.2.1 3 ∧ τ.2.2.1 24 = g.2.2.2.2.1 4 ∧ τ.2.2.1 25 = g.2.2.2.2.1 5 ∧ τ.2.2.1 26 = g.2.2.2.2.1 6) ∧ τ.2.2.2 20 = g.2.2.2.2.2
def tX (g : GT) (U : State) : Prop := tF g (tA g) U.heap ∧ NW U
abbrev dT (g : GT) : WD MS := (g.1, tw g, tty g, tA g, tX g, tP g)
theorem va_P1 {D : va_G} {cl : List vw_C} {q : Nat × va_E} {H : Heap} (h : va_P D cl [q] H) : va_at D cl q H := h 0 q rfl
theorem va_P1k {D : va_G} {cl : List vw_C} {q : Nat × va_E} {A : Nat → Prop} {H0 H : Heap} {locs : List Loc} (h : va_P D cl [q] H0) (hA : ¬ A q.1) (hS : va_S A H0 H locs) : va_P D cl [q] H :=
  h.kept (fun k r hr => hS.2.1 r.1 (h k r hr).lt (by
    cases k with
    | zero => cases hr; exact hA
    | succ k => cases hr))
theorem tF.kept {g : GT} {A : Nat → Prop} {H0 H : Heap} {locs : List Loc} (h : tF g A H0) (hS : va_S A H0 H locs) : tF g A H := by
  obtain ⟨⟨f, h1, h2, h3⟩, h4⟩ := h
  exact ⟨⟨f, va_P1k h1 h2 hS, h2, h3⟩, fun p hp => ⟨va_P1k (h4 p hp).1 (h4 p hp).2 hS, (h4 p hp).2⟩⟩
theorem tF.narrow {g : GT} {A B : Nat → Prop} {H : Heap} (hAB : ∀ q, B q → A q) (h : tF g A H) : tF g B H := by
  obtain ⟨⟨f, h1, h2, h3⟩, h4⟩ := h
  exact ⟨⟨f, h1, fun q => h2 (hAB _ q), h3⟩, fun p hp => ⟨(h4 p hp).1, fun q => (h4 p hp).2 (hAB _ q)⟩⟩
theorem wXT (g : GT) : wX (tA g) (tX g) := ⟨fun u U hvm hh h => ⟨by rw [hh]; exact h.1, NW.same hvm.symm h.2⟩, fun s U H locs h hS hU hW => ⟨by rw [hU]; exact h.1.kept hS, NW.warm hW h.2⟩⟩
theorem tP_n {g : GT} {τ : MS} (h : tP g τ) : (gi τ 1).toInt = (g.2.1 51 : Int) ∧ g.2.1 51 ≤ 6 := ⟨by rw [h.1.1]; exact nI_toInt (by have := h.1.2; omega), h.1.2⟩
section TROWS
variable {p : Program} {l : Launch} {e : Env} {R : Room} {s : State} {m : MethodId} {args : Array Value} {below : List Frame} {meth : Method} {c : Code} {H : Heap} {locs : List Loc} {cells slots : Nat} {Q : State → Prop}
variable {cc : ByteArray} {nL pc : Nat} {ls : Array Slot} {rest st0 : List Value} {g : GT} {τ : MS}
theorem T_g0 (C : wC (dT g) RX5 p s m args c cc nL) (h : wH (dT g) τ s H locs) (hdg : decode cc pc = .ok (.getfield 11, 3)) (kk : W p l e R s m args below meth c H locs cells slots Q (F0 m (pc + 3) ls (.ref (g.2.1 0) :: rest))) : W p l e R s m args below meth c H locs cells slots Q (F0 m pc ls (.ref (g.2.1 99) :: rest)) :=
  va_get (D := g.1) (cl := vwCl) (ci := 5) (v := .ref (g.2.1 0)) (C := RX5) (T := TX5) (N := 14) C.1.1 C.1.2.1 C.1.2.2.2.2 in_X5 C.1.2.2.2.1 C.2.1 h.1 0 (fs := twf g τ) rfl rfl 0 (by decide) (C.1.2.2.2.2 _ q296) (fun _ h9 => h9) rfl hdg kk
theorem T_g1 (C : wC (dT g) RX5 p s m args c cc nL) (h : wH (dT g) τ s H locs) (hdg : decode cc pc = .ok (.getfield 33, 3)) (kk : W p l e R s m args below meth c H locs cells slots Q (F0 m (pc + 3) ls (.int (gi τ 1) :: rest))) : W p l e R s m args below meth c H locs cells slots Q (F0 m pc ls (.ref (g.2.1 99) :: rest)) :=
  va_get (D := g.1) (cl := vwCl) (ci := 5) (v := .int (gi τ 1)) (C := RX5) (T := TX5) (N := 14) C.1.1 C.1.2.1 C.1.2.2.2.2 in_X5 C.1.2.2.2.1 C.2.1 h.1 0 (fs := twf g τ) rfl rfl 1 (by decide) (C.1.2.2.2.2 _ q300) (fun _ h9 => h9) rfl hdg kk
theorem T_g2 (C : wC (dT g) RX5 p s m args c cc nL) (h : wH (dT g) τ s H locs) (hdg : decode cc pc = .ok (.getfield 37, 3)) (kk : W p l e R s m args below meth c H locs cells slots Q (F0 m (pc + 3) ls (.int (gi τ 2) :: rest))) : W p l e R s m args below meth c H locs cells slots Q (F0 m pc ls (.ref (g.2.1 99) :: rest)) :=
  va_get (D := g.1) (cl := vwCl) (ci := 5) (v := .int (gi τ 2)) (C := RX5) (T := TX5) (N := 14) C.1.1 C.1.2.1 C.1.2.2.2.2 in_X5 C.1.2.2.2.1 C.2.1 h.1 0 (fs := twf g τ) rfl rfl 2 (by decide) (C.1.2.2.2.2 _ q304) (fun _ h9 => h9) rfl hdg kk
theorem T_p2 (C : wC (dT g) RX5 p s m args c cc nL) (h : wH (dT g) τ s H locs) {v : Int32} (hdg : decode cc pc = .ok (.putfield 37, 3)) (kk : ∀ (σ1 : MS) (H1 : Heap) (locs1 : List Loc), σ1 = si τ 2 v → wH (dT g) σ1 s H1 locs1 → W p l e R s m args below meth c H1 locs1 cells slots Q (F0 m (pc + 3) ls rest)) : W p l e R s m args below meth c H locs cells slots Q (F0 m pc ls (.int v :: .ref (g.2.1 99) :: rest)) :=
  va_put (D := g.1) (cl := vwCl) (ci := 5) (v := .int v) (ty := .int) (C := RX5) (T := TX5) (N := 14) C.1.1 C.1.2.1 C.1.2.2.2.2 in_X5 tyX5 tyX5_ok nmX5 C.1.2.2.2.1 C.2.1 h.1 h.2.1 h.2.2.1 0 (fs := twf g τ) rfl rfl 2 (by decide) (C.1.2.2.2.2 _ q304) (fun _ h9 => h9) rfl (by decide +kernel) rfl rfl (Nat.le_of_ble_eq_true rfl) hdg (fun H1 locs1 hP hD hS => kk _ H1 locs1 rfl ⟨hP, hD, hS, h.2.2.2⟩)
theorem T_g3 (C : wC (dT g) RX5 p s m args c cc nL) (h : wH (dT g) τ s H locs) (hdg : decode cc pc = .ok (.getfield 40, 3)) (kk : W p l e R s m args below meth c H locs cells slots Q (F0 m (pc + 3) ls (.int (gi τ 3) :: rest))) : W p l e R s m args below meth c H locs cells slots Q (F0 m pc ls (.ref (g.2.1 99) :: rest)) :=
  va_get (D := g.1) (cl := vwCl) (ci := 5) (v := .int (gi τ 3)) (C := RX5) (T := TX5) (N := 14) C.1.1 C.1.2.1 C.1.2.2.2.2 in_X5 C.1.2.2.2.1 C.2.1 h.1 0 (fs := twf g τ) rfl rfl 3 (by decide) (C.1.2.2.2.2 _ q307) (fun _ h9 => h9) rfl hdg kk
theorem T_p3 (C : wC (dT g) RX5 p s m args c cc nL) (h : wH (dT g) τ s H locs) {v : Int32} (hdg : decode cc pc = .ok (.putfield 40, 3)) (kk : ∀ (σ1 : MS) (H1 : Heap) (locs1 : List Loc), σ1 = si τ 3 v → wH (dT g) σ1 s H1 locs1 → W p l e R s m args below meth c H1 locs1 cells slots Q (F0 m (pc + 3) ls rest)) : W p l e R s m args below meth c H locs cells slots Q (F0 m pc ls (.int v :: .ref (g.2.1 99) :: rest)) :=
  va_put (D := g.1) (cl := vwCl) (ci := 5) (v := .int v) (ty := .int) (C := RX5) (T := TX5) (N := 14) C.1.1 C.1.2.1 C.1.2.2.2.2 in_X5 tyX5 tyX5_ok nmX5 C.1.2.2.2.1 C.2.1 h.1 h.2.1 h.2.2.1 0 (fs := twf g τ) rfl rfl 3 (by decide) (C.1.2.2.2.2 _ q307) (fun _ h9 => h9) rfl (by decide +kernel) rfl rfl (Nat.le_of_ble_eq_true rfl) hdg (fun H1 locs1 hP hD hS => kk _ H1 locs1 rfl ⟨hP, hD, hS, h.2.2.2⟩)
theorem T_g4 (C : wC (dT g) RX5 p s m args c cc nL) (h : wH (dT g) τ s H locs) (hdg : decode cc pc = .ok (.getfield 43, 3)) (kk : W p l e R s m args below meth c H locs cells slots Q (F0 m (pc + 3) ls (.int (gi τ 4) :: rest))) : W p l e R s m args below meth c H locs cells slots Q (F0 m pc ls (.ref (g.2.1 99) :: rest)) :=
  va_get (D := g.1) (cl := vwCl) (ci := 5) (v := .int (gi τ 4)) (C := RX5) (T := TX5) (N := 14) C.1.1 C.1.2.1 C.1.2.2.2.2 in_X5 C.1.2.2.2.1 C.2.1 h.1 0 (fs := twf g τ) rfl rfl 4 (by decide) (C.1.2.2.2.2 _ q310) (fun _ h9 => h9) rfl hdg kk
theorem T_p4 (C : wC (dT g) RX5 p s m args c cc nL) (h : wH (dT g) τ s H locs) {v : Int32} (hdg : decode cc pc = .ok (.putfield 43, 3)) (kk : ∀ (σ1 : MS) (H1 : Heap) (locs1 : List Loc), σ1 = si τ 4 v → wH (dT g) σ1 s H1 locs1 → W p l e R s m args below meth c H1 locs1 cells slots Q (F0 m (pc + 3) ls rest)) : W p l e R s m args below meth c H locs cells slots Q (F0 m pc ls (.int v :: .ref (g.2.1 99) :: rest)) :=
  va_put (D := g.1) (cl := vwCl) (ci := 5) (v := .int v) (ty := .int) (C := RX5) (T := TX5) (N := 14) C.1.1 C.1.2.1 C.1.2.2.2.2 in_X5 tyX5 tyX5_ok nmX5 C.1.2.2.2.1 C.2.1 h.1 h.2.1 h.2.2.1 0 (fs := twf g τ) rfl rfl 4 (by decide) (C.1.2.2.2.2 _ q310) (fun _ h9 => h9) rfl (by decide +kernel) rfl rfl (Nat.le_of_ble_eq_true rfl) hdg (fun H1 locs1 hP hD hS => kk _ H1 locs1 rfl ⟨hP, hD, hS, h.2.2.2⟩)
theorem T_g5 (C : wC (dT g) RX5 p s m args c cc nL) (h : wH (dT g) τ s H locs) (hdg : decode cc pc = .ok (.getfield 46, 3)) (kk : W p l e R s m args below meth c H locs cells slots Q (F0 m (pc + 3) ls (.int (gi τ 5) :: rest))) : W p l e R s m args below meth c H locs cells slots Q (F0 m pc ls (.ref (g.2.1 99) :: rest)) :=
  va_get (D := g.1) (cl := vwCl) (ci := 5) (v := .int (gi τ 5)) (C := RX5) (T := TX5) (N := 14) C.1.1 C.1.2.1 C.1.2.2.2.2 in_X5 C.1.2.2.2.1 C.2.1 h.1 0 (fs := twf g τ) rfl rfl 5 (by decide) (C.1.2.2.2.2 _ q314) (fun _ h9 => h9) rfl hdg kk
theorem T_p5 (C : wC (dT g) RX5 p s m args c cc nL) (h : wH (dT g) τ s H locs) {v : Int32} (hdg : decode cc pc = .ok (.putfield 46, 3)) (kk : ∀ (σ1 : MS) (H1 : Heap) (locs1 : List Loc), σ1 = si τ 5 v → wH (dT g) σ1 s H1 locs1 → W p l e R s m args below meth c H1 locs1 cells slots Q (F0 m (pc + 3) ls rest)) : W p l e R s m args below meth c H locs cells slots Q (F0 m pc ls (.int v :: .ref (g.2.1 99) :: rest)) :=
  va_put (D := g.1) (cl := vwCl) (ci := 5) (v := .int v) (ty := .int) (C := RX5) (T := TX5) (N := 14) C.1.1 C.1.2.1 C.1.2.2.2.2 in_X5 tyX5 tyX5_ok nmX5 C.1.2.2.2.1 C.2.1 h.1 h.2.1 h.2.2.1 0 (fs := twf g τ) rfl rfl 5 (by decide) (C.1.2.2.2.2 _ q314) (fun _ h9 => h9) rfl (by decide +kernel) rfl rfl (Nat.le_of_ble_eq_true rfl) hdg (fun H1 locs1 hP hD hS => kk _ H1 locs1 rfl ⟨hP, hD, hS, h.2.2.2⟩)
theorem T_g6 (C : wC (dT g) RX5 p s m args c cc nL) (h : wH (dT g) τ s H locs) (hdg : decode cc pc = .ok (.getfield 49, 3)) (kk : W p l e R s m args below meth c H locs cells slots Q (F0 m (pc + 3) ls (.int (gi τ 6) :: rest))) : W p l e R s m args below meth c H locs cells slots Q (F0 m pc ls (.ref (g.2.1 99) :: rest)) :=
  va_get (D := g.1) (cl := vwCl) (ci := 5) (v := .int (gi τ 6)) (C := RX5) (T := TX5) (N := 14) C.1.1 C.1.2.1 C.1.2.2.2.2 in_X5 C.1.2.2.2.1 C.2.1 h.1 0 (fs := twf g τ) rfl rfl 6 (by decide) (C.1.2.2.2.2 _ q317) (fun _ h9 => h9) rfl hdg kk
theorem T_p6 (C : wC (dT g) RX5 p s m args c cc nL) (h : wH (dT g) τ s H locs) {v : Int32} (hdg : decode cc pc = .ok (.putfield 49, 3)) (kk : ∀ (σ1 : MS) (H1 : Heap) (locs1 : List Loc), σ1 = si τ 6 v → wH (dT g) σ1 s H1 locs1 → W p l e R s m args below meth c H1 locs1 cells slots Q (F0 m (pc + 3) ls rest)) : W p l e R s m args below meth c H locs cells slots Q (F0 m pc ls (.int v :: .ref (g.2.1 99) :: rest)) :=
  va_put (D := g.1) (cl := vwCl) (ci := 5) (v := .int v) (ty := .int) (C := RX5) (T := TX5) (N := 14) C.1.1 C.1.2.1 C.1.2.2.2.2 in_X5 tyX5 tyX5_ok nmX5 C.1.2.2.2.1 C.2.1 h.1 h.2.1 h.2.2.1 0 (fs := twf g τ) rfl rfl 6 (by decide) (C.1.2.2.2.2 _ q317) (fun _ h9 => h9) rfl (by decide +kernel) rfl rfl (Nat.le_of_ble_eq_true rfl) hdg (fun H1 locs1 hP hD hS => kk _ H1 locs1 rfl ⟨hP, hD, hS, h.2.2.2⟩)
theorem T_g7 (C : wC (dT g) RX5 p s m args c cc nL) (h : wH (dT g) τ s H locs) (hdg : decode cc pc = .ok (.getfield 52, 3)) (kk : W p l e R s m args below meth c H locs cells slots Q (F0 m (pc + 3) ls (.int (gi τ 7) :: rest))) : W p l e R s m args below meth c H locs cells slots Q (F0 m pc ls (.ref (g.2.1 99) :: rest)) :=
  va_get (D := g.1) (cl := vwCl) (ci := 5) (v := .int (gi τ 7)) (C := RX5) (T := TX5) (N := 14) C.1.1 C.1.2.1 C.1.2.2.2.2 in_X5 C.1.2.2.2.1 C.2.1 h.1 0 (fs := twf g τ) rfl rfl 7 (by decide) (C.1.2.2.2.2 _ q319) (fun _ h9 => h9) rfl hdg kk
theorem T_p7 (C : wC (dT g) RX5 p s m args c cc nL) (h : wH (dT g) τ s H locs) {v : Int32} (hdg : decode cc pc = .ok (.putfield 52, 3)) (kk : ∀ (σ1 : MS) (H1 : Heap) (locs1 : List Loc), σ1 = si τ 7 v → wH (dT g) σ1 s H1 locs1 → W p l e R s m args below meth c H1 locs1 cells slots Q (F0 m (pc + 3) ls rest)) : W p l e R s m args below meth c H locs cells slots Q (F0 m pc ls (.int v :: .ref (g.2.1 99) :: rest)) :=
  va_put (D := g.1) (cl := vwCl) (ci := 5) (v := .int v) (ty := .int) (C := RX5) (T := TX5) (N := 14) C.1.1 C.1.2.1 C.1.2.2.2.2 in_X5 tyX5 tyX5_ok nmX5 C.1.2.2.2.1 C.2.1 h.1 h.2.1 h.2.2.1 0 (fs := twf g τ) rfl rfl 7 (by decide) (C.1.2.2.2.2 _ q319) (fun _ h9 => h9) rfl (by decide +kernel) rfl rfl (Nat.le_of_ble_eq_true rfl) hdg (fun H1 locs1 hP hD hS => kk _ H1 locs1 rfl ⟨hP, hD, hS, h.2.2.2⟩)
theorem T_g8 (C : wC (dT g) RX5 p s m args c cc nL) (h : wH (dT g) τ s H locs) (hdg : decode cc pc = .ok (.getfield 55, 3)) (kk : W p l e R s m args below meth c H locs cells slots Q (F0 m (pc + 3) ls (.int (gi τ 8) :: rest))) : W p l e R s m args below meth c H locs cells slots Q (F0 m pc ls (.ref (g.2.1 99) :: rest)) :=
  va_get (D := g.1) (cl := vwCl) (ci := 5) (v := .int (gi τ 8)) (C := RX5) (T := TX5) (N := 14) C.1.1 C.1.2.1 C.1.2.2.2.2 in_X5 C.1.2.2.2.1 C.2.1 h.1 0 (fs := twf g τ) rfl rfl 8 (by decide) (C.1.2.2.2.2 _ q321) (fun _ h9 => h9) rfl hdg kk
theorem T_p8 (C : wC (dT g) RX5 p s m args c cc nL) (h : wH (dT g) τ s H locs) {v : Int32} (hdg : decode cc pc = .ok (.putfield 55, 3)) (kk : ∀ (σ1 : MS) (H1 : Heap) (locs1 : List Loc), σ1 = si τ 8 v → wH (dT g) σ1 s H1 locs1 → W p l e R s m args below meth c H1 locs1 cells slots Q (F0 m (pc + 3) ls rest)) : W p l e R s m args below meth c H locs cells slots Q (F0 m pc ls (.int v :: .ref (g.2.1 99) :: rest)) :=
  va_put (D := g.1) (cl := vwCl) (ci := 5) (v := .int v) (ty := .int) (C := RX5) (T := TX5) (N := 14) C.1.1 C.1.2.1 C.1.2.2.2.2 in_X5 tyX5 tyX5_ok nmX5 C.1.2.2.2.1 C.2.1 h.1 h.2.1 h.2.2.1 0 (fs := twf g τ) rfl rfl 8 (by decide) (C.1.2.2.2.2 _ q321) (fun _ h9 => h9) rfl (by decide +kernel) rfl rfl (Nat.le_of_ble_eq_true rfl) hdg (fun H1 locs1 hP hD hS => kk _ H1 locs1 rfl ⟨hP, hD, hS, h.2.2.2⟩)
theorem T_g9 (C : wC (dT g) RX5 p s m args c cc nL) (h : wH (dT g) τ s H locs) (hdg : decode cc pc = .ok (.getfield 17, 3)) (kk : W p l e R s m args below meth c H locs cells slots Q (F0 m (pc + 3) ls (.ref (g.2.1 9) :: rest))) : W p l e R s m args below meth c H locs cells slots Q (F0 m pc ls (.ref (g.2.1 99) :: rest)) :=
  va_get (D := g.1) (cl := vwCl) (ci := 5) (v := .ref (g.2.1 9)) (C := RX5) (T := TX5) (N := 14) C.1.1 C.1.2.1 C.1.2.2.2.2 in_X5 C.1.2.2.2.1 C.2.1 h.1 0 (fs := twf g τ) rfl rfl 9 (by decide) (C.1.2.2.2.2 _ q324) (fun _ h9 => h9) rfl hdg kk
theorem T_g10 (C : wC (dT g) RX5 p s m args c cc nL) (h : wH (dT g) τ s H locs) (hdg : decode cc pc = .ok (.getfield 21, 3)) (kk : W p l e R s m args below meth c H locs cells slots Q (F0 m (pc + 3) ls (.ref (g.2.1 10) :: rest))) : W p l e R s m args below meth c H locs cells slots Q (F0 m pc ls (.ref (g.2.1 99) :: rest)) :=
  va_get (D := g.1) (cl := vwCl) (ci := 5) (v := .ref (g.2.1 10)) (C := RX5) (T := TX5) (N := 14) C.1.1 C.1.2.1 C.1.2.2.2.2 in_X5 C.1.2.2.2.1 C.2.1 h.1 0 (fs := twf g τ) rfl rfl 10 (by decide) (C.1.2.2.2.2 _ q326) (fun _ h9 => h9) rfl hdg kk
theorem T_g11 (C : wC (dT g) RX5 p s m args c cc nL) (h : wH (dT g) τ s H locs) (hdg : decode cc pc = .ok (.getfield 24, 3)) (kk : W p l e R s m args below meth c H locs cells slots Q (F0 m (pc + 3) ls (.ref (g.2.1 11) :: rest))) : W p l e R s m args below meth c H locs cells slots Q (F0 m pc ls (.ref (g.2.1 99) :: rest)) :=
  va_get (D := g.1) (cl := vwCl) (ci := 5) (v := .ref (g.2.1 11)) (C := RX5) (T := TX5) (N := 14) C.1.1 C.1.2.1 C.1.2.2.2.2 in_X5 C.1.2.2.2.1 C.2.1 h.1 0 (fs := twf g τ) rfl rfl 11 (by decide) (C.1.2.2.2.2 _ q328) (fun _ h9 => h9) rfl hdg kk
theorem T_g12 (C : wC (dT g) RX5 p s m args c cc nL) (h : wH (dT g) τ s H locs) (hdg : decode cc pc = .ok (.getfield 27, 3)) (kk : W p l e R s m args below meth c H locs cells slots Q (F0 m (pc + 3) ls (.ref (g.2.1 12) :: rest))) : W p l e R s m args below meth c H locs cells slots Q (F0 m pc ls (.ref (g.2.1 99) :: rest)) :=
  va_get (D := g.1) (cl := vwCl) (ci := 5) (v := .ref (g.2.1 12)) (C := RX5) (T := TX5) (N := 14) C.1.1 C.1.2.1 C.1.2.2.2.2 in_X5 C.1.2.2.2.1 C.2.1 h.1 0 (fs := twf g τ) rfl rfl 12 (by decide) (C.1.2.2.2.2 _ q331) (fun _ h9 => h9) rfl hdg kk
theorem T_g13 (C : wC (dT g) RX5 p s m args c cc nL) (h : wH (dT g) τ s H locs) (hdg : decode cc pc = .ok (.getfield 30, 3)) (kk : W p l e R s m args below meth c H locs cells slots Q (F0 m (pc + 3) ls (.ref (g.2.1 13) :: rest))) : W p l e R s m args below meth c H locs cells slots Q (F0 m pc ls (.ref (g.2.1 99) :: rest)) :=
  va_get (D := g.1) (cl := vwCl) (ci := 5) (v := .ref (g.2.1 13)) (C := RX5) (T := TX5) (N := 14) C.1.1 C.1.2.1 C.1.2.2.2.2 in_X5 C.1.2.2.2.1 C.2.1 h.1 0 (fs := twf g τ) rfl rfl 13 (by decide) (C.1.2.2.2.2 _ q333) (fun _ h9 => h9) rfl hdg kk
theorem T_l9 (C : wC (dT g) RX5 p s m args c cc nL) (h : wH (dT g) τ s H locs) {i : Int32} (hin : vp_in i (g.2.1 50)) (hdg : decode cc pc = .ok (.iaload, 1)) (kk : W p l e R s m args below meth c H locs cells slots Q (F0 m (pc + 1) ls (.int (ga τ 9 i) :: rest))) : W p l e R s m args below meth c H locs cells slots Q (F0 m pc ls (.int i :: .ref (g.2.1 9) :: rest)) :=
  va_iald C.1.1 C.1.2.1 C.2.1 h.1 1 0 rfl rfl hin hdg kk
theorem T_s9 (C : wC (dT g) RX5 p s m args c cc nL) (h : wH (dT g) τ s H locs) {i x : Int32} (hin : vp_in i (g.2.1 50)) (hdg : decode cc pc = .ok (.iastore, 1)) (kk : ∀ (σ1 : MS) (H1 : Heap) (locs1 : List Loc), σ1 = sa τ 9 i x → wH (dT g) σ1 s H1 locs1 → W p l e R s m args below meth c H1 locs1 cells slots Q (F0 m (pc + 1) ls rest)) : W p l e R s m args below meth c H locs cells slots Q (F0 m pc ls (.int x :: .int i :: .ref (g.2.1 9) :: rest)) :=
  va_iast C.1.1 C.1.2.1 C.2.1 h.1 h.2.1 h.2.2.1 1 0 rfl rfl hin hdg (fun H1 locs1 hP hD hS => kk _ H1 locs1 rfl ⟨hP, hD, hS, h.2.2.2⟩)
theorem T_l10 (C : wC (dT g) RX5 p s m args c cc nL) (h : wH (dT g) τ s H locs) {i : Int32} (hin : vp_in i (g.2.1 50)) (hdg : decode cc pc = .ok (.iaload, 1)) (kk : W p l e R s m args below meth c H locs cells slots Q (F0 m (pc + 1) ls (.int (ga τ 10 i) :: rest))) : W p l e R s m args below meth c H locs cells slots Q (F0 m pc ls (.int i :: .ref (g.2.1 10) :: rest)) :=
  va_iald C.1.1 C.1.2.1 C.2.1 h.1 2 0 rfl rfl hin hdg kk
theorem T_s10 (C : wC (dT g) RX5 p s m args c cc nL) (h : wH (dT g) τ s H locs) {i x : Int32} (hin : vp_in i (g.2.1 50)) (hdg : decode cc pc = .ok (.iastore, 1)) (kk : ∀ (σ1 : MS) (H1 : Heap) (locs1 : List Loc), σ1 = sa τ 10 i x → wH (dT g) σ1 s H1 locs1 → W p l e R s m args below meth c H1 locs1 cells slots Q (F0 m (pc + 1) ls rest)) : W p l e R s m args below meth c H locs cells slots Q (F0 m pc ls (.int x :: .int i :: .ref (g.2.1 10) :: rest)) :=
  va_iast C.1.1 C.1.2.1 C.2.1 h.1 h.2.1 h.2.2.1 2 0 rfl rfl hin hdg (fun H1 locs1 hP hD hS => kk _ H1 locs1 rfl ⟨hP, hD, hS, h.2.2.2⟩)
theorem T_l11 (C : wC (dT g) RX5 p s m args c cc nL) (h : wH (dT g) τ s H locs) {i : Int32} (hin : vp_in i 6) (hdg : decode cc pc = .ok (.iaload, 1)) (kk : W p l e R s m args below meth c H locs cells slots Q (F0 m (pc + 1) ls (.int (ga τ 11 i) :: rest))) : W p l e R s m args below meth c H locs cells slots Q (F0 m pc ls (.int i :: .ref (g.2.1 11) :: rest)) :=
  va_iald C.1.1 C.1.2.1 C.2.1 h.1 3 0 rfl rfl hin hdg kk
theorem T_s11 (C : wC (dT g) RX5 p s m args c cc nL) (h : wH (dT g) τ s H locs) {i x : Int32} (hin : vp_in i 6) (hdg : decode cc pc = .ok (.iastore, 1)) (kk : ∀ (σ1 : MS) (H1 : Heap) (locs1 : List Loc), σ1 = sa τ 11 i x → wH (dT g) σ1 s H1 locs1 → W p l e R s m args below meth c H1 locs1 cells slots Q (F0 m (pc + 1) ls rest)) : W p l e R s m args below meth c H locs cells slots Q (F0 m pc ls (.int x :: .int i :: .ref (g.2.1 11) :: rest)) :=
  va_iast C.1.1 C.1.2.1 C.2.1 h.1 h.2.1 h.2.2.1 3 0 rfl rfl hin hdg (fun H1 locs1 hP hD hS => kk _ H1 locs1 rfl ⟨hP, hD, hS, h.2.2.2⟩)
theorem T_l12 (C : wC (dT g) RX5 p s m args c cc nL) (h : wH (dT g) τ s H locs) {i : Int32} (hin : vp_in i 36) (hdg : decode cc pc = .ok (.iaload, 1)) (kk : W p l e R s m args below meth c H locs cells slots Q (F0 m (pc + 1) ls (.int (ga τ 12 i) :: rest))) : W p l e R s m args below meth c H locs cells slots Q (F0 m pc ls (.int i :: .ref (g.2.1 12) :: rest)) :=
  va_iald C.1.1 C.1.2.1 C.2.1 h.1 4 0 rfl rfl hin hdg kk
theorem T_s12 (C : wC (dT g) RX5 p s m args c cc nL) (h : wH (dT g) τ s H locs) {i x : Int32} (hin : vp_in i 36) (hdg : decode cc pc = .ok (.iastore, 1)) (kk : ∀ (σ1 : MS) (H1 : Heap) (locs1 : List Loc), σ1 = sa τ 12 i x → wH (dT g) σ1 s H1 locs1 → W p l e R s m args below meth c H1 locs1 cells slots Q (F0 m (pc + 1) ls rest)) : W p l e R s m args below meth c H locs cells slots Q (F0 m pc ls (.int x :: .int i :: .ref (g.2.1 12) :: rest)) :=
  va_iast C.1.1 C.1.2.1 C.2.1 h.1 h.2.1 h.2.2.1 4 0 rfl rfl hin hdg (fun H1 locs1 hP hD hS => kk _ H1 locs1 rfl ⟨hP, hD, hS, h.2.2.2⟩)
theorem T_l13 (C : wC (dT g) RX5 p s m args c cc nL) (h : wH (dT g) τ s H locs) {i : Int32} (hin : vp_in i 6) (hdg : decode cc pc = .ok (.iaload, 1)) (kk : W p l e R s m args below meth c H locs cells slots Q (F0 m (pc + 1) ls (.int (ga τ 13 i) :: rest))) : W p l e R s m args below meth c H locs cells slots Q (F0 m pc ls (.int i :: .ref (g.2.1 13) :: rest)) :=
  va_iald C.1.1 C.1.2.1 C.2.1 h.1 5 0 rfl rfl hin hdg kk
theorem T_s13 (C : wC (dT g) RX5 p s m args c cc nL) (h : wH (dT g) τ s H locs) {i x : Int32} (hin : vp_in i 6) (hdg : decode cc pc = .ok (.iastore, 1)) (kk : ∀ (σ1 : MS) (H1 : Heap) (locs1 : List Loc), σ1 = sa τ 13 i x → wH (dT g) σ1 s H1 locs1 → W p l e R s m args below meth c H1 locs1 cells slots Q (F0 m (pc + 1) ls rest)) : W p l e R s m args below meth c H locs cells slots Q (F0 m pc ls (.int x :: .int i :: .ref (g.2.1 13) :: rest)) :=
  va_iast C.1.1 C.1.2.1 C.2.1 h.1 h.2.1 h.2.2.1 5 0 rfl rfl hin hdg (fun H1 locs1 hP hD hS => kk _ H1 locs1 rfl ⟨hP, hD, hS, h.2.2.2⟩)
theorem T_pers (C : wC (dT g) RX5 p s m args c cc nL) (h : wH (dT g) τ s H locs) {i : Int32} (hin : 0 ≤ i.toInt ∧ i.toInt < (gi τ 1).toInt) (hdg : decode cc pc = .ok (.aaload, 1)) (kk : W p l e R s m args below meth c H locs cells slots Q (F0 m (pc + 1) ls (.ref (g.2.2.2.1 i.toNatClampNeg) :: rest))) : W p l e R s m args below meth c H locs cells slots Q (F0 m pc ls (.int i :: .ref (g.2.1 0) :: rest)) := by
  obtain ⟨⟨f, h1, h2, h3⟩, h4⟩ := C.2.2.1
  have hn := tP_n h.2.2.2
  have e : i.toNatClampNeg < g.2.1 51 := by show i.toInt.toNat < _; omega
  have ef := h3 _ e
  exact va_aldq (C := RX8) C.1.1 C.1.2.1 C.2.1 (va_P1k h1 h2 h.2.2.1) 0 1 rfl rfl (vp_in_iff.mpr (by omega)) hdg (by rw [ef]; exact kk)
theorem T_f0 (C : wC (dT g) RX5 p s m args c cc nL) (h : wH (dT g) τ s H locs) {i : Int32} (hin : 0 ≤ i.toInt ∧ i.toInt < (gi τ 1).toInt) (hdg : decode cc pc = .ok (.getfield 64, 3)) (kk : W p l e R s m args below meth c H locs cells slots Q (F0 m (pc + 3) ls (.long (gb τ 20 i) :: rest))) : W p l e R s m args below meth c H locs cells slots Q (F0 m pc ls (.ref (g.2.2.2.1 i.toNatClampNeg) :: rest)) := by
  obtain ⟨-, h4⟩ := C.2.2.1
  have hn := tP_n h.2.2.2
  have e : i.toNatClampNeg < g.2.1 51 := by show i.toInt.toNat < _; omega
  have ev : (prf g i.toNatClampNeg)[0]? = some (.long (gb τ 20 i)) := by
    have z := h.2.2.2.2
    show some _ = some _
    unfold gb; rw [z.2]
  exact va_getN (own := RX5) (D := g.1) (cl := vwCl) (ci := 8) (v := .long (gb τ 20 i)) (C := RX8) (T := TX8) (N := 7) C.1.1 C.1.2.1 C.1.2.2.2.2 in_X8 C.1.2.2.2.1 C.2.1 (va_P1k (h4 _ e).1 (h4 _ e).2 h.2.2.1) 0 (fs := prf g i.toNatClampNeg) rfl rfl 0 (by decide) (nF C.2.2.2 34 rfl) (fun _ h9 => h9) ev hdg kk
theorem T_f1 (C : wC (dT g) RX5 p s m args c cc nL) (h : wH (dT g) τ s H locs) {i : Int32} (hin : 0 ≤ i.toInt ∧ i.toInt < (gi τ 1).toInt) (hdg : decode cc pc = .ok (.getfield 125, 3)) (kk : W p l e R s m args below meth c H locs cells slots Q (F0 m (pc + 3) ls (.int (ga τ 21 i) :: rest))) : W p l e R s m args below meth c H locs cells slots Q (F0 m pc ls (.ref (g.2.2.2.1 i.toNatClampNeg) :: rest)) := by
  obtain ⟨-, h4⟩ := C.2.2.1
  have hn := tP_n h.2.2.2
  have e : i.toNatClampNeg < g.2.1 51 := by show i.toInt.toNat < _; omega
  have ev : (prf g i.toNatClampNeg)[1]? = some (.int (ga τ 21 i)) := by
    have z := h.2.2.2.2
    show some _ = some _
    unfold ga; rw [z.1.1]
  exact va_getN (own := RX5) (D := g.1) (cl := vwCl) (ci := 8) (v := .int (ga τ 21 i)) (C := RX8) (T := TX8) (N := 7) C.1.1 C.1.2.1 C.1.2.2.2.2 in_X8 C.1.2.2.2.1 C.2.1 (va_P1k (h4 _ e).1 (h4 _ e).2 h.2.2.1) 0 (fs := prf g i.toNatClampNeg) rfl rfl 1 (by decide) (nF C.2.2.2 36 rfl) (fun _ h9 => h9) ev hdg kk
theorem T_f2 (C : wC (dT g) RX5 p s m args c cc nL) (h : wH (dT g) τ s H locs) {i : Int32} (hin : 0 ≤ i.toInt ∧ i.toInt < (gi τ 1).toInt) (hdg : decode cc pc = .ok (.getfield 122, 3)) (kk : W p l e R s m args below meth c H locs cells slots Q (F0 m (pc + 3) ls (.int (ga τ 22 i) :: rest))) : W p l e R s m args below meth c H locs cells slots Q (F0 m pc ls (.ref (g.2.2.2.1 i.toNatClampNeg) :: rest)) := by
  obtain ⟨-, h4⟩ := C.2.2.1
  have hn := tP_n h.2.2.2
  have e : i.toNatClampNeg < g.2.1 51 := by show i.toInt.toNat < _; omega
  have ev : (prf g i.toNatClampNeg)[2]? = some (.int (ga τ 22 i)) := by
    have z := h.2.2.2.2
    show some _ = some _
    unfold ga; rw [z.1.2.1]
  exact va_getN (own := RX5) (D := g.1) (cl := vwCl) (ci := 8) (v := .int (ga τ 22 i)) (C := RX8) (T := TX8) (N := 7) C.1.1 C.1.2.1 C.1.2.2.2.2 in_X8 C.1.2.2.2.1 C.2.1 (va_P1k (h4 _ e).1 (h4 _ e).2 h.2.2.1) 0 (fs := prf g i.toNatClampNeg) rfl rfl 2 (by decide) (nF C.2.2.2 40 rfl) (fun _ h9 => h9) ev hdg kk
theorem T_f5 (C : wC (dT g) RX5 p s m args c cc nL) (h : wH (dT g) τ s H locs) {i : Int32} (hin : 0 ≤ i.toInt ∧ i.toInt < (gi τ 1).toInt) (hdg : decode cc pc = .ok (.getfield 96, 3)) (kk : W p l e R s m args below meth c H locs cells slots Q (F0 m (pc + 3) ls (.int (ga τ 25 i) :: rest))) : W p l e R s m args below meth c H locs cells slots Q (F0 m pc ls (.ref (g.2.2.2.1 i.toNatClampNeg) :: rest)) := by
  obtain ⟨-, h4⟩ := C.2.2.1
  have hn := tP_n h.2.2.2
  have e : i.toNatClampNeg < g.2.1 51 := by show i.toInt.toNat < _; omega
  have ev : (prf g i.toNatClampNeg)[5]? = some (.int (ga τ 25 i)) := by
    have z := h.2.2.2.2
    show some _ = some _
    unfold ga; rw [z.1.2.2.2.2.1]
  exact va_getN (own := RX5) (D := g.1) (cl := vwCl) (ci := 8) (v := .int (ga τ 25 i)) (C := RX8) (T := TX8) (N := 7) C.1.1 C.1.2.1 C.1.2.2.2.2 in_X8 C.1.2.2.2.1 C.2.1 (va_P1k (h4 _ e).1 (h4 _ e).2 h.2.2.1) 0 (fs := prf g i.toNatClampNeg) rfl rfl 5 (by decide) (nF C.2.2.2 47 rfl) (fun _ h9 => h9) ev hdg kk
theorem T_f6 (C : wC (dT g) RX5 p s m args c cc nL) (h : wH (dT g) τ s H locs) {i : Int32} (hin : 0 ≤ i.toInt ∧ i.toInt < (gi τ 1).toInt) (hdg : decode cc pc = .ok (.getfield 72, 3)) (kk : W p l e R s m args below meth c H locs cells slots Q (F0 m (pc + 3) ls (.int (ga τ 26 i) :: rest))) : W p l e R s m args below meth c H locs cells slots Q (F0 m pc ls (.ref (g.2.2.2.1 i.toNatClampNeg) :: rest)) := by
  obtain ⟨-, h4⟩ := C.2.2.1
  have hn := tP_n h.2.2.2
  have e : i.toNatClampNeg < g.2.1 51 := by show i.toInt.toNat < _; omega
  have ev : (prf g i.toNatClampNeg)[6]? = some (.int (ga τ 26 i)) := by
    have z := h.2.2.2.2
    show some _ = some _
    unfold ga; rw [z.1.2.2.2.2.2]
  exact va_getN (own := RX5) (D := g.1) (cl := vwCl) (ci := 8) (v := .int (ga τ 26 i)) (C := RX8) (T := TX8) (N := 7) C.1.1 C.1.2.1 C.1.2.2.2.2 in_X8 C.1.2.2.2.1 C.2.1 (va_P1k (h4 _ e).1 (h4 _ e).2 h.2.2.1) 0 (fs := prf g i.toNatClampNeg) rfl rfl 6 (by decide) (nF C.2.2.2 50 rfl) (fun _ h9 => h9) ev hdg kk
end TROWS
