/-! LETME WHOLE: the cells that never change again, beside LetMe's own -/
set_option maxRecDepth 100000
/-- the array classes by the tables' numbers -/
def gc (c : Nat → ClassId) : Nat → ClassId := fun n => match n with | 0 => c 0 | 3 => c 1 | 5 => c 3 | _ => 0
/-- a table: addresses by number, its people: where they lie, what they are -/
abbrev PD : Type := (Nat → Nat) × (Nat → Nat → Int32) × (Nat → Int64)
abbrev mkT (D : va_G) (c : Nat → ClassId) (r : Nat → Nat) (pd : PD) : GT := (D, r, gc c, pd)
abbrev mkG (D : va_G) (c : Nat → ClassId) (r : Nat → Nat) (pd : PD) (b : Nat → Nat) (y : Value) : GL := (mkT D c r pd, (fun _ => c 2), b, y)
/-- a table's people among the cells that never change -/
def fzT (fz : va_W) (g : GT) : Prop := (∃ f : Nat → Option Nat, ((g.2.1 0, .inl (g.2.2.1 3, 6, .inr (.inr (.inr (.inr f))))) : Nat × va_E) ∈ fz ∧ ∀ p : Nat, p < g.2.1 51 → f p = some (g.2.2.2.1 p)) ∧ ∀ p : Nat, p < g.2.1 51 → ((g.2.2.2.1 p, .inr (8, prf g p)) : Nat × va_E) ∈ fz
theorem fzT.app {fz : va_W} {g : GT} (h : fzT fz g) (z : va_W) : fzT (z ++ fz) g := by
  obtain ⟨⟨f, h1, h2⟩, h3⟩ := h
  exact ⟨⟨f, List.mem_append_right _ h1, h2⟩, fun p hp => List.mem_append_right _ (h3 p hp)⟩
/-- it asks only where the people's row is, how many they are, where they lie, what they are -/
theorem fzT.re {fz : va_W} {D : va_G} {c : Nat → ClassId} {r r' : Nat → Nat} {pd : PD} (h : fzT fz (mkT D c r pd)) (h0 : r' 0 = r 0) (h51 : r' 51 = r 51) : fzT fz (mkT D c r' pd) := by
  obtain ⟨⟨f, h1, h2⟩, h3⟩ := h
  refine ⟨⟨f, ?_, fun p hp => h2 p (by show p < r 51; rw [← h51]; exact hp)⟩, fun p hp => h3 p (by show p < r 51; rw [← h51]; exact hp)⟩
  show ((r' 0, _) : Nat × va_E) ∈ fz
  rw [h0]
  exact h1
theorem fz_at {D : va_G} {A : Nat → Prop} {P fz : va_W} {H : Heap} {q : Nat × va_E} (hP : va_P D vwCl (P ++ fz) H) (hD : va_D A (P ++ fz)) (hq : q ∈ fz) : va_P D vwCl [q] H ∧ ¬ ∃ (k : Nat) (e : va_E), P[k]? = some (q.1, e) := by
  refine ⟨va_P_iff.mpr (fun x hx => ?_), fun ⟨k, e, hk⟩ => ?_⟩
  · rw [List.mem_singleton] at hx
    subst hx
    exact va_P_iff.mp hP x (List.mem_append_right _ hq)
  · obtain ⟨j, hj⟩ := List.getElem?_of_mem hq
    exact va_Dnot hD hj k (q.1, e) hk rfl
theorem tF_of {g : GT} {A A1 : Nat → Prop} {P fz : va_W} {H : Heap} (hf : fzT fz g) (hP : va_P g.1 vwCl (P ++ fz) H) (hD : va_D A (P ++ fz)) (hA : ∀ q, A1 q → ∃ (k : Nat) (e : va_E), P[k]? = some (q, e)) : tF g A1 H := by
  obtain ⟨⟨f, h1, h2⟩, h3⟩ := hf
  have a := fz_at hP hD h1
  exact ⟨⟨f, a.1, fun z => a.2 (hA _ z), h2⟩, fun p hp => ⟨(fz_at hP hD (h3 p hp)).1, fun z => (fz_at hP hD (h3 p hp)).2 (hA _ z)⟩⟩
theorem zF_of {D : va_G} {A A1 : Nat → Prop} {P fz : va_W} {H : Heap} (hP : va_P D vwCl (P ++ fz) H) (hD : va_D A (P ++ fz)) (hA : ∀ q, A1 q → ∃ (k : Nat) (e : va_E), P[k]? = some (q, e)) : zF D A1 fz H :=
  ⟨va_PappR hP, fun k q hk z => by
    obtain ⟨j, e, hj⟩ := hA _ z
    exact va_Dnot hD hk j (q.1, e) hj rfl⟩
theorem lA_iff (g : GL) (σ : MS × MS) (q : Nat) : lA g q ↔ ∃ (k : Nat) (e : va_E), (lw g σ)[k]? = some (q, e) := by
  have e : (lw g (m00, m00)).map Prod.fst = (lw g σ).map Prod.fst := rfl
  have z : ∀ (x y : va_W), x.map Prod.fst = y.map Prod.fst → (∃ (k : Nat) (e : va_E), x[k]? = some (q, e)) → ∃ (k : Nat) (e : va_E), y[k]? = some (q, e) := by
    rintro x y h ⟨k, e, hk⟩
    have h1 : (y.map Prod.fst)[k]? = some q := by rw [← h, List.getElem?_map, hk]; rfl
    rw [List.getElem?_map] at h1
    cases hy : y[k]? with
    | none => rw [hy] at h1; cases h1
    | some q' => rw [hy] at h1; exact ⟨k, q'.2, by rw [hy]; exact congrArg some (Prod.ext (Option.some.inj h1) rfl)⟩
  exact ⟨z _ _ e, z _ _ e.symm⟩
/-- what a call in LetMe's own world leans on, out of the raw one -/
theorem lX_of {g : GL} {σ : MS × MS} {A : Nat → Prop} {R1 fz : va_W} {s : State} {H : Heap} (hf : fzT fz g.1) (hN : NW2 s) (hP : va_P g.1.1 vwCl (lw g σ ++ (R1 ++ fz)) H) (hD : va_D A (lw g σ ++ (R1 ++ fz))) : ∀ U : State, U.heap = H → s.WarmedH U.vm → lX g U := fun U hU hW => by
  refine ⟨?_, NW.warm hW hN.1⟩
  rw [hU]
  have hP2 : va_P g.1.1 vwCl ((lw g σ ++ R1) ++ fz) H := by rw [List.append_assoc]; exact hP
  have hD2 : va_D A ((lw g σ ++ R1) ++ fz) := by rw [List.append_assoc]; exact hD
  exact tF_of hf hP2 hD2 (fun q hq => by
    obtain ⟨k, e, hk⟩ := (lA_iff g σ q).mp hq
    exact ⟨k, e, by rw [List.getElem?_append_left (List.getElem?_eq_some_iff.mp hk).1]; exact hk⟩)
theorem tX_of {g : GT} {τ : MS} {A : Nat → Prop} {R1 fz : va_W} {s : State} {H : Heap} (hf : fzT fz g) (hN : NW2 s) (hP : va_P g.1 vwCl (tw g τ ++ (R1 ++ fz)) H) (hD : va_D A (tw g τ ++ (R1 ++ fz))) : ∀ U : State, U.heap = H → s.WarmedH U.vm → tX g U := fun U hU hW => by
  refine ⟨?_, NW.warm hW hN.1⟩
  rw [hU]
  have hP2 : va_P g.1 vwCl ((tw g τ ++ R1) ++ fz) H := by rw [List.append_assoc]; exact hP
  have hD2 : va_D A ((tw g τ ++ R1) ++ fz) := by rw [List.append_assoc]; exact hD
  exact tF_of hf hP2 hD2 (fun q hq => by
    obtain ⟨k, e, hk⟩ := (tA_iff g τ q).mp hq
    exact ⟨k, e, by rw [List.getElem?_append_left (List.getElem?_eq_some_iff.mp hk).1]; exact hk⟩)
/-- the picture of another table: the same but for its rows' rest -/
def tEq (d : Nat) (τ τ' : MS) : Prop := (∀ k, τ'.1 k = τ.1 k) ∧ (∀ i, i < d → τ'.2.2.1 9 i = τ.2.2.1 9 i ∧ τ'.2.2.1 10 i = τ.2.2.1 10 i) ∧ (∀ i, i < 6 → τ'.2.2.1 11 i = τ.2.2.1 11 i ∧ τ'.2.2.1 13 i = τ.2.2.1 13 i) ∧ (∀ i, i < 36 → τ'.2.2.1 12 i = τ.2.2.1 12 i) ∧ (τ'.2.2.1 21 = τ.2.2.1 21 ∧ τ'.2.2.1 22 = τ.2.2.1 22 ∧ τ'.2.2.1 23 = τ.2.2.1 23 ∧ τ'.2.2.1 24 = τ.2.2.1 24 ∧ τ'.2.2.1 25 = τ.2.2.1 25 ∧ τ'.2.2.1 26 = τ.2.2.1 26) ∧ τ'.2.2.2 20 = τ.2.2.2 20
