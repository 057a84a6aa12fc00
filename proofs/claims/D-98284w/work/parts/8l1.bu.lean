/-! a table that has become another; printed by gen/mkraw4.py -/
set_option maxRecDepth 100000
abbrev BU : Type := (Nat → Nat) × Nat × (Nat → Nat → Int32)
/-- a table that has become another: its addresses and places, its picture -/
def beR (u : BU) (r2 : Nat → Nat) : Nat → Nat := fun k => if k = 50 then u.2.1 else if k = 51 then r2 51 else u.1 k
def beT (u : BU) (τ2 : MS) : MS := (τ2.1, τ2.2.1, fun k => if k = 9 then u.2.2 9 else if k = 10 then u.2.2 10 else if k = 11 then u.2.2 11 else if k = 12 then u.2.2 12 else if k = 13 then u.2.2 13 else τ2.2.2.1 k, τ2.2.2.2)
/-- a new house's table -/
def nwR (u : Nat × (Nat → Nat)) : Nat → Nat := fun k => if k = 99 then u.1 else u.2 k
theorem beP.eq {r r' : Nat → Nat} {d : Nat} {τ : MS} {u : BU} (h : beP r r' d τ.2.2.1 u) : tEq d τ (beT u τ) := ⟨fun _ => rfl, h.2.2.2.1, h.2.2.2.2.1, h.2.2.2.2.2, ⟨rfl, rfl, rfl, rfl, rfl, rfl⟩, rfl⟩
theorem tP_be {D : va_G} {c : Nat → ClassId} {r2 : Nat → Nat} {pd : PD} {τ2 : MS} {u : BU} (h : tP (mkT D c r2 pd) τ2) : tP (mkT D c (beR u r2) pd) (beT u τ2) := ⟨h.1, h.2.1, h.2.2⟩
theorem fz_be {D : va_G} {c : Nat → ClassId} {r r2 : Nat → Nat} {pd : PD} {fz : va_W} {d : Nat} {f' : Nat → Nat → Int32} {u : BU} (h : fzT fz (mkT D c r2 pd)) (hu : beP r r2 d f' u) : fzT fz (mkT D c (beR u r2) pd) := h.re (by show u.1 0 = r2 0; exact hu.1.1) rfl
