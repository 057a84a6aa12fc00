/-! LetMe.at(), LetMe.one(p): what answers a reference -/
set_option maxRecDepth 100000
theorem k_X0_at (l : Launch) (g : GL) (σ : MS × MS) : Met l yX0_at (ws_ yX0_at cX0_at 1 (some (.object "LetMe$Table"))) ({ frames := 0, cells := 0, slots := 0, locals := 0 } : Room) (wPc (dL g) (g.2.2.1 99) σ []) (va_Qr (fun u => u = σ) (fun u a U => wU (dL g) u U ∧ a = g.1.2.1 99) (dL g).2.2.2.1) 0 0 (dL g).2.2.2.1 := by
  refine met_W RX0 (by decide) rfl (Nat.le_of_ble_eq_true rfl) ?_
  intro p e s m args below meth c C hr hlocks h ls hl
  have hx := C.1.1
  have hb := C.1.2.1
  have hl : lv_has ls 1 [(0, .ref (g.2.2.1 99))] := hl
  refine lv_aload_n hx hb dX0_at_0 rfl (lv_at hl 0 rfl) ?_
  refine L_g10 C h dX0_at_1 ?_
  refine L_tab C h dX0_at_4 ?_
  exact W.aret hx hb hr (Or.inl ⟨_, rfl⟩) (Or.inr ⟨_, rfl⟩) (fun t ht hW => ⟨⟨σ, g.1.2.1 99, rfl, rfl, ⟨by rw [ht]; exact h.1, va_K.moved hW.alike C.2.1, h.2.1, (wXL g).2 s t _ _ C.2.2 h.2.2.1 ht hW, h.2.2.2⟩, rfl⟩, h.2.2.1.F ht⟩) h.2.2.1.2.2 dX0_at_7 hlocks
theorem k_X0_one (l : Launch) (g : GL) (σ : MS × MS) (p1 : Int32) (h1p : 0 ≤ p1.toInt ∧ p1.toInt < (gi (ttb σ) 1).toInt) : Met l yX0_one (ws_ yX0_one cX0_one 2 (some (.object "LetMe$Person"))) ({ frames := 0, cells := 0, slots := 0, locals := 0 } : Room) (wPc (dL g) (g.2.2.1 99) σ [.int p1]) (va_Qr (fun u => u = σ) (fun u a U => wU (dL g) u U ∧ a = g.1.2.2.2.1 p1.toNatClampNeg) (dL g).2.2.2.1) 0 0 (dL g).2.2.2.1 := by
  refine met_W RX0 (by decide) rfl (Nat.le_of_ble_eq_true rfl) ?_
  intro p e s m args below meth c C hr hlocks h ls hl
  have hx := C.1.1
  have hb := C.1.2.1
  have hl : lv_has ls 2 [(0, .ref (g.2.2.1 99)), (1, .int p1)] := hl
  refine lv_aload_n hx hb dX0_one_0 rfl (lv_at hl 0 rfl) ?_
  refine L_g10 C h dX0_one_1 ?_
  refine L_tab C h dX0_one_4 ?_
  refine L_t0 C h dX0_one_7 ?_
  refine lv_iload_n hx hb dX0_one_10 rfl (lv_at hl 1 rfl) ?_
  refine L_pers C h h1p dX0_one_11 ?_
  exact W.aret hx hb hr (Or.inl ⟨_, rfl⟩) (Or.inr ⟨_, rfl⟩) (fun t ht hW => ⟨⟨σ, _, rfl, rfl, ⟨by rw [ht]; exact h.1, va_K.moved hW.alike C.2.1, h.2.1, (wXL g).2 s t _ _ C.2.2 h.2.2.1 ht hW, h.2.2.2⟩, rfl⟩, h.2.2.1.F ht⟩) h.2.2.1.2.2 dX0_one_12 hlocks
section LAT
variable {p : Program} {l : Launch} {e : Env} {R : Room} {s : State} {m : MethodId} {args : Array Value} {below : List Frame} {meth : Method} {c : Code} {H : Heap} {locs : List Loc} {cells slots : Nat} {Q : State → Prop}
variable {cc : ByteArray} {nL pc : Nat} {ls : Array Slot} {rest st0 : List Value} {g : GL} {σ : MS × MS}
theorem L_at (C : wC (dL g) RX0 p s m args c cc nL) (h : wH (dL g) σ s H locs) (hR : 1 ≤ R.frames ∧ 20 ≤ R.locals) (hls : ls.size = nL) (hW : (rest.map fun v => v.category).sum ≤ 8) (hcs : cells ≤ R.cells ∧ slots ≤ R.slots) (hdg : decode cc pc = .ok (.invokevirtual 163, 3))
    (kk : ∀ (H1 : Heap) (locs1 : List Loc), wH (dL g) σ s H1 locs1 → W p l e R s m args below meth c H1 locs1 cells slots Q (F0 m (pc + 3) ls (.ref (g.1.2.1 99) :: rest))) : W p l e R s m args below meth c H locs cells slots Q (F0 m pc ls (.ref (g.2.2.1 99) :: rest)) :=
  va_callr (va_runV (As := []) (rest := rest) C.1 (k_X0_at l g σ) (cwV 0 C.1.2.2.2.2 (lw_V q865 q867 qs32 q144 q868) rfl rfl rfl (by decide +kernel) ⟨by show 0 + 1 ≤ R.frames; omega, by show 8 + (1 + 11) + 0 ≤ R.locals; omega⟩) ⟨fun a U G mk q => ⟨q.1, q.2.same (U := U.calling G mk a) (wXL g) rfl rfl⟩, va_recv C.2.1 h.1 (ci := 0) (q0 := 6) rfl rfl, fun U hU hW => ⟨rfl, by rw [hU]; exact h.1, va_K.moved hW.alike C.2.1, h.2.1, (wXL g).2 s U H locs C.2.2 h.2.2.1 hU hW, h.2.2.2⟩⟩ rfl rfl hls rfl (lv_room hW) hdg hcs) h.2.2.1 (fun _ _ q => q) (fun _ q => q)
    (fun u ra t H1 locs1 ht _ hp hB _ _ hS => by rw [hB.2]; exact kk H1 locs1 (by rw [← show u = σ from hp]; exact ⟨by rw [← ht]; exact hB.1.1, hB.1.2.2.1, hS, hB.1.2.2.2.2⟩))
theorem L_one {p1 : Int32} (C : wC (dL g) RX0 p s m args c cc nL) (h : wH (dL g) σ s H locs) (h1p : 0 ≤ p1.toInt ∧ p1.toInt < (gi (ttb σ) 1).toInt) (hR : 1 ≤ R.frames ∧ 21 ≤ R.locals) (hls : ls.size = nL) (hW : (rest.map fun v => v.category).sum ≤ 8) (hcs : cells ≤ R.cells ∧ slots ≤ R.slots) (hdg : decode cc pc = .ok (.invokevirtual 275, 3))
    (kk : ∀ (H1 : Heap) (locs1 : List Loc), wH (dL g) σ s H1 locs1 → W p l e R s m args below meth c H1 locs1 cells slots Q (F0 m (pc + 3) ls (.ref (g.1.2.2.2.1 p1.toNatClampNeg) :: rest))) : W p l e R s m args below meth c H locs cells slots Q (F0 m pc ls (.int p1 :: .ref (g.2.2.1 99) :: rest)) :=
  va_callr (va_runV (As := [.int p1]) (rest := rest) C.1 (k_X0_one l g σ p1 h1p) (cwV 1 C.1.2.2.2.2 (lw_V q1029 q1031 qs42 q144 q1032) rfl rfl rfl (by decide +kernel) ⟨by show 0 + 1 ≤ R.frames; omega, by show 8 + (2 + 11) + 0 ≤ R.locals; omega⟩) ⟨fun a U G mk q => ⟨q.1, q.2.same (U := U.calling G mk a) (wXL g) rfl rfl⟩, va_recv C.2.1 h.1 (ci := 0) (q0 := 6) rfl rfl, fun U hU hW => ⟨rfl, by rw [hU]; exact h.1, va_K.moved hW.alike C.2.1, h.2.1, (wXL g).2 s U H locs C.2.2 h.2.2.1 hU hW, h.2.2.2⟩⟩ rfl rfl hls rfl (lv_room hW) hdg hcs) h.2.2.1 (fun _ _ q => q) (fun _ q => q)
    (fun u ra t H1 locs1 ht _ hp hB _ _ hS => by rw [hB.2]; exact kk H1 locs1 (by rw [← show u = σ from hp]; exact ⟨by rw [← ht]; exact hB.1.1, hB.1.2.2.1, hS, hB.1.2.2.2.2⟩))
end LAT
