/-! walks of methods by contract, printed by gen/mkwalk.py -/
set_option maxRecDepth 100000
def f_X2_at (σ : MS × MS) (p1 : Int32) (p2 : Int32) : MS × MS := (let σ2 := lsi σ 16 p1; let σ7 := lsi σ2 17 p2; σ7)
set_option maxHeartbeats 4000000 in
set_option maxRecDepth 100000 in
theorem k_X2_at (l : Launch) (g : GR) (σ : MS × MS) (p1 : Int32) (p2 : Int32) : Met l yX2_at (ws_ yX2_at cX2_at 3 (some (.object "LetMe$Bad"))) ({ frames := 0, cells := 0, slots := 0, locals := 0 } : Room) (wPc (dR g) (g.2.1 93) σ [.int p1, .int p2]) (va_Qr (fun u => u = f_X2_at σ p1 p2) (fun u b U => wU (dR g) u U ∧ b = g.2.1 93) (rA g)) 0 0 (rA g) := by
  refine met_W RX2 (by decide) rfl (Nat.le_of_ble_eq_true rfl) ?_
  intro p e s m args below meth c C hr hlocks h ls hl
  have hx := C.1.1
  have hb := C.1.2.1
  have hml := C.1.2.2.1
  have hown := C.1.2.2.2.1
  have hts := C.1.2.2.2.2
  have hl : lv_has ls 3 [(0, .ref (g.2.1 93)), (1, .int p1), (2, .int p2)] := hl
  refine lv_aload_n hx hb dX2_at_0 rfl (lv_at hl 0 rfl) ?_
  refine lv_iload_n hx hb dX2_at_1 rfl (lv_at hl 1 rfl) ?_
  refine B_p6 C h dX2_at_2 (fun σ2 H locs eσ2 h => ?_)
  refine lv_aload_n hx hb dX2_at_5 rfl (lv_at hl 0 rfl) ?_
  refine lv_iload_n hx hb dX2_at_6 rfl (lv_at hl 2 rfl) ?_
  refine B_p7 C h dX2_at_7 (fun σ7 H locs eσ7 h => ?_)
  refine lv_aload_n hx hb dX2_at_10 rfl (lv_at hl 0 rfl) ?_
  have he : f_X2_at σ p1 p2 = σ7 := (by have eσ2 := eσ2.symm; subst eσ2; have eσ7 := eσ7.symm; subst eσ7; exact rfl)
  exact x_retr C h hr hlocks he dX2_at_11
def f_X7_wrong (σ : MS × MS) : MS × MS := (let z20_ : Int32 := (if (gi (own σ) 3) = (4 : Int32) then ((1 : Int32)) else ((2 : Int32))); let t0_20 := z20_; (let σ24 := (f_X2_at σ t0_20 (gi (own σ) 1)); σ24))
set_option maxHeartbeats 4000000 in
set_option maxRecDepth 100000 in
theorem k_X7_wrong (l : Launch) (g : GR) (σ : MS × MS) : Met l yX7_wrong (ws_ yX7_wrong cX7_wrong 1 (some (.object "LetMe$Bad"))) ({ frames := 1, cells := 0, slots := 0, locals := 22 } : Room) (wPc (dR g) (g.2.1 90) σ []) (va_Qr (fun u => u = f_X7_wrong σ) (fun u b U => wU (dR g) u U ∧ b = g.2.1 93) (rA g)) 0 0 (rA g) := by
  refine met_W RX7 (by decide) rfl (Nat.le_of_ble_eq_true rfl) ?_
  intro p e s m args below meth c C hr hlocks h ls hl
  have hx := C.1.1
  have hb := C.1.2.1
  have hml := C.1.2.2.1
  have hown := C.1.2.2.2.1
  have hts := C.1.2.2.2.2
  have hl : lv_has ls 1 [(0, .ref (g.2.1 90))] := hl
  have zl1 : (1 : Int32).toInt = 1 := rfl
  have zl2 : (2 : Int32).toInt = 2 := rfl
  have zl4 : (4 : Int32).toInt = 4 := rfl
  refine lv_aload_n hx hb dX7_wrong_0 rfl (lv_at hl 0 rfl) ?_
  refine R_g8 C h dX7_wrong_1 ?_
  refine R_bad C h dX7_wrong_4 ?_
  refine lv_aload_n hx hb dX7_wrong_7 rfl (lv_at hl 0 rfl) ?_
  refine R_g3 C h dX7_wrong_8 ?_
  refine lv_iconst (v := 4) hx hb dX7_wrong_11 (by decide) ?_
  have j20 : ∀ (t0_20 : Int32) (H : Heap) (locs : List Loc) (ls : Array Slot) (ej20 : (if (gi (own σ) 3) = (4 : Int32) then ((1 : Int32)) else ((2 : Int32))) = t0_20) (h : wH (dR g) σ s H locs) (hl : lv_has ls 1 [(0, .ref (g.2.1 90))]), W p l e ({ frames := 1, cells := 0, slots := 0, locals := 22 } : Room) s m args below meth c H locs 0 0 (MQ below (va_Qr (fun u => u = f_X7_wrong σ) (fun u b U => wU (dR g) u U ∧ b = g.2.1 93) (rA g)) args s 0 0 (rA g)) (F0 m 20 ls [.int t0_20, .ref (g.2.1 93)]) := by
    intro t0_20 H locs ls ej20 h hl
    have et0_20 := ej20.symm
    refine lv_aload_n hx hb dX7_wrong_20 rfl (lv_at hl 0 rfl) ?_
    refine R_g1 C h dX7_wrong_21 ?_
    refine R_rcall (ci := 2) (q0 := 7) (As := [.int t0_20, .int (gi (own σ) 1)]) (rest := []) 2 C h (k_X2_at l g σ t0_20 (gi (own σ) 1)) (lw_V q692 q693 q694 q148 q695) rfl rfl rfl rfl (by decide +kernel) ⟨Nat.le_of_ble_eq_true rfl, Nat.le_of_ble_eq_true rfl⟩ rfl hl.1 rfl (Nat.le_of_ble_eq_true rfl) ⟨Nat.le_of_ble_eq_true rfl, Nat.le_of_ble_eq_true rfl⟩ dX7_wrong_24 (fun σ24 H locs eσ24 h => ?_)
    have he : f_X7_wrong σ = σ24 := (by have et0_20 := et0_20.symm; subst et0_20; have eσ24 := eσ24.symm; subst eσ24; exact rfl)
    exact x_retr C h hr hlocks he dX7_wrong_27
  refine lv_icmp_ne (tgt := 19) hx hb dX7_wrong_12 (by decide) (fun c12 => ?_) (fun c12 => ?_)
  · have i12 := c_ne c12
    refine lv_iconst (v := 2) hx hb dX7_wrong_19 (by decide) ?_
    exact j20 _ _ _ _ (by exact ((if_neg c12).trans rfl)) h hl
  · have i12 := c_eq c12
    refine lv_iconst (v := 1) hx hb dX7_wrong_15 (by decide) ?_
    refine lv_goto (tgt := 20) hx hb dX7_wrong_16 (by decide) ?_
    exact j20 _ _ _ _ (by exact ((if_pos c12).trans rfl)) h hl
def f_X7_isLetter (σ : MS × MS) (p1 : Int32) : Int32 := if (gi (own σ) 0) ≤ p1 then ((0 : Int32)) else (if (ga (own σ) 1 p1) < (97 : Int32) then ((0 : Int32)) else (if (122 : Int32) < (ga (own σ) 1 p1) then ((0 : Int32)) else ((1 : Int32))))
set_option maxHeartbeats 4000000 in
set_option maxRecDepth 100000 in
theorem k_X7_isLetter (l : Launch) (g : GR) (σ : MS × MS) (p1 : Int32) (hs9 : 0 ≤ (gi (own σ) 0).toInt ∧ (gi (own σ) 0).toInt ≤ 900) (hk0 : 0 ≤ p1.toInt) : Met l yX7_isLetter (ws_ yX7_isLetter cX7_isLetter 2 (some .boolean)) ({ frames := 0, cells := 0, slots := 0, locals := 0 } : Room) (wPc (dR g) (g.2.1 90) σ [.int p1]) (wQz (dR g) σ (f_X7_isLetter σ p1) (fun u r => (¬ r = 0 → p1.toInt < (gi (own σ) 0).toInt))) 0 0 (dR g).2.2.2.1 := by
  refine met_W RX7 (by decide) rfl (Nat.le_of_ble_eq_true rfl) ?_
  intro p e s m args below meth c C hr hlocks h ls hl
  have hx := C.1.1
  have hb := C.1.2.1
  have hml := C.1.2.2.1
  have hown := C.1.2.2.2.1
  have hts := C.1.2.2.2.2
  have hl : lv_has ls 2 [(0, .ref (g.2.1 90)), (1, .int p1)] := hl
  have zl0 : (0 : Int32).toInt = 0 := rfl
  have zl1 : (1 : Int32).toInt = 1 := rfl
  have zl97 : (97 : Int32).toInt = 97 := rfl
  have zl122 : (122 : Int32).toInt = 122 := rfl
  refine lv_iload_n hx hb dX7_isLetter_0 rfl (lv_at hl 1 rfl) ?_
  refine lv_aload_n hx hb dX7_isLetter_1 rfl (lv_at hl 0 rfl) ?_
  refine R_g0 C h dX7_isLetter_2 ?_
  refine lv_icmp_ge (tgt := 40) hx hb dX7_isLetter_5 (by decide) (fun c5 => ?_) (fun c5 => ?_)
  · have i5 := c_le c5
    refine lv_iconst (v := 0) hx hb dX7_isLetter_40 (by decide) ?_
    have he : f_X7_isLetter σ p1 = (0 : Int32) := (by exact ((if_pos c5).trans rfl))
    exact w_retz (wXR g) C h hr hlocks rfl he (Or.inl rfl) (by first | (intro q9; exact absurd rfl q9) | (intro _; omega)) dX7_isLetter_41
  · have i5 := c_nle c5
    refine lv_aload_n hx hb dX7_isLetter_8 rfl (lv_at hl 0 rfl) ?_
    refine R_g8 C h dX7_isLetter_9 ?_
    refine R_tape C h dX7_isLetter_12 ?_
    refine lv_iload_n hx hb dX7_isLetter_15 rfl (lv_at hl 1 rfl) ?_
    refine R_bald C h (ix_of (rfl : p1.toInt = p1.toInt) (by omega)) dX7_isLetter_16 ?_
    refine lv_bipush (v := 97) hx hb dX7_isLetter_17 (by decide) ?_
    refine lv_icmp_lt (tgt := 40) hx hb dX7_isLetter_19 (by decide) (fun c19 => ?_) (fun c19 => ?_)
    · have i19 := c_lt c19
      refine lv_iconst (v := 0) hx hb dX7_isLetter_40 (by decide) ?_
      have he : f_X7_isLetter σ p1 = (0 : Int32) := (by exact ((if_neg c5).trans ((if_pos c19).trans rfl)))
      exact w_retz (wXR g) C h hr hlocks rfl he (Or.inl rfl) (by first | (intro q9; exact absurd rfl q9) | (intro _; omega)) dX7_isLetter_41
    · have i19 := c_nlt c19
      refine lv_aload_n hx hb dX7_isLetter_22 rfl (lv_at hl 0 rfl) ?_
      refine R_g8 C h dX7_isLetter_23 ?_
      refine R_tape C h dX7_isLetter_26 ?_
      refine lv_iload_n hx hb dX7_isLetter_29 rfl (lv_at hl 1 rfl) ?_
      refine R_bald C h (ix_of (rfl : p1.toInt = p1.toInt) (by omega)) dX7_isLetter_30 ?_
      refine lv_bipush (v := 122) hx hb dX7_isLetter_31 (by decide) ?_
      refine lv_icmp_gt (tgt := 40) hx hb dX7_isLetter_33 (by decide) (fun c33 => ?_) (fun c33 => ?_)
      · have i33 := c_lt c33
        refine lv_iconst (v := 0) hx hb dX7_isLetter_40 (by decide) ?_
        have he : f_X7_isLetter σ p1 = (0 : Int32) := (by exact ((if_neg c5).trans ((if_neg c19).trans ((if_pos c33).trans rfl))))
        exact w_retz (wXR g) C h hr hlocks rfl he (Or.inl rfl) (by first | (intro q9; exact absurd rfl q9) | (intro _; omega)) dX7_isLetter_41
      · have i33 := c_nlt c33
        refine lv_iconst (v := 1) hx hb dX7_isLetter_36 (by decide) ?_
        refine lv_goto (tgt := 41) hx hb dX7_isLetter_37 (by decide) ?_
        have he : f_X7_isLetter σ p1 = (1 : Int32) := (by exact ((if_neg c5).trans ((if_neg c19).trans ((if_neg c33).trans rfl))))
        exact w_retz (wXR g) C h hr hlocks rfl he (Or.inr rfl) (by first | (intro q9; exact absurd rfl q9) | (intro _; omega)) dX7_isLetter_41
def f_X7_isDigit (σ : MS × MS) (p1 : Int32) : Int32 := if (gi (own σ) 0) ≤ p1 then ((0 : Int32)) else (if (ga (own σ) 1 p1) < (48 : Int32) then ((0 : Int32)) else (if (57 : Int32) < (ga (own σ) 1 p1) then ((0 : Int32)) else ((1 : Int32))))
set_option maxHeartbeats 4000000 in
set_option maxRecDepth 100000 in
theorem k_X7_isDigit (l : Launch) (g : GR) (σ : MS × MS) (p1 : Int32) (hs9 : 0 ≤ (gi (own σ) 0).toInt ∧ (gi (own σ) 0).toInt ≤ 900) (hk0 : 0 ≤ p1.toInt) : Met l yX7_isDigit (ws_ yX7_isDigit cX7_isDigit 2 (some .boolean)) ({ frames := 0, cells := 0, slots := 0, locals := 0 } : Room) (wPc (dR g) (g.2.1 90) σ [.int p1]) (wQz (dR g) σ (f_X7_isDigit σ p1) (fun u r => (¬ r = 0 → p1.toInt < (gi (own σ) 0).toInt))) 0 0 (dR g).2.2.2.1 := by
  refine met_W RX7 (by decide) rfl (Nat.le_of_ble_eq_true rfl) ?_
  intro p e s m args below meth c C hr hlocks h ls hl
  have hx := C.1.1
  have hb := C.1.2.1
  have hml := C.1.2.2.1
  have hown := C.1.2.2.2.1
  have hts := C.1.2.2.2.2
  have hl : lv_has ls 2 [(0, .ref (g.2.1 90)), (1, .int p1)] := hl
  have zl0 : (0 : Int32).toInt = 0 := rfl
  have zl1 : (1 : Int32).toInt = 1 := rfl
  have zl48 : (48 : Int32).toInt = 48 := rfl
  have zl57 : (57 : Int32).toInt = 57 := rfl
  refine lv_iload_n hx hb dX7_isDigit_0 rfl (lv_at hl 1 rfl) ?_
  refine lv_aload_n hx hb dX7_isDigit_1 rfl (lv_at hl 0 rfl) ?_
  refine R_g0 C h dX7_isDigit_2 ?_
  refine lv_icmp_ge (tgt := 40) hx hb dX7_isDigit_5 (by decide) (fun c5 => ?_) (fun c5 => ?_)
  · have i5 := c_le c5
    refine lv_iconst (v := 0) hx hb dX7_isDigit_40 (by decide) ?_
    have he : f_X7_isDigit σ p1 = (0 : Int32) := (by exact ((if_pos c5).trans rfl))
    exact w_retz (wXR g) C h hr hlocks rfl he (Or.inl rfl) (by first | (intro q9; exact absurd rfl q9) | (intro _; omega)) dX7_isDigit_41
  · have i5 := c_nle c5
    refine lv_aload_n hx hb dX7_isDigit_8 rfl (lv_at hl 0 rfl) ?_
    refine R_g8 C h dX7_isDigit_9 ?_
    refine R_tape C h dX7_isDigit_12 ?_
    refine lv_iload_n hx hb dX7_isDigit_15 rfl (lv_at hl 1 rfl) ?_
    refine R_bald C h (ix_of (rfl : p1.toInt = p1.toInt) (by omega)) dX7_isDigit_16 ?_
    refine lv_bipush (v := 48) hx hb dX7_isDigit_17 (by decide) ?_
    refine lv_icmp_lt (tgt := 40) hx hb dX7_isDigit_19 (by decide) (fun c19 => ?_) (fun c19 => ?_)
    · have i19 := c_lt c19
      refine lv_iconst (v := 0) hx hb dX7_isDigit_40 (by decide) ?_
      have he : f_X7_isDigit σ p1 = (0 : Int32) := (by exact ((if_neg c5).trans ((if_pos c19).trans rfl)))
      exact w_retz (wXR g) C h hr hlocks rfl he (Or.inl rfl) (by first | (intro q9; exact absurd rfl q9) | (intro _; omega)) dX7_isDigit_41
    · have i19 := c_nlt c19
      refine lv_aload_n hx hb dX7_isDigit_22 rfl (lv_at hl 0 rfl) ?_
      refine R_g8 C h dX7_isDigit_23 ?_
      refine R_tape C h dX7_isDigit_26 ?_
      refine lv_iload_n hx hb dX7_isDigit_29 rfl (lv_at hl 1 rfl) ?_
      refine R_bald C h (ix_of (rfl : p1.toInt = p1.toInt) (by omega)) dX7_isDigit_30 ?_
      refine lv_bipush (v := 57) hx hb dX7_isDigit_31 (by decide) ?_
      refine lv_icmp_gt (tgt := 40) hx hb dX7_isDigit_33 (by decide) (fun c33 => ?_) (fun c33 => ?_)
      · have i33 := c_lt c33
        refine lv_iconst (v := 0) hx hb dX7_isDigit_40 (by decide) ?_
        have he : f_X7_isDigit σ p1 = (0 : Int32) := (by exact ((if_neg c5).trans ((if_neg c19).trans ((if_pos c33).trans rfl))))
        exact w_retz (wXR g) C h hr hlocks rfl he (Or.inl rfl) (by first | (intro q9; exact absurd rfl q9) | (intro _; omega)) dX7_isDigit_41
      · have i33 := c_nlt c33
        refine lv_iconst (v := 1) hx hb dX7_isDigit_36 (by decide) ?_
        refine lv_goto (tgt := 41) hx hb dX7_isDigit_37 (by decide) ?_
        have he : f_X7_isDigit σ p1 = (1 : Int32) := (by exact ((if_neg c5).trans ((if_neg c19).trans ((if_neg c33).trans rfl))))
        exact w_retz (wXR g) C h hr hlocks rfl he (Or.inr rfl) (by first | (intro q9; exact absurd rfl q9) | (intro _; omega)) dX7_isDigit_41
def f_X7_next_L8 : Nat → (MS × MS) → (MS × MS)
  | 0, σL8 => σL8
  | n + 1, σL8 => if (gi (own σL8) 0) ≤ (gi (own σL8) 1) then (σL8) else (if (ga (own σL8) 1 (gi (own σL8) 1)) = (10 : Int32) then ((let σ60 := lsi σL8 1 ((gi (own σL8) 1) + (1 : Int32)); f_X7_next_L8 n σ60)) else (if (ga (own σL8) 1 (gi (own σL8) 1)) = (32 : Int32) then ((let σ60 := lsi σL8 1 ((gi (own σL8) 1) + (1 : Int32)); f_X7_next_L8 n σ60)) else (σL8)))
def f_X7_next_L147 : Nat → (MS × MS) → (MS × MS)
  | 0, σL147 => σL147
  | n + 1, σL147 => (let r152 := (f_X7_isDigit σL147 (gi (own σL147) 2)); if r152 = (0 : Int32) then (σL147) else ((let jj198 := (fun (σJ198 : (MS × MS)) => (let σ205 := lsi σJ198 2 ((gi (own σJ198) 2) + (1 : Int32)); f_X7_next_L147 n σ205)); if (4 : Int32) ≤ ((gi (own σL147) 2) - (gi (own σL147) 1)) then (jj198 σL147) else ((let σ195 := lsi σL147 4 ((((10 : Int32) * (gi (own σL147) 4)) + (ga (own σL147) 1 (gi (own σL147) 2))) - (48 : Int32)); jj198 σ195)))))
def f_X7_next_L107 : Nat → (MS × MS) → (MS × MS)
  | 0, σL107 => σL107
  | n + 1, σL107 => (let r112 := (f_X7_isLetter σL107 (gi (own σL107) 2)); if r112 = (0 : Int32) then (σL107) else ((let σ125 := lsi σL107 2 ((gi (own σL107) 2) + (1 : Int32)); f_X7_next_L107 n σ125)))
def f_X7_next (σ : MS × MS) : MS × MS := (let σ5 := lsi σ 1 (gi (own σ) 2); (let zL8 := f_X7_next_L8 (901) σ5; let σL8e := zL8; (let σ71 := lsi σL8e 2 (gi (own σL8e) 1); let σ76 := lsi σ71 3 (0 : Int32); if (gi (own σ76) 1) < (gi (own σ76) 0) then ((let r96 := (f_X7_isLetter σ76 (gi (own σ76) 1)); if r96 = (0 : Int32) then ((let r136 := (f_X7_isDigit σ76 (gi (own σ76) 1)); if r136 = (0 : Int32) then ((let σ243 := lsi σ76 2 ((gi (own σ76) 1) + (1 : Int32)); if (ga (own σ243) 1 (gi (own σ243) 1)) = (59 : Int32) then ((let σ320 := lsi σ243 3 (3 : Int32); σ320)) else (if (ga (own σ243) 1 (gi (own σ243) 1)) = (60 : Int32) then ((let σ320 := lsi σ243 3 (3 : Int32); σ320)) else (if (ga (own σ243) 1 (gi (own σ243) 1)) = (62 : Int32) then ((let σ320 := lsi σ243 3 (3 : Int32); σ320)) else (if (ga (own σ243) 1 (gi (own σ243) 1)) = (61 : Int32) then ((let σ320 := lsi σ243 3 (3 : Int32); σ320)) else ((let σ320 := lsi σ243 3 (4 : Int32); σ320))))))) else ((let σ144 := lsi σ76 4 (0 : Int32); (let zL147 := f_X7_next_L147 (901) σ144; let σL147e := zL147; (let z230_ : Int32 := (if ((gi (own σL147e) 2) - (gi (own σL147e) 1)) ≤ (4 : Int32) then ((2 : Int32)) else ((4 : Int32))); let t0_230 := z230_; (let σ230 := lsi σL147e 3 t0_230; σ230))))))) else ((let σ104 := lsi σ76 3 (1 : Int32); (let zL107 := f_X7_next_L107 (901) σ104; let σL107e := zL107; σL107e))))) else (σ76))))
set_option maxHeartbeats 4000000 in
set_option maxRecDepth 100000 in
theorem k_X7_next (l : Launch) (g : GR) (σ : MS × MS) (hlp : 0 ≤ (gi (ttb σ) 1).toInt ∧ (gi (ttb σ) 1).toInt ≤ 6) (hld : 0 ≤ (gi (ttb σ) 3).toInt ∧ (gi (ttb σ) 3).toInt ≤ 16 ∧ (gi (ttb σ) 3).toInt ≤ (g.1.2.1 50 : Int)) (hs9 : 0 ≤ (gi (own σ) 0).toInt ∧ (gi (own σ) 0).toInt ≤ 900) (hbe : 0 ≤ (gi (own σ) 2).toInt ∧ (gi (own σ) 2).toInt ≤ (gi (own σ) 0).toInt) (hab : 0 ≤ (gi (own σ) 1).toInt ∧ (gi (own σ) 1).toInt ≤ (gi (own σ) 2).toInt) : Met l yX7_next (ws_ yX7_next cX7_next 1 none) ({ frames := 1, cells := 0, slots := 0, locals := 21 } : Room) (wPc (dR g) (g.2.1 90) σ []) (wQv (dR g) (f_X7_next σ) (fun u => ((gi (ttb u) 1).toInt = (gi (ttb σ) 1).toInt) ∧ ((gi (ttb u) 3).toInt = (gi (ttb σ) 3).toInt) ∧ (ttb u = ttb σ) ∧ (gi (own u) 5 = gi (own σ) 5) ∧ ((gi (own σ) 1).toInt ≤ (gi (own u) 1).toInt) ∧ (0 ≤ (gi (own u) 0).toInt ∧ (gi (own u) 0).toInt ≤ 900) ∧ (0 ≤ (gi (own u) 2).toInt ∧ (gi (own u) 2).toInt ≤ (gi (own u) 0).toInt) ∧ (0 ≤ (gi (own u) 1).toInt ∧ (gi (own u) 1).toInt ≤ (gi (own u) 2).toInt) ∧ ((gi (own u) 3).toInt = 3 → (gi (own u) 1).toInt < (gi (own u) 2).toInt) ∧ ((gi (own σ) 2).toInt ≤ (gi (own u) 1).toInt))) 0 0 (dR g).2.2.2.1 := by
  refine met_W RX7 (by decide) rfl (Nat.le_of_ble_eq_true rfl) ?_
  intro p e s m args below meth c C hr hlocks h ls hl
  have hx := C.1.1
  have hb := C.1.2.1
  have hml := C.1.2.2.1
  have hown := C.1.2.2.2.1
  have hts := C.1.2.2.2.2
  have hl : lv_has ls 1 [(0, .ref (g.2.1 90))] := hl
  have hlpq : (gi (ttb σ) 1).toInt = (gi (ttb σ) 1).toInt := rfl
  have hldq : (gi (ttb σ) 3).toInt = (gi (ttb σ) 3).toInt := rfl
  have hTT : ttb σ = ttb σ := rfl
  have hS5 : gi (own σ) 5 = gi (own σ) 5 := rfl
  have hMN : (gi (own σ) 1).toInt ≤ (gi (own σ) 1).toInt := Int.le_refl _
  have zl0 : (0 : Int32).toInt = 0 := rfl
  have zl1 : (1 : Int32).toInt = 1 := rfl
  have zl2 : (2 : Int32).toInt = 2 := rfl
  have zl3 : (3 : Int32).toInt = 3 := rfl
  have zl4 : (4 : Int32).toInt = 4 := rfl
  have zl10 : (10 : Int32).toInt = 10 := rfl
  have zl32 : (32 : Int32).toInt = 32 := rfl
  have zl48 : (48 : Int32).toInt = 48 := rfl
  have zl59 : (59 : Int32).toInt = 59 := rfl
  have zl60 : (60 : Int32).toInt = 60 := rfl
  have zl61 : (61 : Int32).toInt = 61 := rfl
  have zl62 : (62 : Int32).toInt = 62 := rfl
  have hbe0 := hbe
  refine lv_aload_n hx hb dX7_next_0 rfl (lv_at hl 0 rfl) ?_
  refine lv_aload_n hx hb dX7_next_1 rfl (lv_at hl 0 rfl) ?_
  refine R_g2 C h dX7_next_2 ?_
  refine R_p1 C h dX7_next_5 (fun σ5 H locs eσ5 h => ?_)
  have hNEW : (0 ≤ (gi (ttb σ5) 1).toInt ∧ (gi (ttb σ5) 1).toInt ≤ 6) ∧ (0 ≤ (gi (ttb σ5) 3).toInt ∧ (gi (ttb σ5) 3).toInt ≤ 16 ∧ (gi (ttb σ5) 3).toInt ≤ (g.1.2.1 50 : Int)) ∧ (0 ≤ (gi (own σ5) 0).toInt ∧ (gi (own σ5) 0).toInt ≤ 900) ∧ (0 ≤ (gi (own σ5) 2).toInt ∧ (gi (own σ5) 2).toInt ≤ (gi (own σ5) 0).toInt) ∧ ((gi (ttb σ5) 1).toInt = (gi (ttb σ) 1).toInt) ∧ ((gi (ttb σ5) 3).toInt = (gi (ttb σ) 3).toInt) ∧ (ttb σ5 = ttb σ) ∧ (gi (own σ5) 5 = gi (own σ) 5) ∧ ((gi (own σ) 1).toInt ≤ (gi (own σ5) 1).toInt) := ⟨(by rw [eσ5] <;> exact hlp), (by rw [eσ5] <;> exact hld), (by rw [eσ5] <;> exact hs9), (by rw [eσ5]; exact hbe), (by rw [eσ5] <;> exact hlpq), (by rw [eσ5] <;> exact hldq), (by rw [eσ5] <;> exact hTT), (by rw [eσ5] <;> exact hS5), (by rw [eσ5]; exact hab.2)⟩
  obtain ⟨hlp, hld, hs9, hbe, hlpq, hldq, hTT, hS5, hMN⟩ := hNEW
  have hat : 0 ≤ (gi (own σ5) 1).toInt ∧ (gi (own σ5) 1).toInt ≤ (gi (own σ5) 0).toInt := (by rw [eσ5]; exact hbe0)
  have hnx : (gi (own σ) 2).toInt ≤ (gi (own σ5) 1).toInt := (by rw [eσ5]; exact Int.le_refl _)
  have hL8 : ∀ (n : Nat) (σL8 : (MS × MS)) (H : Heap) (locs : List Loc) (ls : Array Slot), (0 ≤ (gi (ttb σL8) 1).toInt ∧ (gi (ttb σL8) 1).toInt ≤ 6) → (0 ≤ (gi (ttb σL8) 3).toInt ∧ (gi (ttb σL8) 3).toInt ≤ 16 ∧ (gi (ttb σL8) 3).toInt ≤ (g.1.2.1 50 : Int)) → (0 ≤ (gi (own σL8) 0).toInt ∧ (gi (own σL8) 0).toInt ≤ 900) → (0 ≤ (gi (own σL8) 2).toInt ∧ (gi (own σL8) 2).toInt ≤ (gi (own σL8) 0).toInt) → ((gi (ttb σL8) 1).toInt = (gi (ttb σ) 1).toInt) → ((gi (ttb σL8) 3).toInt = (gi (ttb σ) 3).toInt) → (ttb σL8 = ttb σ) → (gi (own σL8) 5 = gi (own σ) 5) → ((gi (own σ) 1).toInt ≤ (gi (own σL8) 1).toInt) → (0 ≤ (gi (own σL8) 1).toInt ∧ (gi (own σL8) 1).toInt ≤ (gi (own σL8) 0).toInt) → ((gi (own σ) 2).toInt ≤ (gi (own σL8) 1).toInt) → (True) → ((gi (own σL8) 0).toInt - (gi (own σL8) 1).toInt).toNat < n → wH (dR g) σL8 s H locs → lv_has ls 1 [(0, .ref (g.2.1 90))] → (∀ (σL8' : (MS × MS)) (H : Heap) (locs : List Loc) (ls : Array Slot), f_X7_next_L8 n σL8 = σL8' → (0 ≤ (gi (ttb σL8') 1).toInt ∧ (gi (ttb σL8') 1).toInt ≤ 6) → (0 ≤ (gi (ttb σL8') 3).toInt ∧ (gi (ttb σL8') 3).toInt ≤ 16 ∧ (gi (ttb σL8') 3).toInt ≤ (g.1.2.1 50 : Int)) → (0 ≤ (gi (own σL8') 0).toInt ∧ (gi (own σL8') 0).toInt ≤ 900) → (0 ≤ (gi (own σL8') 2).toInt ∧ (gi (own σL8') 2).toInt ≤ (gi (own σL8') 0).toInt) → ((gi (ttb σL8') 1).toInt = (gi (ttb σ) 1).toInt) → ((gi (ttb σL8') 3).toInt = (gi (ttb σ) 3).toInt) → (ttb σL8' = ttb σ) → (gi (own σL8') 5 = gi (own σ) 5) → ((gi (own σ) 1).toInt ≤ (gi (own σL8') 1).toInt) → (0 ≤ (gi (own σL8') 1).toInt ∧ (gi (own σL8') 1).toInt ≤ (gi (own σL8') 0).toInt) → ((gi (own σ) 2).toInt ≤ (gi (own σL8') 1).toInt) → (True) → wH (dR g) σL8' s H locs → lv_has ls 1 [(0, .ref (g.2.1 90))] → W p l e ({ frames := 1, cells := 0, slots := 0, locals := 21 } : Room) s m args below meth c H locs 0 0 (MQ below (wQv (dR g) (f_X7_next σ) (fun u => ((gi (ttb u) 1).toInt = (gi (ttb σ) 1).toInt) ∧ ((gi (ttb u) 3).toInt = (gi (ttb σ) 3).toInt) ∧ (ttb u = ttb σ) ∧ (gi (own u) 5 = gi (own σ) 5) ∧ ((gi (own σ) 1).toInt ≤ (gi (own u) 1).toInt) ∧ (0 ≤ (gi (own u) 0).toInt ∧ (gi (own u) 0).toInt ≤ 900) ∧ (0 ≤ (gi (own u) 2).toInt ∧ (gi (own u) 2).toInt ≤ (gi (own u) 0).toInt) ∧ (0 ≤ (gi (own u) 1).toInt ∧ (gi (own u) 1).toInt ≤ (gi (own u) 2).toInt) ∧ ((gi (own u) 3).toInt = 3 → (gi (own u) 1).toInt < (gi (own u) 2).toInt) ∧ ((gi (own σ) 2).toInt ≤ (gi (own u) 1).toInt))) args s 0 0 (dR g).2.2.2.1) (F0 m 66 ls [])) → W p l e ({ frames := 1, cells := 0, slots := 0, locals := 21 } : Room) s m args below meth c H locs 0 0 (MQ below (wQv (dR g) (f_X7_next σ) (fun u => ((gi (ttb u) 1).toInt = (gi (ttb σ) 1).toInt) ∧ ((gi (ttb u) 3).toInt = (gi (ttb σ) 3).toInt) ∧ (ttb u = ttb σ) ∧ (gi (own u) 5 = gi (own σ) 5) ∧ ((gi (own σ) 1).toInt ≤ (gi (own u) 1).toInt) ∧ (0 ≤ (gi (own u) 0).toInt ∧ (gi (own u) 0).toInt ≤ 900) ∧ (0 ≤ (gi (own u) 2).toInt ∧ (gi (own u) 2).toInt ≤ (gi (own u) 0).toInt) ∧ (0 ≤ (gi (own u) 1).toInt ∧ (gi (own u) 1).toInt ≤ (gi (own u) 2).toInt) ∧ ((gi (own u) 3).toInt = 3 → (gi (own u) 1).toInt < (gi (own u) 2).toInt) ∧ ((gi (own σ) 2).toInt ≤ (gi (own u) 1).toInt))) args s 0 0 (dR g).2.2.2.1) (F0 m 8 ls []) := by
    intro n
    induction n with
    | zero =>
      intro σL8 H locs ls hlp hld hs9 hbe hlpq hldq hTT hS5 hMN hat hnx _ hm; exact absurd hm (Nat.not_lt_zero _)
    | succ n ih =>
      intro σL8 H locs ls hlp hld hs9 hbe hlpq hldq hTT hS5 hMN hat hnx hI8 hm h hl kk
      refine lv_aload_n hx hb dX7_next_8 rfl (lv_at hl 0 rfl) ?_
      refine R_g1 C h dX7_next_9 ?_
      refine lv_aload_n hx hb dX7_next_12 rfl (lv_at hl 0 rfl) ?_
      refine R_g0 C h dX7_next_13 ?_
      refine lv_icmp_ge (tgt := 66) hx hb dX7_next_16 (by decide) (fun c16 => ?_) (fun c16 => ?_)
      · have i16 := c_le c16
        exact kk σL8 _ _ _ (show f_X7_next_L8 (n + 1) σL8 = σL8 from (by exact ((if_pos c16).trans rfl))) hlp hld hs9 hbe hlpq hldq hTT hS5 hMN hat hnx trivial h hl
      · have i16 := c_nle c16
        refine lv_aload_n hx hb dX7_next_19 rfl (lv_at hl 0 rfl) ?_
        refine R_g8 C h dX7_next_20 ?_
        refine R_tape C h dX7_next_23 ?_
        refine lv_aload_n hx hb dX7_next_26 rfl (lv_at hl 0 rfl) ?_
        refine R_g1 C h dX7_next_27 ?_
        refine R_bald C h (ix_of (rfl : (gi (own σL8) 1).toInt = (gi (own σL8) 1).toInt) (by omega)) dX7_next_30 ?_
        refine lv_bipush (v := 10) hx hb dX7_next_31 (by decide) ?_
        refine lv_icmp_eq (tgt := 53) hx hb dX7_next_33 (by decide) (fun c33 => ?_) (fun c33 => ?_)
        · have i33 := c_eq c33
          refine lv_aload_n hx hb dX7_next_53 rfl (lv_at hl 0 rfl) ?_
          refine lv_dup hx hb dX7_next_54 rfl ?_
          refine R_g1 C h dX7_next_55 ?_
          refine lv_iconst (v := 1) hx hb dX7_next_58 (by decide) ?_
          refine lv_iadd hx hb dX7_next_59 ?_
          refine R_p1 C h dX7_next_60 (fun σ60 H locs eσ60 h => ?_)
          have hNEW : (0 ≤ (gi (ttb σ60) 1).toInt ∧ (gi (ttb σ60) 1).toInt ≤ 6) ∧ (0 ≤ (gi (ttb σ60) 3).toInt ∧ (gi (ttb σ60) 3).toInt ≤ 16 ∧ (gi (ttb σ60) 3).toInt ≤ (g.1.2.1 50 : Int)) ∧ (0 ≤ (gi (own σ60) 0).toInt ∧ (gi (own σ60) 0).toInt ≤ 900) ∧ (0 ≤ (gi (own σ60) 2).toInt ∧ (gi (own σ60) 2).toInt ≤ (gi (own σ60) 0).toInt) ∧ ((gi (ttb σ60) 1).toInt = (gi (ttb σ) 1).toInt) ∧ ((gi (ttb σ60) 3).toInt = (gi (ttb σ) 3).toInt) ∧ (ttb σ60 = ttb σ) ∧ (gi (own σ60) 5 = gi (own σ) 5) ∧ ((gi (own σ) 1).toInt ≤ (gi (own σ60) 1).toInt) ∧ (0 ≤ (gi (own σ60) 1).toInt ∧ (gi (own σ60) 1).toInt ≤ (gi (own σ60) 0).toInt) ∧ ((gi (own σ) 2).toInt ≤ (gi (own σ60) 1).toInt) := ⟨(by rw [eσ60] <;> exact hlp), (by rw [eσ60] <;> exact hld), (by rw [eσ60] <;> exact hs9), (by rw [eσ60] <;> exact hbe), (by rw [eσ60] <;> exact hlpq), (by rw [eσ60] <;> exact hldq), (by rw [eσ60] <;> exact hTT), (by rw [eσ60] <;> exact hS5), (by rw [eσ60]; show (gi (own σ) 1).toInt ≤ (gi (own σL8) 1 + (1 : Int32)).toInt; rw [i_add (a := gi (own σL8) 1) rfl zl1 (by omega)]; omega), (by rw [eσ60]; show 0 ≤ (gi (own σL8) 1 + (1 : Int32)).toInt ∧ (gi (own σL8) 1 + (1 : Int32)).toInt ≤ (gi (own σL8) 0).toInt; rw [i_add (a := gi (own σL8) 1) rfl zl1 (by omega)]; omega), (by rw [eσ60]; show (gi (own σ) 2).toInt ≤ (gi (own σL8) 1 + (1 : Int32)).toInt; rw [i_add (a := gi (own σL8) 1) rfl zl1 (by omega)]; omega)⟩
          obtain ⟨hlp, hld, hs9, hbe, hlpq, hldq, hTT, hS5, hMN, hat, hnx⟩ := hNEW
          refine lv_goto (tgt := 8) hx hb dX7_next_63 (by decide) ?_
          have m8 : (gi (own σ60) 1).toInt = (gi (own σL8) 1).toInt + 1 := by rw [eσ60]; exact i_add (a := gi (own σL8) 1) rfl zl1 (by omega)
          have ms8 : (gi (own σ60) 0).toInt = (gi (own σL8) 0).toInt := by rw [eσ60] <;> rfl
          exact ih σ60 _ _ _ hlp hld hs9 hbe hlpq hldq hTT hS5 hMN hat hnx trivial (by omega) h hl (fun σL8' H locs ls en hlp hld hs9 hbe hlpq hldq hTT hS5 hMN hat hnx hI h hl => kk σL8' H locs ls ((show f_X7_next_L8 (n + 1) σL8 = f_X7_next_L8 n σ60 from (by have eσ60 := eσ60.symm; subst eσ60; exact ((if_neg c16).trans ((if_pos c33).trans rfl)))).trans en) hlp hld hs9 hbe hlpq hldq hTT hS5 hMN hat hnx hI h hl)
        · have i33 := c_ne c33
          refine lv_aload_n hx hb dX7_next_36 rfl (lv_at hl 0 rfl) ?_
          refine R_g8 C h dX7_next_37 ?_
          refine R_tape C h dX7_next_40 ?_
          refine lv_aload_n hx hb dX7_next_43 rfl (lv_at hl 0 rfl) ?_
          refine R_g1 C h dX7_next_44 ?_
          refine R_bald C h (ix_of (rfl : (gi (own σL8) 1).toInt = (gi (own σL8) 1).toInt) (by omega)) dX7_next_47 ?_
          refine lv_bipush (v := 32) hx hb dX7_next_48 (by decide) ?_
          refine lv_icmp_ne (tgt := 66) hx hb dX7_next_50 (by decide) (fun c50 => ?_) (fun c50 => ?_)
          · have i50 := c_ne c50
            exact kk σL8 _ _ _ (show f_X7_next_L8 (n + 1) σL8 = σL8 from (by exact ((if_neg c16).trans ((if_neg c33).trans ((if_neg c50).trans rfl))))) hlp hld hs9 hbe hlpq hldq hTT hS5 hMN hat hnx trivial h hl
          · have i50 := c_eq c50
            refine lv_aload_n hx hb dX7_next_53 rfl (lv_at hl 0 rfl) ?_
            refine lv_dup hx hb dX7_next_54 rfl ?_
            refine R_g1 C h dX7_next_55 ?_
            refine lv_iconst (v := 1) hx hb dX7_next_58 (by decide) ?_
            refine lv_iadd hx hb dX7_next_59 ?_
            refine R_p1 C h dX7_next_60 (fun σ60 H locs eσ60 h => ?_)
            have hNEW : (0 ≤ (gi (ttb σ60) 1).toInt ∧ (gi (ttb σ60) 1).toInt ≤ 6) ∧ (0 ≤ (gi (ttb σ60) 3).toInt ∧ (gi (ttb σ60) 3).toInt ≤ 16 ∧ (gi (ttb σ60) 3).toInt ≤ (g.1.2.1 50 : Int)) ∧ (0 ≤ (gi (own σ60) 0).toInt ∧ (gi (own σ60) 0).toInt ≤ 900) ∧ (0 ≤ (gi (own σ60) 2).toInt ∧ (gi (own σ60) 2).toInt ≤ (gi (own σ60) 0).toInt) ∧ ((gi (ttb σ60) 1).toInt = (gi (ttb σ) 1).toInt) ∧ ((gi (ttb σ60) 3).toInt = (gi (ttb σ) 3).toInt) ∧ (ttb σ60 = ttb σ) ∧ (gi (own σ60) 5 = gi (own σ) 5) ∧ ((gi (own σ) 1).toInt ≤ (gi (own σ60) 1).toInt) ∧ (0 ≤ (gi (own σ60) 1).toInt ∧ (gi (own σ60) 1).toInt ≤ (gi (own σ60) 0).toInt) ∧ ((gi (own σ) 2).toInt ≤ (gi (own σ60) 1).toInt) := ⟨(by rw [eσ60] <;> exact hlp), (by rw [eσ60] <;> exact hld), (by rw [eσ60] <;> exact hs9), (by rw [eσ60] <;> exact hbe), (by rw [eσ60] <;> exact hlpq), (by rw [eσ60] <;> exact hldq), (by rw [eσ60] <;> exact hTT), (by rw [eσ60] <;> exact hS5), (by rw [eσ60]; show (gi (own σ) 1).toInt ≤ (gi (own σL8) 1 + (1 : Int32)).toInt; rw [i_add (a := gi (own σL8) 1) rfl zl1 (by omega)]; omega), (by rw [eσ60]; show 0 ≤ (gi (own σL8) 1 + (1 : Int32)).toInt ∧ (gi (own σL8) 1 + (1 : Int32)).toInt ≤ (gi (own σL8) 0).toInt; rw [i_add (a := gi (own σL8) 1) rfl zl1 (by omega)]; omega), (by rw [eσ60]; show (gi (own σ) 2).toInt ≤ (gi (own σL8) 1 + (1 : Int32)).toInt; rw [i_add (a := gi (own σL8) 1) rfl zl1 (by omega)]; omega)⟩
            obtain ⟨hlp, hld, hs9, hbe, hlpq, hldq, hTT, hS5, hMN, hat, hnx⟩ := hNEW
            refine lv_goto (tgt := 8) hx hb dX7_next_63 (by decide) ?_
            have m8 : (gi (own σ60) 1).toInt = (gi (own σL8) 1).toInt + 1 := by rw [eσ60]; exact i_add (a := gi (own σL8) 1) rfl zl1 (by omega)
            have ms8 : (gi (own σ60) 0).toInt = (gi (own σL8) 0).toInt := by rw [eσ60] <;> rfl
            exact ih σ60 _ _ _ hlp hld hs9 hbe hlpq hldq hTT hS5 hMN hat hnx trivial (by omega) h hl (fun σL8' H locs ls en hlp hld hs9 hbe hlpq hldq hTT hS5 hMN hat hnx hI h hl => kk σL8' H locs ls ((show f_X7_next_L8 (n + 1) σL8 = f_X7_next_L8 n σ60 from (by have eσ60 := eσ60.symm; subst eσ60; exact ((if_neg c16).trans ((if_neg c33).trans ((if_pos c50).trans rfl))))).trans en) hlp hld hs9 hbe hlpq hldq hTT hS5 hMN hat hnx hI h hl)
  refine hL8 (901) σ5 _ _ _ hlp hld hs9 hbe hlpq hldq hTT hS5 hMN hat hnx trivial (by omega) h hl (fun σL8e H locs ls eL8 hlp hld hs9 hbe hlpq hldq hTT hS5 hMN hat hnx hI8 h hl => ?_)
  have eσL8e : σL8e = (f_X7_next_L8 (901) σ5) := by rw [eL8]
  refine lv_aload_n hx hb dX7_next_66 rfl (lv_at hl 0 rfl) ?_
  refine lv_aload_n hx hb dX7_next_67 rfl (lv_at hl 0 rfl) ?_
  refine R_g1 C h dX7_next_68 ?_
  refine R_p2 C h dX7_next_71 (fun σ71 H locs eσ71 h => ?_)
  have hNEW : (0 ≤ (gi (ttb σ71) 1).toInt ∧ (gi (ttb σ71) 1).toInt ≤ 6) ∧ (0 ≤ (gi (ttb σ71) 3).toInt ∧ (gi (ttb σ71) 3).toInt ≤ 16 ∧ (gi (ttb σ71) 3).toInt ≤ (g.1.2.1 50 : Int)) ∧ (0 ≤ (gi (own σ71) 0).toInt ∧ (gi (own σ71) 0).toInt ≤ 900) ∧ (0 ≤ (gi (own σ71) 2).toInt ∧ (gi (own σ71) 2).toInt ≤ (gi (own σ71) 0).toInt) ∧ ((gi (ttb σ71) 1).toInt = (gi (ttb σ) 1).toInt) ∧ ((gi (ttb σ71) 3).toInt = (gi (ttb σ) 3).toInt) ∧ (ttb σ71 = ttb σ) ∧ (gi (own σ71) 5 = gi (own σ) 5) ∧ ((gi (own σ) 1).toInt ≤ (gi (own σ71) 1).toInt) ∧ (0 ≤ (gi (own σ71) 1).toInt ∧ (gi (own σ71) 1).toInt ≤ (gi (own σ71) 0).toInt) ∧ ((gi (own σ) 2).toInt ≤ (gi (own σ71) 1).toInt) := ⟨(by rw [eσ71] <;> exact hlp), (by rw [eσ71] <;> exact hld), (by rw [eσ71] <;> exact hs9), (by rw [eσ71]; exact hat), (by rw [eσ71] <;> exact hlpq), (by rw [eσ71] <;> exact hldq), (by rw [eσ71] <;> exact hTT), (by rw [eσ71] <;> exact hS5), (by rw [eσ71] <;> exact hMN), (by rw [eσ71] <;> exact hat), (by rw [eσ71] <;> exact hnx)⟩
  obtain ⟨hlp, hld, hs9, hbe, hlpq, hldq, hTT, hS5, hMN, hat, hnx⟩ := hNEW
  have hab : 0 ≤ (gi (own σ71) 1).toInt ∧ (gi (own σ71) 1).toInt ≤ (gi (own σ71) 2).toInt := (by rw [eσ71]; show 0 ≤ (gi (own σL8e) 1).toInt ∧ (gi (own σL8e) 1).toInt ≤ (gi (own σL8e) 1).toInt; omega)
  refine lv_aload_n hx hb dX7_next_74 rfl (lv_at hl 0 rfl) ?_
  refine lv_iconst (v := 0) hx hb dX7_next_75 (by decide) ?_
  refine R_p3 C h dX7_next_76 (fun σ76 H locs eσ76 h => ?_)
  have hNEW : (0 ≤ (gi (ttb σ76) 1).toInt ∧ (gi (ttb σ76) 1).toInt ≤ 6) ∧ (0 ≤ (gi (ttb σ76) 3).toInt ∧ (gi (ttb σ76) 3).toInt ≤ 16 ∧ (gi (ttb σ76) 3).toInt ≤ (g.1.2.1 50 : Int)) ∧ (0 ≤ (gi (own σ76) 0).toInt ∧ (gi (own σ76) 0).toInt ≤ 900) ∧ (0 ≤ (gi (own σ76) 2).toInt ∧ (gi (own σ76) 2).toInt ≤ (gi (own σ76) 0).toInt) ∧ ((gi (ttb σ76) 1).toInt = (gi (ttb σ) 1).toInt) ∧ ((gi (ttb σ76) 3).toInt = (gi (ttb σ) 3).toInt) ∧ (ttb σ76 = ttb σ) ∧ (gi (own σ76) 5 = gi (own σ) 5) ∧ ((gi (own σ) 1).toInt ≤ (gi (own σ76) 1).toInt) ∧ (0 ≤ (gi (own σ76) 1).toInt ∧ (gi (own σ76) 1).toInt ≤ (gi (own σ76) 0).toInt) ∧ ((gi (own σ) 2).toInt ≤ (gi (own σ76) 1).toInt) ∧ (0 ≤ (gi (own σ76) 1).toInt ∧ (gi (own σ76) 1).toInt ≤ (gi (own σ76) 2).toInt) := ⟨(by rw [eσ76] <;> exact hlp), (by rw [eσ76] <;> exact hld), (by rw [eσ76] <;> exact hs9), (by rw [eσ76] <;> exact hbe), (by rw [eσ76] <;> exact hlpq), (by rw [eσ76] <;> exact hldq), (by rw [eσ76] <;> exact hTT), (by rw [eσ76] <;> exact hS5), (by rw [eσ76] <;> exact hMN), (by rw [eσ76] <;> exact hat), (by rw [eσ76] <;> exact hnx), (by rw [eσ76] <;> exact hab)⟩
  clear hlp hld hs9 hbe hlpq hldq hTT hS5 hMN hat hnx
  obtain ⟨hlp, hld, hs9, hbe, hlpq, hldq, hTT, hS5, hMN, hat, hnx, hab⟩ := hNEW
  have hs0 : (gi (own σ76) 3).toInt = 0 := (by rw [eσ76]; exact zl0)
  refine lv_aload_n hx hb dX7_next_79 rfl (lv_at hl 0 rfl) ?_
  refine R_g1 C h dX7_next_80 ?_
  refine lv_aload_n hx hb dX7_next_83 rfl (lv_at hl 0 rfl) ?_
  refine R_g0 C h dX7_next_84 ?_
  refine lv_icmp_lt (tgt := 91) hx hb dX7_next_87 (by decide) (fun c87 => ?_) (fun c87 => ?_)
  · have i87 := c_lt c87
    refine lv_aload_n hx hb dX7_next_91 rfl (lv_at hl 0 rfl) ?_
    refine lv_aload_n hx hb dX7_next_92 rfl (lv_at hl 0 rfl) ?_
    refine R_g1 C h dX7_next_93 ?_
    refine w_callz (ci := 7) (q0 := 6) (As := [.int (gi (own σ76) 1)]) (rest := []) 1 (wXR g) C h (k_X7_isLetter l g σ76 (gi (own σ76) 1) (by first | assumption | omega) (by first | assumption | omega)) (lw_V q594 q596 qs8 q159 q597) rfl rfl rfl rfl (by decide +kernel) ⟨Nat.le_of_ble_eq_true rfl, Nat.le_of_ble_eq_true rfl⟩ rfl hl.1 rfl (Nat.le_of_ble_eq_true rfl) ⟨Nat.le_of_ble_eq_true rfl, Nat.le_of_ble_eq_true rfl⟩ dX7_next_96 (fun r96 σ96 H locs eσ96 er96 br96 hE96 h => ?_)
    rw [eσ96] at h
    have hE96 : (¬ r96 = 0 → (gi (own σ76) 1).toInt < (gi (own σ76) 0).toInt) := hE96
    have hlt_96 := hE96
    clear eσ96
    refine lv_if_eq (tgt := 131) hx hb dX7_next_99 (by decide) (fun c99 => ?_) (fun c99 => ?_)
    · have i99 := c_eq c99
      refine lv_aload_n hx hb dX7_next_131 rfl (lv_at hl 0 rfl) ?_
      refine lv_aload_n hx hb dX7_next_132 rfl (lv_at hl 0 rfl) ?_
      refine R_g1 C h dX7_next_133 ?_
      refine w_callz (ci := 7) (q0 := 6) (As := [.int (gi (own σ76) 1)]) (rest := []) 1 (wXR g) C h (k_X7_isDigit l g σ76 (gi (own σ76) 1) (by first | assumption | omega) (by first | assumption | omega)) (lw_V q598 q600 qs9 q159 q601) rfl rfl rfl rfl (by decide +kernel) ⟨Nat.le_of_ble_eq_true rfl, Nat.le_of_ble_eq_true rfl⟩ rfl hl.1 rfl (Nat.le_of_ble_eq_true rfl) ⟨Nat.le_of_ble_eq_true rfl, Nat.le_of_ble_eq_true rfl⟩ dX7_next_136 (fun r136 σ136 H locs eσ136 er136 br136 hE136 h => ?_)
      rw [eσ136] at h
      have hE136 : (¬ r136 = 0 → (gi (own σ76) 1).toInt < (gi (own σ76) 0).toInt) := hE136
      have hlt_136 := hE136
      clear eσ136
      refine lv_if_eq (tgt := 236) hx hb dX7_next_139 (by decide) (fun c139 => ?_) (fun c139 => ?_)
      · have i139 := c_eq c139
        refine lv_aload_n hx hb dX7_next_236 rfl (lv_at hl 0 rfl) ?_
        refine lv_aload_n hx hb dX7_next_237 rfl (lv_at hl 0 rfl) ?_
        refine R_g1 C h dX7_next_238 ?_
        refine lv_iconst (v := 1) hx hb dX7_next_241 (by decide) ?_
        refine lv_iadd hx hb dX7_next_242 ?_
        refine R_p2 C h dX7_next_243 (fun σ243 H locs eσ243 h => ?_)
        have hNEW : (0 ≤ (gi (ttb σ243) 1).toInt ∧ (gi (ttb σ243) 1).toInt ≤ 6) ∧ (0 ≤ (gi (ttb σ243) 3).toInt ∧ (gi (ttb σ243) 3).toInt ≤ 16 ∧ (gi (ttb σ243) 3).toInt ≤ (g.1.2.1 50 : Int)) ∧ (0 ≤ (gi (own σ243) 0).toInt ∧ (gi (own σ243) 0).toInt ≤ 900) ∧ (0 ≤ (gi (own σ243) 2).toInt ∧ (gi (own σ243) 2).toInt ≤ (gi (own σ243) 0).toInt) ∧ ((gi (ttb σ243) 1).toInt = (gi (ttb σ) 1).toInt) ∧ ((gi (ttb σ243) 3).toInt = (gi (ttb σ) 3).toInt) ∧ (ttb σ243 = ttb σ) ∧ (gi (own σ243) 5 = gi (own σ) 5) ∧ ((gi (own σ) 1).toInt ≤ (gi (own σ243) 1).toInt) ∧ (0 ≤ (gi (own σ243) 1).toInt ∧ (gi (own σ243) 1).toInt ≤ (gi (own σ243) 0).toInt) ∧ ((gi (own σ) 2).toInt ≤ (gi (own σ243) 1).toInt) ∧ (0 ≤ (gi (own σ243) 1).toInt ∧ (gi (own σ243) 1).toInt ≤ (gi (own σ243) 2).toInt) ∧ ((gi (own σ243) 3).toInt = 0) := ⟨(by rw [eσ243] <;> exact hlp), (by rw [eσ243] <;> exact hld), (by rw [eσ243] <;> exact hs9), (by rw [eσ243]; show 0 ≤ (gi (own σ76) 1 + (1 : Int32)).toInt ∧ (gi (own σ76) 1 + (1 : Int32)).toInt ≤ (gi (own σ76) 0).toInt; rw [i_add (a := gi (own σ76) 1) rfl zl1 (by omega)]; omega), (by rw [eσ243] <;> exact hlpq), (by rw [eσ243] <;> exact hldq), (by rw [eσ243] <;> exact hTT), (by rw [eσ243] <;> exact hS5), (by rw [eσ243] <;> exact hMN), (by rw [eσ243] <;> exact hat), (by rw [eσ243] <;> exact hnx), (by rw [eσ243]; show 0 ≤ (gi (own σ76) 1).toInt ∧ (gi (own σ76) 1).toInt ≤ (gi (own σ76) 1 + (1 : Int32)).toInt; rw [i_add (a := gi (own σ76) 1) rfl zl1 (by omega)]; omega), (by rw [eσ243] <;> exact hs0)⟩
        clear hlp hld hs9 hbe hlpq hldq hTT hS5 hMN hat hnx hab
        obtain ⟨hlp, hld, hs9, hbe, hlpq, hldq, hTT, hS5, hMN, hat, hnx, hab, hs0⟩ := hNEW
        have hlt9 : (gi (own σ243) 1).toInt < (gi (own σ243) 2).toInt := (by have q1 : (gi (own σ243) 1).toInt = (gi (own σ76) 1).toInt := (by rw [eσ243] <;> rfl); have q2 : (gi (own σ243) 2).toInt = (gi (own σ76) 1 + (1 : Int32)).toInt := (by rw [eσ243] <;> rfl); rw [q2, i_add (a := gi (own σ76) 1) rfl zl1 (by omega), q1]; omega)
        refine lv_aload_n hx hb dX7_next_246 rfl (lv_at hl 0 rfl) ?_
        refine lv_aload_n hx hb dX7_next_247 rfl (lv_at hl 0 rfl) ?_
        refine R_g8 C h dX7_next_248 ?_
        refine R_tape C h dX7_next_251 ?_
        refine lv_aload_n hx hb dX7_next_254 rfl (lv_at hl 0 rfl) ?_
        refine R_g1 C h dX7_next_255 ?_
        refine R_bald C h (ix_of (rfl : (gi (own σ243) 1).toInt = (gi (own σ243) 1).toInt) (by omega)) dX7_next_258 ?_
        refine lv_bipush (v := 59) hx hb dX7_next_259 (by decide) ?_
        refine lv_icmp_eq (tgt := 315) hx hb dX7_next_261 (by decide) (fun c261 => ?_) (fun c261 => ?_)
        · have i261 := c_eq c261
          refine lv_iconst (v := 3) hx hb dX7_next_315 (by decide) ?_
          refine lv_goto (tgt := 320) hx hb dX7_next_316 (by decide) ?_
          refine R_p3 C h dX7_next_320 (fun σ320 H locs eσ320 h => ?_)
          have hNEW : (0 ≤ (gi (ttb σ320) 1).toInt ∧ (gi (ttb σ320) 1).toInt ≤ 6) ∧ (0 ≤ (gi (ttb σ320) 3).toInt ∧ (gi (ttb σ320) 3).toInt ≤ 16 ∧ (gi (ttb σ320) 3).toInt ≤ (g.1.2.1 50 : Int)) ∧ (0 ≤ (gi (own σ320) 0).toInt ∧ (gi (own σ320) 0).toInt ≤ 900) ∧ (0 ≤ (gi (own σ320) 2).toInt ∧ (gi (own σ320) 2).toInt ≤ (gi (own σ320) 0).toInt) ∧ ((gi (ttb σ320) 1).toInt = (gi (ttb σ) 1).toInt) ∧ ((gi (ttb σ320) 3).toInt = (gi (ttb σ) 3).toInt) ∧ (ttb σ320 = ttb σ) ∧ (gi (own σ320) 5 = gi (own σ) 5) ∧ ((gi (own σ) 1).toInt ≤ (gi (own σ320) 1).toInt) ∧ (0 ≤ (gi (own σ320) 1).toInt ∧ (gi (own σ320) 1).toInt ≤ (gi (own σ320) 0).toInt) ∧ ((gi (own σ) 2).toInt ≤ (gi (own σ320) 1).toInt) ∧ (0 ≤ (gi (own σ320) 1).toInt ∧ (gi (own σ320) 1).toInt ≤ (gi (own σ320) 2).toInt) ∧ ((gi (own σ320) 1).toInt < (gi (own σ320) 2).toInt) := ⟨(by rw [eσ320] <;> exact hlp), (by rw [eσ320] <;> exact hld), (by rw [eσ320] <;> exact hs9), (by rw [eσ320] <;> exact hbe), (by rw [eσ320] <;> exact hlpq), (by rw [eσ320] <;> exact hldq), (by rw [eσ320] <;> exact hTT), (by rw [eσ320] <;> exact hS5), (by rw [eσ320] <;> exact hMN), (by rw [eσ320] <;> exact hat), (by rw [eσ320] <;> exact hnx), (by rw [eσ320] <;> exact hab), (by rw [eσ320] <;> exact hlt9)⟩
          clear hlp hld hs9 hbe hlpq hldq hTT hS5 hMN hat hnx hab
          obtain ⟨hlp, hld, hs9, hbe, hlpq, hldq, hTT, hS5, hMN, hat, hnx, hab, hlt9⟩ := hNEW
          have he : f_X7_next σ = σ320 := (by have eσ5 := eσ5.symm; subst eσ5; have eσL8e := eσL8e.symm; subst eσL8e; have eσ71 := eσ71.symm; subst eσ71; have eσ76 := eσ76.symm; subst eσ76; have er96 := er96.symm; subst er96; have er136 := er136.symm; subst er136; have eσ243 := eσ243.symm; subst eσ243; have eσ320 := eσ320.symm; subst eσ320; exact ((if_pos c87).trans ((if_pos c99).trans ((if_pos c139).trans ((if_pos c261).trans rfl)))))
          exact w_retv (wXR g) C h hr hlocks he ⟨hlpq, hldq, hTT, hS5, hMN, (by first | assumption | omega | (unfold Hd; omega)), (by first | assumption | omega | (unfold Hd; omega)), (by first | assumption | omega | (unfold Hd; omega)), (by first | assumption | (intro q9; omega)), (by first | assumption | omega | (unfold Hd; omega))⟩ dX7_next_323
        · have i261 := c_ne c261
          refine lv_aload_n hx hb dX7_next_264 rfl (lv_at hl 0 rfl) ?_
          refine R_g8 C h dX7_next_265 ?_
          refine R_tape C h dX7_next_268 ?_
          refine lv_aload_n hx hb dX7_next_271 rfl (lv_at hl 0 rfl) ?_
          refine R_g1 C h dX7_next_272 ?_
          refine R_bald C h (ix_of (rfl : (gi (own σ243) 1).toInt = (gi (own σ243) 1).toInt) (by omega)) dX7_next_275 ?_
          refine lv_bipush (v := 60) hx hb dX7_next_276 (by decide) ?_
          refine lv_icmp_eq (tgt := 315) hx hb dX7_next_278 (by decide) (fun c278 => ?_) (fun c278 => ?_)
          · have i278 := c_eq c278
            refine lv_iconst (v := 3) hx hb dX7_next_315 (by decide) ?_
            refine lv_goto (tgt := 320) hx hb dX7_next_316 (by decide) ?_
            refine R_p3 C h dX7_next_320 (fun σ320 H locs eσ320 h => ?_)
            have hNEW : (0 ≤ (gi (ttb σ320) 1).toInt ∧ (gi (ttb σ320) 1).toInt ≤ 6) ∧ (0 ≤ (gi (ttb σ320) 3).toInt ∧ (gi (ttb σ320) 3).toInt ≤ 16 ∧ (gi (ttb σ320) 3).toInt ≤ (g.1.2.1 50 : Int)) ∧ (0 ≤ (gi (own σ320) 0).toInt ∧ (gi (own σ320) 0).toInt ≤ 900) ∧ (0 ≤ (gi (own σ320) 2).toInt ∧ (gi (own σ320) 2).toInt ≤ (gi (own σ320) 0).toInt) ∧ ((gi (ttb σ320) 1).toInt = (gi (ttb σ) 1).toInt) ∧ ((gi (ttb σ320) 3).toInt = (gi (ttb σ) 3).toInt) ∧ (ttb σ320 = ttb σ) ∧ (gi (own σ320) 5 = gi (own σ) 5) ∧ ((gi (own σ) 1).toInt ≤ (gi (own σ320) 1).toInt) ∧ (0 ≤ (gi (own σ320) 1).toInt ∧ (gi (own σ320) 1).toInt ≤ (gi (own σ320) 0).toInt) ∧ ((gi (own σ) 2).toInt ≤ (gi (own σ320) 1).toInt) ∧ (0 ≤ (gi (own σ320) 1).toInt ∧ (gi (own σ320) 1).toInt ≤ (gi (own σ320) 2).toInt) ∧ ((gi (own σ320) 1).toInt < (gi (own σ320) 2).toInt) := ⟨(by rw [eσ320] <;> exact hlp), (by rw [eσ320] <;> exact hld), (by rw [eσ320] <;> exact hs9), (by rw [eσ320] <;> exact hbe), (by rw [eσ320] <;> exact hlpq), (by rw [eσ320] <;> exact hldq), (by rw [eσ320] <;> exact hTT), (by rw [eσ320] <;> exact hS5), (by rw [eσ320] <;> exact hMN), (by rw [eσ320] <;> exact hat), (by rw [eσ320] <;> exact hnx), (by rw [eσ320] <;> exact hab), (by rw [eσ320] <;> exact hlt9)⟩
            clear hlp hld hs9 hbe hlpq hldq hTT hS5 hMN hat hnx hab
            obtain ⟨hlp, hld, hs9, hbe, hlpq, hldq, hTT, hS5, hMN, hat, hnx, hab, hlt9⟩ := hNEW
            have he : f_X7_next σ = σ320 := (by have eσ5 := eσ5.symm; subst eσ5; have eσL8e := eσL8e.symm; subst eσL8e; have eσ71 := eσ71.symm; subst eσ71; have eσ76 := eσ76.symm; subst eσ76; have er96 := er96.symm; subst er96; have er136 := er136.symm; subst er136; have eσ243 := eσ243.symm; subst eσ243; have eσ320 := eσ320.symm; subst eσ320; exact ((if_pos c87).trans ((if_pos c99).trans ((if_pos c139).trans ((if_neg c261).trans ((if_pos c278).trans rfl))))))
            exact w_retv (wXR g) C h hr hlocks he ⟨hlpq, hldq, hTT, hS5, hMN, (by first | assumption | omega | (unfold Hd; omega)), (by first | assumption | omega | (unfold Hd; omega)), (by first | assumption | omega | (unfold Hd; omega)), (by first | assumption | (intro q9; omega)), (by first | assumption | omega | (unfold Hd; omega))⟩ dX7_next_323
          · have i278 := c_ne c278
            refine lv_aload_n hx hb dX7_next_281 rfl (lv_at hl 0 rfl) ?_
            refine R_g8 C h dX7_next_282 ?_
            refine R_tape C h dX7_next_285 ?_
            refine lv_aload_n hx hb dX7_next_288 rfl (lv_at hl 0 rfl) ?_
            refine R_g1 C h dX7_next_289 ?_
            refine R_bald C h (ix_of (rfl : (gi (own σ243) 1).toInt = (gi (own σ243) 1).toInt) (by omega)) dX7_next_292 ?_
            refine lv_bipush (v := 62) hx hb dX7_next_293 (by decide) ?_
            refine lv_icmp_eq (tgt := 315) hx hb dX7_next_295 (by decide) (fun c295 => ?_) (fun c295 => ?_)
            · have i295 := c_eq c295
              refine lv_iconst (v := 3) hx hb dX7_next_315 (by decide) ?_
              refine lv_goto (tgt := 320) hx hb dX7_next_316 (by decide) ?_
              refine R_p3 C h dX7_next_320 (fun σ320 H locs eσ320 h => ?_)
              have hNEW : (0 ≤ (gi (ttb σ320) 1).toInt ∧ (gi (ttb σ320) 1).toInt ≤ 6) ∧ (0 ≤ (gi (ttb σ320) 3).toInt ∧ (gi (ttb σ320) 3).toInt ≤ 16 ∧ (gi (ttb σ320) 3).toInt ≤ (g.1.2.1 50 : Int)) ∧ (0 ≤ (gi (own σ320) 0).toInt ∧ (gi (own σ320) 0).toInt ≤ 900) ∧ (0 ≤ (gi (own σ320) 2).toInt ∧ (gi (own σ320) 2).toInt ≤ (gi (own σ320) 0).toInt) ∧ ((gi (ttb σ320) 1).toInt = (gi (ttb σ) 1).toInt) ∧ ((gi (ttb σ320) 3).toInt = (gi (ttb σ) 3).toInt) ∧ (ttb σ320 = ttb σ) ∧ (gi (own σ320) 5 = gi (own σ) 5) ∧ ((gi (own σ) 1).toInt ≤ (gi (own σ320) 1).toInt) ∧ (0 ≤ (gi (own σ320) 1).toInt ∧ (gi (own σ320) 1).toInt ≤ (gi (own σ320) 0).toInt) ∧ ((gi (own σ) 2).toInt ≤ (gi (own σ320) 1).toInt) ∧ (0 ≤ (gi (own σ320) 1).toInt ∧ (gi (own σ320) 1).toInt ≤ (gi (own σ320) 2).toInt) ∧ ((gi (own σ320) 1).toInt < (gi (own σ320) 2).toInt) := ⟨(by rw [eσ320] <;> exact hlp), (by rw [eσ320] <;> exact hld), (by rw [eσ320] <;> exact hs9), (by rw [eσ320] <;> exact hbe), (by rw [eσ320] <;> exact hlpq), (by rw [eσ320] <;> exact hldq), (by rw [eσ320] <;> exact hTT), (by rw [eσ320] <;> exact hS5), (by rw [eσ320] <;> exact hMN), (by rw [eσ320] <;> exact hat), (by rw [eσ320] <;> exact hnx), (by rw [eσ320] <;> exact hab), (by rw [eσ320] <;> exact hlt9)⟩
              clear hlp hld hs9 hbe hlpq hldq hTT hS5 hMN hat hnx hab
              obtain ⟨hlp, hld, hs9, hbe, hlpq, hldq, hTT, hS5, hMN, hat, hnx, hab, hlt9⟩ := hNEW
              have he : f_X7_next σ = σ320 := (by have eσ5 := eσ5.symm; subst eσ5; have eσL8e := eσL8e.symm; subst eσL8e; have eσ71 := eσ71.symm; subst eσ71; have eσ76 := eσ76.symm; subst eσ76; have er96 := er96.symm; subst er96; have er136 := er136.symm; subst er136; have eσ243 := eσ243.symm; subst eσ243; have eσ320 := eσ320.symm; subst eσ320; exact ((if_pos c87).trans ((if_pos c99).trans ((if_pos c139).trans ((if_neg c261).trans ((if_neg c278).trans ((if_pos c295).trans rfl)))))))
              exact w_retv (wXR g) C h hr hlocks he ⟨hlpq, hldq, hTT, hS5, hMN, (by first | assumption | omega | (unfold Hd; omega)), (by first | assumption | omega | (unfold Hd; omega)), (by first | assumption | omega | (unfold Hd; omega)), (by first | assumption | (intro q9; omega)), (by first | assumption | omega | (unfold Hd; omega))⟩ dX7_next_323
            · have i295 := c_ne c295
              refine lv_aload_n hx hb dX7_next_298 rfl (lv_at hl 0 rfl) ?_
              refine R_g8 C h dX7_next_299 ?_
              refine R_tape C h dX7_next_302 ?_
              refine lv_aload_n hx hb dX7_next_305 rfl (lv_at hl 0 rfl) ?_
              refine R_g1 C h dX7_next_306 ?_
              refine R_bald C h (ix_of (rfl : (gi (own σ243) 1).toInt = (gi (own σ243) 1).toInt) (by omega)) dX7_next_309 ?_
              refine lv_bipush (v := 61) hx hb dX7_next_310 (by decide) ?_
              refine lv_icmp_ne (tgt := 319) hx hb dX7_next_312 (by decide) (fun c312 => ?_) (fun c312 => ?_)
              · have i312 := c_ne c312
                refine lv_iconst (v := 4) hx hb dX7_next_319 (by decide) ?_
                refine R_p3 C h dX7_next_320 (fun σ320 H locs eσ320 h => ?_)
                have hNEW : (0 ≤ (gi (ttb σ320) 1).toInt ∧ (gi (ttb σ320) 1).toInt ≤ 6) ∧ (0 ≤ (gi (ttb σ320) 3).toInt ∧ (gi (ttb σ320) 3).toInt ≤ 16 ∧ (gi (ttb σ320) 3).toInt ≤ (g.1.2.1 50 : Int)) ∧ (0 ≤ (gi (own σ320) 0).toInt ∧ (gi (own σ320) 0).toInt ≤ 900) ∧ (0 ≤ (gi (own σ320) 2).toInt ∧ (gi (own σ320) 2).toInt ≤ (gi (own σ320) 0).toInt) ∧ ((gi (ttb σ320) 1).toInt = (gi (ttb σ) 1).toInt) ∧ ((gi (ttb σ320) 3).toInt = (gi (ttb σ) 3).toInt) ∧ (ttb σ320 = ttb σ) ∧ (gi (own σ320) 5 = gi (own σ) 5) ∧ ((gi (own σ) 1).toInt ≤ (gi (own σ320) 1).toInt) ∧ (0 ≤ (gi (own σ320) 1).toInt ∧ (gi (own σ320) 1).toInt ≤ (gi (own σ320) 0).toInt) ∧ ((gi (own σ) 2).toInt ≤ (gi (own σ320) 1).toInt) ∧ (0 ≤ (gi (own σ320) 1).toInt ∧ (gi (own σ320) 1).toInt ≤ (gi (own σ320) 2).toInt) ∧ ((gi (own σ320) 1).toInt < (gi (own σ320) 2).toInt) := ⟨(by rw [eσ320] <;> exact hlp), (by rw [eσ320] <;> exact hld), (by rw [eσ320] <;> exact hs9), (by rw [eσ320] <;> exact hbe), (by rw [eσ320] <;> exact hlpq), (by rw [eσ320] <;> exact hldq), (by rw [eσ320] <;> exact hTT), (by rw [eσ320] <;> exact hS5), (by rw [eσ320] <;> exact hMN), (by rw [eσ320] <;> exact hat), (by rw [eσ320] <;> exact hnx), (by rw [eσ320] <;> exact hab), (by rw [eσ320] <;> exact hlt9)⟩
                clear hlp hld hs9 hbe hlpq hldq hTT hS5 hMN hat hnx hab
                obtain ⟨hlp, hld, hs9, hbe, hlpq, hldq, hTT, hS5, hMN, hat, hnx, hab, hlt9⟩ := hNEW
                have he : f_X7_next σ = σ320 := (by have eσ5 := eσ5.symm; subst eσ5; have eσL8e := eσL8e.symm; subst eσL8e; have eσ71 := eσ71.symm; subst eσ71; have eσ76 := eσ76.symm; subst eσ76; have er96 := er96.symm; subst er96; have er136 := er136.symm; subst er136; have eσ243 := eσ243.symm; subst eσ243; have eσ320 := eσ320.symm; subst eσ320; exact ((if_pos c87).trans ((if_pos c99).trans ((if_pos c139).trans ((if_neg c261).trans ((if_neg c278).trans ((if_neg c295).trans ((if_neg c312).trans rfl))))))))
                exact w_retv (wXR g) C h hr hlocks he ⟨hlpq, hldq, hTT, hS5, hMN, (by first | assumption | omega | (unfold Hd; omega)), (by first | assumption | omega | (unfold Hd; omega)), (by first | assumption | omega | (unfold Hd; omega)), (by first | assumption | (intro q9; omega)), (by first | assumption | omega | (unfold Hd; omega))⟩ dX7_next_323
              · have i312 := c_eq c312
                refine lv_iconst (v := 3) hx hb dX7_next_315 (by decide) ?_
                refine lv_goto (tgt := 320) hx hb dX7_next_316 (by decide) ?_
                refine R_p3 C h dX7_next_320 (fun σ320 H locs eσ320 h => ?_)
                have hNEW : (0 ≤ (gi (ttb σ320) 1).toInt ∧ (gi (ttb σ320) 1).toInt ≤ 6) ∧ (0 ≤ (gi (ttb σ320) 3).toInt ∧ (gi (ttb σ320) 3).toInt ≤ 16 ∧ (gi (ttb σ320) 3).toInt ≤ (g.1.2.1 50 : Int)) ∧ (0 ≤ (gi (own σ320) 0).toInt ∧ (gi (own σ320) 0).toInt ≤ 900) ∧ (0 ≤ (gi (own σ320) 2).toInt ∧ (gi (own σ320) 2).toInt ≤ (gi (own σ320) 0).toInt) ∧ ((gi (ttb σ320) 1).toInt = (gi (ttb σ) 1).toInt) ∧ ((gi (ttb σ320) 3).toInt = (gi (ttb σ) 3).toInt) ∧ (ttb σ320 = ttb σ) ∧ (gi (own σ320) 5 = gi (own σ) 5) ∧ ((gi (own σ) 1).toInt ≤ (gi (own σ320) 1).toInt) ∧ (0 ≤ (gi (own σ320) 1).toInt ∧ (gi (own σ320) 1).toInt ≤ (gi (own σ320) 0).toInt) ∧ ((gi (own σ) 2).toInt ≤ (gi (own σ320) 1).toInt) ∧ (0 ≤ (gi (own σ320) 1).toInt ∧ (gi (own σ320) 1).toInt ≤ (gi (own σ320) 2).toInt) ∧ ((gi (own σ320) 1).toInt < (gi (own σ320) 2).toInt) := ⟨(by rw [eσ320] <;> exact hlp), (by rw [eσ320] <;> exact hld), (by rw [eσ320] <;> exact hs9), (by rw [eσ320] <;> exact hbe), (by rw [eσ320] <;> exact hlpq), (by rw [eσ320] <;> exact hldq), (by rw [eσ320] <;> exact hTT), (by rw [eσ320] <;> exact hS5), (by rw [eσ320] <;> exact hMN), (by rw [eσ320] <;> exact hat), (by rw [eσ320] <;> exact hnx), (by rw [eσ320] <;> exact hab), (by rw [eσ320] <;> exact hlt9)⟩
                clear hlp hld hs9 hbe hlpq hldq hTT hS5 hMN hat hnx hab
                obtain ⟨hlp, hld, hs9, hbe, hlpq, hldq, hTT, hS5, hMN, hat, hnx, hab, hlt9⟩ := hNEW
                have he : f_X7_next σ = σ320 := (by have eσ5 := eσ5.symm; subst eσ5; have eσL8e := eσL8e.symm; subst eσL8e; have eσ71 := eσ71.symm; subst eσ71; have eσ76 := eσ76.symm; subst eσ76; have er96 := er96.symm; subst er96; have er136 := er136.symm; subst er136; have eσ243 := eσ243.symm; subst eσ243; have eσ320 := eσ320.symm; subst eσ320; exact ((if_pos c87).trans ((if_pos c99).trans ((if_pos c139).trans ((if_neg c261).trans ((if_neg c278).trans ((if_neg c295).trans ((if_pos c312).trans rfl))))))))
                exact w_retv (wXR g) C h hr hlocks he ⟨hlpq, hldq, hTT, hS5, hMN, (by first | assumption | omega | (unfold Hd; omega)), (by first | assumption | omega | (unfold Hd; omega)), (by first | assumption | omega | (unfold Hd; omega)), (by first | assumption | (intro q9; omega)), (by first | assumption | omega | (unfold Hd; omega))⟩ dX7_next_323
      · have i139 := c_ne c139
        have okr136 := hlt_136 c139
        refine lv_aload_n hx hb dX7_next_142 rfl (lv_at hl 0 rfl) ?_
        refine lv_iconst (v := 0) hx hb dX7_next_143 (by decide) ?_
        refine R_p4 C h dX7_next_144 (fun σ144 H locs eσ144 h => ?_)
        have hNEW : (0 ≤ (gi (ttb σ144) 1).toInt ∧ (gi (ttb σ144) 1).toInt ≤ 6) ∧ (0 ≤ (gi (ttb σ144) 3).toInt ∧ (gi (ttb σ144) 3).toInt ≤ 16 ∧ (gi (ttb σ144) 3).toInt ≤ (g.1.2.1 50 : Int)) ∧ (0 ≤ (gi (own σ144) 0).toInt ∧ (gi (own σ144) 0).toInt ≤ 900) ∧ (0 ≤ (gi (own σ144) 2).toInt ∧ (gi (own σ144) 2).toInt ≤ (gi (own σ144) 0).toInt) ∧ ((gi (ttb σ144) 1).toInt = (gi (ttb σ) 1).toInt) ∧ ((gi (ttb σ144) 3).toInt = (gi (ttb σ) 3).toInt) ∧ (ttb σ144 = ttb σ) ∧ (gi (own σ144) 5 = gi (own σ) 5) ∧ ((gi (own σ) 1).toInt ≤ (gi (own σ144) 1).toInt) ∧ (0 ≤ (gi (own σ144) 1).toInt ∧ (gi (own σ144) 1).toInt ≤ (gi (own σ144) 0).toInt) ∧ ((gi (own σ) 2).toInt ≤ (gi (own σ144) 1).toInt) ∧ (0 ≤ (gi (own σ144) 1).toInt ∧ (gi (own σ144) 1).toInt ≤ (gi (own σ144) 2).toInt) ∧ ((gi (own σ144) 3).toInt = 0) := ⟨(by rw [eσ144] <;> exact hlp), (by rw [eσ144] <;> exact hld), (by rw [eσ144] <;> exact hs9), (by rw [eσ144] <;> exact hbe), (by rw [eσ144] <;> exact hlpq), (by rw [eσ144] <;> exact hldq), (by rw [eσ144] <;> exact hTT), (by rw [eσ144] <;> exact hS5), (by rw [eσ144] <;> exact hMN), (by rw [eσ144] <;> exact hat), (by rw [eσ144] <;> exact hnx), (by rw [eσ144] <;> exact hab), (by rw [eσ144] <;> exact hs0)⟩
        clear hlp hld hs9 hbe hlpq hldq hTT hS5 hMN hat hnx hab
        obtain ⟨hlp, hld, hs9, hbe, hlpq, hldq, hTT, hS5, hMN, hat, hnx, hab, hs0⟩ := hNEW
        have hL147 : ∀ (n : Nat) (σL147 : (MS × MS)) (H : Heap) (locs : List Loc) (ls : Array Slot), (0 ≤ (gi (ttb σL147) 1).toInt ∧ (gi (ttb σL147) 1).toInt ≤ 6) → (0 ≤ (gi (ttb σL147) 3).toInt ∧ (gi (ttb σL147) 3).toInt ≤ 16 ∧ (gi (ttb σL147) 3).toInt ≤ (g.1.2.1 50 : Int)) → (0 ≤ (gi (own σL147) 0).toInt ∧ (gi (own σL147) 0).toInt ≤ 900) → (0 ≤ (gi (own σL147) 2).toInt ∧ (gi (own σL147) 2).toInt ≤ (gi (own σL147) 0).toInt) → ((gi (ttb σL147) 1).toInt = (gi (ttb σ) 1).toInt) → ((gi (ttb σL147) 3).toInt = (gi (ttb σ) 3).toInt) → (ttb σL147 = ttb σ) → (gi (own σL147) 5 = gi (own σ) 5) → ((gi (own σ) 1).toInt ≤ (gi (own σL147) 1).toInt) → (0 ≤ (gi (own σL147) 1).toInt ∧ (gi (own σL147) 1).toInt ≤ (gi (own σL147) 0).toInt) → ((gi (own σ) 2).toInt ≤ (gi (own σL147) 1).toInt) → (0 ≤ (gi (own σL147) 1).toInt ∧ (gi (own σL147) 1).toInt ≤ (gi (own σL147) 2).toInt) → ((gi (own σL147) 3).toInt = 0) → (True) → ((gi (own σL147) 0).toInt - (gi (own σL147) 2).toInt).toNat < n → wH (dR g) σL147 s H locs → lv_has ls 1 [(0, .ref (g.2.1 90))] → (∀ (σL147' : (MS × MS)) (H : Heap) (locs : List Loc) (ls : Array Slot), f_X7_next_L147 n σL147 = σL147' → (0 ≤ (gi (ttb σL147') 1).toInt ∧ (gi (ttb σL147') 1).toInt ≤ 6) → (0 ≤ (gi (ttb σL147') 3).toInt ∧ (gi (ttb σL147') 3).toInt ≤ 16 ∧ (gi (ttb σL147') 3).toInt ≤ (g.1.2.1 50 : Int)) → (0 ≤ (gi (own σL147') 0).toInt ∧ (gi (own σL147') 0).toInt ≤ 900) → (0 ≤ (gi (own σL147') 2).toInt ∧ (gi (own σL147') 2).toInt ≤ (gi (own σL147') 0).toInt) → ((gi (ttb σL147') 1).toInt = (gi (ttb σ) 1).toInt) → ((gi (ttb σL147') 3).toInt = (gi (ttb σ) 3).toInt) → (ttb σL147' = ttb σ) → (gi (own σL147') 5 = gi (own σ) 5) → ((gi (own σ) 1).toInt ≤ (gi (own σL147') 1).toInt) → (0 ≤ (gi (own σL147') 1).toInt ∧ (gi (own σL147') 1).toInt ≤ (gi (own σL147') 0).toInt) → ((gi (own σ) 2).toInt ≤ (gi (own σL147') 1).toInt) → (0 ≤ (gi (own σL147') 1).toInt ∧ (gi (own σL147') 1).toInt ≤ (gi (own σL147') 2).toInt) → ((gi (own σL147') 3).toInt = 0) → (True) → wH (dR g) σL147' s H locs → lv_has ls 1 [(0, .ref (g.2.1 90))] → W p l e ({ frames := 1, cells := 0, slots := 0, locals := 21 } : Room) s m args below meth c H locs 0 0 (MQ below (wQv (dR g) (f_X7_next σ) (fun u => ((gi (ttb u) 1).toInt = (gi (ttb σ) 1).toInt) ∧ ((gi (ttb u) 3).toInt = (gi (ttb σ) 3).toInt) ∧ (ttb u = ttb σ) ∧ (gi (own u) 5 = gi (own σ) 5) ∧ ((gi (own σ) 1).toInt ≤ (gi (own u) 1).toInt) ∧ (0 ≤ (gi (own u) 0).toInt ∧ (gi (own u) 0).toInt ≤ 900) ∧ (0 ≤ (gi (own u) 2).toInt ∧ (gi (own u) 2).toInt ≤ (gi (own u) 0).toInt) ∧ (0 ≤ (gi (own u) 1).toInt ∧ (gi (own u) 1).toInt ≤ (gi (own u) 2).toInt) ∧ ((gi (own u) 3).toInt = 3 → (gi (own u) 1).toInt < (gi (own u) 2).toInt) ∧ ((gi (own σ) 2).toInt ≤ (gi (own u) 1).toInt))) args s 0 0 (dR g).2.2.2.1) (F0 m 211 ls [])) → W p l e ({ frames := 1, cells := 0, slots := 0, locals := 21 } : Room) s m args below meth c H locs 0 0 (MQ below (wQv (dR g) (f_X7_next σ) (fun u => ((gi (ttb u) 1).toInt = (gi (ttb σ) 1).toInt) ∧ ((gi (ttb u) 3).toInt = (gi (ttb σ) 3).toInt) ∧ (ttb u = ttb σ) ∧ (gi (own u) 5 = gi (own σ) 5) ∧ ((gi (own σ) 1).toInt ≤ (gi (own u) 1).toInt) ∧ (0 ≤ (gi (own u) 0).toInt ∧ (gi (own u) 0).toInt ≤ 900) ∧ (0 ≤ (gi (own u) 2).toInt ∧ (gi (own u) 2).toInt ≤ (gi (own u) 0).toInt) ∧ (0 ≤ (gi (own u) 1).toInt ∧ (gi (own u) 1).toInt ≤ (gi (own u) 2).toInt) ∧ ((gi (own u) 3).toInt = 3 → (gi (own u) 1).toInt < (gi (own u) 2).toInt) ∧ ((gi (own σ) 2).toInt ≤ (gi (own u) 1).toInt))) args s 0 0 (dR g).2.2.2.1) (F0 m 147 ls []) := by
          intro n
          induction n with
          | zero =>
            intro σL147 H locs ls hlp hld hs9 hbe hlpq hldq hTT hS5 hMN hat hnx hab hs0 _ hm; exact absurd hm (Nat.not_lt_zero _)
          | succ n ih =>
            intro σL147 H locs ls hlp hld hs9 hbe hlpq hldq hTT hS5 hMN hat hnx hab hs0 hI147 hm h hl kk
            refine lv_aload_n hx hb dX7_next_147 rfl (lv_at hl 0 rfl) ?_
            refine lv_aload_n hx hb dX7_next_148 rfl (lv_at hl 0 rfl) ?_
            refine R_g2 C h dX7_next_149 ?_
            refine w_callz (ci := 7) (q0 := 6) (As := [.int (gi (own σL147) 2)]) (rest := []) 1 (wXR g) C h (k_X7_isDigit l g σL147 (gi (own σL147) 2) (by first | assumption | omega) (by first | assumption | omega)) (lw_V q598 q600 qs9 q159 q601) rfl rfl rfl rfl (by decide +kernel) ⟨Nat.le_of_ble_eq_true rfl, Nat.le_of_ble_eq_true rfl⟩ rfl hl.1 rfl (Nat.le_of_ble_eq_true rfl) ⟨Nat.le_of_ble_eq_true rfl, Nat.le_of_ble_eq_true rfl⟩ dX7_next_152 (fun r152 σ152 H locs eσ152 er152 br152 hE152 h => ?_)
            rw [eσ152] at h
            have hE152 : (¬ r152 = 0 → (gi (own σL147) 2).toInt < (gi (own σL147) 0).toInt) := hE152
            have hlt_152 := hE152
            clear eσ152
            refine lv_if_eq (tgt := 211) hx hb dX7_next_155 (by decide) (fun c155 => ?_) (fun c155 => ?_)
            · have i155 := c_eq c155
              exact kk σL147 _ _ _ (show f_X7_next_L147 (n + 1) σL147 = σL147 from (by have er152 := er152.symm; subst er152; exact ((if_pos c155).trans rfl))) hlp hld hs9 hbe hlpq hldq hTT hS5 hMN hat hnx hab hs0 trivial h hl
            · have i155 := c_ne c155
              have okr152 := hlt_152 c155
              have hbl : (gi (own σL147) 2).toInt < (gi (own σL147) 0).toInt := (hlt_152 c155)
              have hbq : (gi (own σL147) 2).toInt = (gi (own σL147) 2).toInt ∧ (gi (own σL147) 0).toInt = (gi (own σL147) 0).toInt := ⟨rfl, rfl⟩
              refine lv_aload_n hx hb dX7_next_158 rfl (lv_at hl 0 rfl) ?_
              refine R_g2 C h dX7_next_159 ?_
              refine lv_aload_n hx hb dX7_next_162 rfl (lv_at hl 0 rfl) ?_
              refine R_g1 C h dX7_next_163 ?_
              refine lv_isub hx hb dX7_next_166 ?_
              refine lv_iconst (v := 4) hx hb dX7_next_167 (by decide) ?_
              have j198 : ∀ (σJ198 : (MS × MS)) (H : Heap) (locs : List Loc) (ls : Array Slot) (ej198 : f_X7_next_L147 (n + 1) σL147 = (let σ205 := lsi σJ198 2 ((gi (own σJ198) 2) + (1 : Int32)); f_X7_next_L147 n σ205)) (hlp : 0 ≤ (gi (ttb σJ198) 1).toInt ∧ (gi (ttb σJ198) 1).toInt ≤ 6) (hld : 0 ≤ (gi (ttb σJ198) 3).toInt ∧ (gi (ttb σJ198) 3).toInt ≤ 16 ∧ (gi (ttb σJ198) 3).toInt ≤ (g.1.2.1 50 : Int)) (hs9 : 0 ≤ (gi (own σJ198) 0).toInt ∧ (gi (own σJ198) 0).toInt ≤ 900) (hbe : 0 ≤ (gi (own σJ198) 2).toInt ∧ (gi (own σJ198) 2).toInt ≤ (gi (own σJ198) 0).toInt) (hlpq : (gi (ttb σJ198) 1).toInt = (gi (ttb σ) 1).toInt) (hldq : (gi (ttb σJ198) 3).toInt = (gi (ttb σ) 3).toInt) (hTT : ttb σJ198 = ttb σ) (hS5 : gi (own σJ198) 5 = gi (own σ) 5) (hMN : (gi (own σ) 1).toInt ≤ (gi (own σJ198) 1).toInt) (hat : 0 ≤ (gi (own σJ198) 1).toInt ∧ (gi (own σJ198) 1).toInt ≤ (gi (own σJ198) 0).toInt) (hnx : (gi (own σ) 2).toInt ≤ (gi (own σJ198) 1).toInt) (hab : 0 ≤ (gi (own σJ198) 1).toInt ∧ (gi (own σJ198) 1).toInt ≤ (gi (own σJ198) 2).toInt) (hs0 : (gi (own σJ198) 3).toInt = 0) (hbl : (gi (own σJ198) 2).toInt < (gi (own σJ198) 0).toInt) (hbq : (gi (own σJ198) 2).toInt = (gi (own σL147) 2).toInt ∧ (gi (own σJ198) 0).toInt = (gi (own σL147) 0).toInt) (h : wH (dR g) σJ198 s H locs) (hl : lv_has ls 1 [(0, .ref (g.2.1 90))]), W p l e ({ frames := 1, cells := 0, slots := 0, locals := 21 } : Room) s m args below meth c H locs 0 0 (MQ below (wQv (dR g) (f_X7_next σ) (fun u => ((gi (ttb u) 1).toInt = (gi (ttb σ) 1).toInt) ∧ ((gi (ttb u) 3).toInt = (gi (ttb σ) 3).toInt) ∧ (ttb u = ttb σ) ∧ (gi (own u) 5 = gi (own σ) 5) ∧ ((gi (own σ) 1).toInt ≤ (gi (own u) 1).toInt) ∧ (0 ≤ (gi (own u) 0).toInt ∧ (gi (own u) 0).toInt ≤ 900) ∧ (0 ≤ (gi (own u) 2).toInt ∧ (gi (own u) 2).toInt ≤ (gi (own u) 0).toInt) ∧ (0 ≤ (gi (own u) 1).toInt ∧ (gi (own u) 1).toInt ≤ (gi (own u) 2).toInt) ∧ ((gi (own u) 3).toInt = 3 → (gi (own u) 1).toInt < (gi (own u) 2).toInt) ∧ ((gi (own σ) 2).toInt ≤ (gi (own u) 1).toInt))) args s 0 0 (dR g).2.2.2.1) (F0 m 198 ls []) := by
                intro σJ198 H locs ls ej198 hlp hld hs9 hbe hlpq hldq hTT hS5 hMN hat hnx hab hs0 hbl hbq h hl
                refine lv_aload_n hx hb dX7_next_198 rfl (lv_at hl 0 rfl) ?_
                refine lv_dup hx hb dX7_next_199 rfl ?_
                refine R_g2 C h dX7_next_200 ?_
                refine lv_iconst (v := 1) hx hb dX7_next_203 (by decide) ?_
                refine lv_iadd hx hb dX7_next_204 ?_
                refine R_p2 C h dX7_next_205 (fun σ205 H locs eσ205 h => ?_)
                have hNEW : (0 ≤ (gi (ttb σ205) 1).toInt ∧ (gi (ttb σ205) 1).toInt ≤ 6) ∧ (0 ≤ (gi (ttb σ205) 3).toInt ∧ (gi (ttb σ205) 3).toInt ≤ 16 ∧ (gi (ttb σ205) 3).toInt ≤ (g.1.2.1 50 : Int)) ∧ (0 ≤ (gi (own σ205) 0).toInt ∧ (gi (own σ205) 0).toInt ≤ 900) ∧ (0 ≤ (gi (own σ205) 2).toInt ∧ (gi (own σ205) 2).toInt ≤ (gi (own σ205) 0).toInt) ∧ ((gi (ttb σ205) 1).toInt = (gi (ttb σ) 1).toInt) ∧ ((gi (ttb σ205) 3).toInt = (gi (ttb σ) 3).toInt) ∧ (ttb σ205 = ttb σ) ∧ (gi (own σ205) 5 = gi (own σ) 5) ∧ ((gi (own σ) 1).toInt ≤ (gi (own σ205) 1).toInt) ∧ (0 ≤ (gi (own σ205) 1).toInt ∧ (gi (own σ205) 1).toInt ≤ (gi (own σ205) 0).toInt) ∧ ((gi (own σ) 2).toInt ≤ (gi (own σ205) 1).toInt) ∧ (0 ≤ (gi (own σ205) 1).toInt ∧ (gi (own σ205) 1).toInt ≤ (gi (own σ205) 2).toInt) ∧ ((gi (own σ205) 3).toInt = 0) := ⟨(by rw [eσ205] <;> exact hlp), (by rw [eσ205] <;> exact hld), (by rw [eσ205] <;> exact hs9), (by rw [eσ205]; show 0 ≤ (gi (own σJ198) 2 + (1 : Int32)).toInt ∧ (gi (own σJ198) 2 + (1 : Int32)).toInt ≤ (gi (own σJ198) 0).toInt; rw [i_add (a := gi (own σJ198) 2) rfl zl1 (by omega)]; omega), (by rw [eσ205] <;> exact hlpq), (by rw [eσ205] <;> exact hldq), (by rw [eσ205] <;> exact hTT), (by rw [eσ205] <;> exact hS5), (by rw [eσ205] <;> exact hMN), (by rw [eσ205] <;> exact hat), (by rw [eσ205] <;> exact hnx), (by rw [eσ205]; show 0 ≤ (gi (own σJ198) 1).toInt ∧ (gi (own σJ198) 1).toInt ≤ (gi (own σJ198) 2 + (1 : Int32)).toInt; rw [i_add (a := gi (own σJ198) 2) rfl zl1 (by omega)]; omega), (by rw [eσ205] <;> exact hs0)⟩
                obtain ⟨hlp, hld, hs9, hbe, hlpq, hldq, hTT, hS5, hMN, hat, hnx, hab, hs0⟩ := hNEW
                refine lv_goto (tgt := 147) hx hb dX7_next_208 (by decide) ?_
                have m147 : (gi (own σ205) 2).toInt = (gi (own σJ198) 2).toInt + 1 := by rw [eσ205]; exact i_add (a := gi (own σJ198) 2) rfl zl1 (by omega)
                have ms147 : (gi (own σ205) 0).toInt = (gi (own σJ198) 0).toInt := by rw [eσ205] <;> rfl
                exact ih σ205 _ _ _ hlp hld hs9 hbe hlpq hldq hTT hS5 hMN hat hnx hab hs0 trivial (by omega) h hl (fun σL147' H locs ls en hlp hld hs9 hbe hlpq hldq hTT hS5 hMN hat hnx hab hs0 hI h hl => kk σL147' H locs ls ((show f_X7_next_L147 (n + 1) σL147 = f_X7_next_L147 n σ205 from (by have eσ205 := eσ205.symm; subst eσ205; exact (ej198.trans rfl))).trans en) hlp hld hs9 hbe hlpq hldq hTT hS5 hMN hat hnx hab hs0 hI h hl)
              refine lv_icmp_ge (tgt := 198) hx hb dX7_next_168 (by decide) (fun c168 => ?_) (fun c168 => ?_)
              · have i168 := c_le c168
                exact j198 _ _ _ _ (by have er152 := er152.symm; subst er152; exact ((if_neg c155).trans ((if_pos c168).trans rfl))) hlp hld hs9 hbe hlpq hldq hTT hS5 hMN hat hnx hab hs0 hbl hbq h hl
              · have i168 := c_nle c168
                refine lv_aload_n hx hb dX7_next_171 rfl (lv_at hl 0 rfl) ?_
                refine lv_bipush (v := 10) hx hb dX7_next_172 (by decide) ?_
                refine lv_aload_n hx hb dX7_next_174 rfl (lv_at hl 0 rfl) ?_
                refine R_g4 C h dX7_next_175 ?_
                refine lv_imul hx hb dX7_next_178 ?_
                refine lv_aload_n hx hb dX7_next_179 rfl (lv_at hl 0 rfl) ?_
                refine R_g8 C h dX7_next_180 ?_
                refine R_tape C h dX7_next_183 ?_
                refine lv_aload_n hx hb dX7_next_186 rfl (lv_at hl 0 rfl) ?_
                refine R_g2 C h dX7_next_187 ?_
                refine R_bald C h (ix_of (rfl : (gi (own σL147) 2).toInt = (gi (own σL147) 2).toInt) (by omega)) dX7_next_190 ?_
                refine lv_iadd hx hb dX7_next_191 ?_
                refine lv_bipush (v := 48) hx hb dX7_next_192 (by decide) ?_
                refine lv_isub hx hb dX7_next_194 ?_
                refine R_p4 C h dX7_next_195 (fun σ195 H locs eσ195 h => ?_)
                have hNEW : (0 ≤ (gi (ttb σ195) 1).toInt ∧ (gi (ttb σ195) 1).toInt ≤ 6) ∧ (0 ≤ (gi (ttb σ195) 3).toInt ∧ (gi (ttb σ195) 3).toInt ≤ 16 ∧ (gi (ttb σ195) 3).toInt ≤ (g.1.2.1 50 : Int)) ∧ (0 ≤ (gi (own σ195) 0).toInt ∧ (gi (own σ195) 0).toInt ≤ 900) ∧ (0 ≤ (gi (own σ195) 2).toInt ∧ (gi (own σ195) 2).toInt ≤ (gi (own σ195) 0).toInt) ∧ ((gi (ttb σ195) 1).toInt = (gi (ttb σ) 1).toInt) ∧ ((gi (ttb σ195) 3).toInt = (gi (ttb σ) 3).toInt) ∧ (ttb σ195 = ttb σ) ∧ (gi (own σ195) 5 = gi (own σ) 5) ∧ ((gi (own σ) 1).toInt ≤ (gi (own σ195) 1).toInt) ∧ (0 ≤ (gi (own σ195) 1).toInt ∧ (gi (own σ195) 1).toInt ≤ (gi (own σ195) 0).toInt) ∧ ((gi (own σ) 2).toInt ≤ (gi (own σ195) 1).toInt) ∧ (0 ≤ (gi (own σ195) 1).toInt ∧ (gi (own σ195) 1).toInt ≤ (gi (own σ195) 2).toInt) ∧ ((gi (own σ195) 3).toInt = 0) ∧ ((gi (own σ195) 2).toInt < (gi (own σ195) 0).toInt) ∧ ((gi (own σ195) 2).toInt = (gi (own σL147) 2).toInt ∧ (gi (own σ195) 0).toInt = (gi (own σL147) 0).toInt) := ⟨(by rw [eσ195] <;> exact hlp), (by rw [eσ195] <;> exact hld), (by rw [eσ195] <;> exact hs9), (by rw [eσ195] <;> exact hbe), (by rw [eσ195] <;> exact hlpq), (by rw [eσ195] <;> exact hldq), (by rw [eσ195] <;> exact hTT), (by rw [eσ195] <;> exact hS5), (by rw [eσ195] <;> exact hMN), (by rw [eσ195] <;> exact hat), (by rw [eσ195] <;> exact hnx), (by rw [eσ195] <;> exact hab), (by rw [eσ195] <;> exact hs0), (by rw [eσ195] <;> exact hbl), (by rw [eσ195] <;> exact hbq)⟩
                obtain ⟨hlp, hld, hs9, hbe, hlpq, hldq, hTT, hS5, hMN, hat, hnx, hab, hs0, hbl, hbq⟩ := hNEW
                exact j198 _ _ _ _ (by have er152 := er152.symm; subst er152; have eσ195 := eσ195.symm; subst eσ195; exact ((if_neg c155).trans ((if_neg c168).trans rfl))) hlp hld hs9 hbe hlpq hldq hTT hS5 hMN hat hnx hab hs0 hbl hbq h hl
        refine hL147 (901) σ144 _ _ _ hlp hld hs9 hbe hlpq hldq hTT hS5 hMN hat hnx hab hs0 trivial (by omega) h hl (fun σL147e H locs ls eL147 hlp hld hs9 hbe hlpq hldq hTT hS5 hMN hat hnx hab hs0 hI147 h hl => ?_)
        have eσL147e : σL147e = (f_X7_next_L147 (901) σ144) := by rw [eL147]
        refine lv_aload_n hx hb dX7_next_211 rfl (lv_at hl 0 rfl) ?_
        refine lv_aload_n hx hb dX7_next_212 rfl (lv_at hl 0 rfl) ?_
        refine R_g2 C h dX7_next_213 ?_
        refine lv_aload_n hx hb dX7_next_216 rfl (lv_at hl 0 rfl) ?_
        refine R_g1 C h dX7_next_217 ?_
        refine lv_isub hx hb dX7_next_220 ?_
        refine lv_iconst (v := 4) hx hb dX7_next_221 (by decide) ?_
        have j230 : ∀ (t0_230 : Int32) (H : Heap) (locs : List Loc) (ls : Array Slot) (ej230 : (if ((gi (own σL147e) 2) - (gi (own σL147e) 1)) ≤ (4 : Int32) then ((2 : Int32)) else ((4 : Int32))) = t0_230) (hI230 : ¬ t0_230.toInt = 3) (h : wH (dR g) σL147e s H locs) (hl : lv_has ls 1 []), W p l e ({ frames := 1, cells := 0, slots := 0, locals := 21 } : Room) s m args below meth c H locs 0 0 (MQ below (wQv (dR g) (f_X7_next σ) (fun u => ((gi (ttb u) 1).toInt = (gi (ttb σ) 1).toInt) ∧ ((gi (ttb u) 3).toInt = (gi (ttb σ) 3).toInt) ∧ (ttb u = ttb σ) ∧ (gi (own u) 5 = gi (own σ) 5) ∧ ((gi (own σ) 1).toInt ≤ (gi (own u) 1).toInt) ∧ (0 ≤ (gi (own u) 0).toInt ∧ (gi (own u) 0).toInt ≤ 900) ∧ (0 ≤ (gi (own u) 2).toInt ∧ (gi (own u) 2).toInt ≤ (gi (own u) 0).toInt) ∧ (0 ≤ (gi (own u) 1).toInt ∧ (gi (own u) 1).toInt ≤ (gi (own u) 2).toInt) ∧ ((gi (own u) 3).toInt = 3 → (gi (own u) 1).toInt < (gi (own u) 2).toInt) ∧ ((gi (own σ) 2).toInt ≤ (gi (own u) 1).toInt))) args s 0 0 (dR g).2.2.2.1) (F0 m 230 ls [.int t0_230, .ref (g.2.1 90)]) := by
          intro t0_230 H locs ls ej230 hI230 h hl
          have et0_230 := ej230.symm
          refine R_p3 C h dX7_next_230 (fun σ230 H locs eσ230 h => ?_)
          have hNEW : (0 ≤ (gi (ttb σ230) 1).toInt ∧ (gi (ttb σ230) 1).toInt ≤ 6) ∧ (0 ≤ (gi (ttb σ230) 3).toInt ∧ (gi (ttb σ230) 3).toInt ≤ 16 ∧ (gi (ttb σ230) 3).toInt ≤ (g.1.2.1 50 : Int)) ∧ (0 ≤ (gi (own σ230) 0).toInt ∧ (gi (own σ230) 0).toInt ≤ 900) ∧ (0 ≤ (gi (own σ230) 2).toInt ∧ (gi (own σ230) 2).toInt ≤ (gi (own σ230) 0).toInt) ∧ ((gi (ttb σ230) 1).toInt = (gi (ttb σ) 1).toInt) ∧ ((gi (ttb σ230) 3).toInt = (gi (ttb σ) 3).toInt) ∧ (ttb σ230 = ttb σ) ∧ (gi (own σ230) 5 = gi (own σ) 5) ∧ ((gi (own σ) 1).toInt ≤ (gi (own σ230) 1).toInt) ∧ (0 ≤ (gi (own σ230) 1).toInt ∧ (gi (own σ230) 1).toInt ≤ (gi (own σ230) 0).toInt) ∧ ((gi (own σ) 2).toInt ≤ (gi (own σ230) 1).toInt) ∧ (0 ≤ (gi (own σ230) 1).toInt ∧ (gi (own σ230) 1).toInt ≤ (gi (own σ230) 2).toInt) := ⟨(by rw [eσ230] <;> exact hlp), (by rw [eσ230] <;> exact hld), (by rw [eσ230] <;> exact hs9), (by rw [eσ230] <;> exact hbe), (by rw [eσ230] <;> exact hlpq), (by rw [eσ230] <;> exact hldq), (by rw [eσ230] <;> exact hTT), (by rw [eσ230] <;> exact hS5), (by rw [eσ230] <;> exact hMN), (by rw [eσ230] <;> exact hat), (by rw [eσ230] <;> exact hnx), (by rw [eσ230] <;> exact hab)⟩
          obtain ⟨hlp, hld, hs9, hbe, hlpq, hldq, hTT, hS5, hMN, hat, hnx, hab⟩ := hNEW
          have hs2 : ¬ (gi (own σ230) 3).toInt = 3 := (by rw [eσ230]; exact hI230)
          refine lv_goto (tgt := 323) hx hb dX7_next_233 (by decide) ?_
          have he : f_X7_next σ = σ230 := (by have eσ5 := eσ5.symm; subst eσ5; have eσL8e := eσL8e.symm; subst eσL8e; have eσ71 := eσ71.symm; subst eσ71; have eσ76 := eσ76.symm; subst eσ76; have er96 := er96.symm; subst er96; have er136 := er136.symm; subst er136; have eσ144 := eσ144.symm; subst eσ144; have eσL147e := eσL147e.symm; subst eσL147e; have et0_230 := et0_230.symm; subst et0_230; have eσ230 := eσ230.symm; subst eσ230; exact ((if_pos c87).trans ((if_pos c99).trans ((if_neg c139).trans rfl))))
          exact w_retv (wXR g) C h hr hlocks he ⟨hlpq, hldq, hTT, hS5, hMN, (by first | assumption | omega | (unfold Hd; omega)), (by first | assumption | omega | (unfold Hd; omega)), (by first | assumption | omega | (unfold Hd; omega)), (by first | assumption | (intro q9; omega)), (by first | assumption | omega | (unfold Hd; omega))⟩ dX7_next_323
        refine lv_icmp_le (tgt := 229) hx hb dX7_next_222 (by decide) (fun c222 => ?_) (fun c222 => ?_)
        · have i222 := c_le c222
          refine lv_iconst (v := 2) hx hb dX7_next_229 (by decide) ?_
          exact j230 _ _ _ _ (by exact ((if_pos c222).trans rfl)) (by decide) h (lv_sub hl [] rfl)
        · have i222 := c_nle c222
          refine lv_iconst (v := 4) hx hb dX7_next_225 (by decide) ?_
          refine lv_goto (tgt := 230) hx hb dX7_next_226 (by decide) ?_
          exact j230 _ _ _ _ (by exact ((if_neg c222).trans rfl)) (by decide) h (lv_sub hl [] rfl)
    · have i99 := c_ne c99
      have okr96 := hlt_96 c99
      refine lv_aload_n hx hb dX7_next_102 rfl (lv_at hl 0 rfl) ?_
      refine lv_iconst (v := 1) hx hb dX7_next_103 (by decide) ?_
      refine R_p3 C h dX7_next_104 (fun σ104 H locs eσ104 h => ?_)
      have hNEW : (0 ≤ (gi (ttb σ104) 1).toInt ∧ (gi (ttb σ104) 1).toInt ≤ 6) ∧ (0 ≤ (gi (ttb σ104) 3).toInt ∧ (gi (ttb σ104) 3).toInt ≤ 16 ∧ (gi (ttb σ104) 3).toInt ≤ (g.1.2.1 50 : Int)) ∧ (0 ≤ (gi (own σ104) 0).toInt ∧ (gi (own σ104) 0).toInt ≤ 900) ∧ (0 ≤ (gi (own σ104) 2).toInt ∧ (gi (own σ104) 2).toInt ≤ (gi (own σ104) 0).toInt) ∧ ((gi (ttb σ104) 1).toInt = (gi (ttb σ) 1).toInt) ∧ ((gi (ttb σ104) 3).toInt = (gi (ttb σ) 3).toInt) ∧ (ttb σ104 = ttb σ) ∧ (gi (own σ104) 5 = gi (own σ) 5) ∧ ((gi (own σ) 1).toInt ≤ (gi (own σ104) 1).toInt) ∧ (0 ≤ (gi (own σ104) 1).toInt ∧ (gi (own σ104) 1).toInt ≤ (gi (own σ104) 0).toInt) ∧ ((gi (own σ) 2).toInt ≤ (gi (own σ104) 1).toInt) ∧ (0 ≤ (gi (own σ104) 1).toInt ∧ (gi (own σ104) 1).toInt ≤ (gi (own σ104) 2).toInt) := ⟨(by rw [eσ104] <;> exact hlp), (by rw [eσ104] <;> exact hld), (by rw [eσ104] <;> exact hs9), (by rw [eσ104] <;> exact hbe), (by rw [eσ104] <;> exact hlpq), (by rw [eσ104] <;> exact hldq), (by rw [eσ104] <;> exact hTT), (by rw [eσ104] <;> exact hS5), (by rw [eσ104] <;> exact hMN), (by rw [eσ104] <;> exact hat), (by rw [eσ104] <;> exact hnx), (by rw [eσ104] <;> exact hab)⟩
      clear hlp hld hs9 hbe hlpq hldq hTT hS5 hMN hat hnx hab
      obtain ⟨hlp, hld, hs9, hbe, hlpq, hldq, hTT, hS5, hMN, hat, hnx, hab⟩ := hNEW
      have hs1 : (gi (own σ104) 3).toInt = 1 := (by rw [eσ104]; exact zl1)
      have hL107 : ∀ (n : Nat) (σL107 : (MS × MS)) (H : Heap) (locs : List Loc) (ls : Array Slot), (0 ≤ (gi (ttb σL107) 1).toInt ∧ (gi (ttb σL107) 1).toInt ≤ 6) → (0 ≤ (gi (ttb σL107) 3).toInt ∧ (gi (ttb σL107) 3).toInt ≤ 16 ∧ (gi (ttb σL107) 3).toInt ≤ (g.1.2.1 50 : Int)) → (0 ≤ (gi (own σL107) 0).toInt ∧ (gi (own σL107) 0).toInt ≤ 900) → (0 ≤ (gi (own σL107) 2).toInt ∧ (gi (own σL107) 2).toInt ≤ (gi (own σL107) 0).toInt) → ((gi (ttb σL107) 1).toInt = (gi (ttb σ) 1).toInt) → ((gi (ttb σL107) 3).toInt = (gi (ttb σ) 3).toInt) → (ttb σL107 = ttb σ) → (gi (own σL107) 5 = gi (own σ) 5) → ((gi (own σ) 1).toInt ≤ (gi (own σL107) 1).toInt) → (0 ≤ (gi (own σL107) 1).toInt ∧ (gi (own σL107) 1).toInt ≤ (gi (own σL107) 0).toInt) → ((gi (own σ) 2).toInt ≤ (gi (own σL107) 1).toInt) → (0 ≤ (gi (own σL107) 1).toInt ∧ (gi (own σL107) 1).toInt ≤ (gi (own σL107) 2).toInt) → ((gi (own σL107) 3).toInt = 1) → (True) → ((gi (own σL107) 0).toInt - (gi (own σL107) 2).toInt).toNat < n → wH (dR g) σL107 s H locs → lv_has ls 1 [(0, .ref (g.2.1 90))] → (∀ (σL107' : (MS × MS)) (H : Heap) (locs : List Loc) (ls : Array Slot), f_X7_next_L107 n σL107 = σL107' → (0 ≤ (gi (ttb σL107') 1).toInt ∧ (gi (ttb σL107') 1).toInt ≤ 6) → (0 ≤ (gi (ttb σL107') 3).toInt ∧ (gi (ttb σL107') 3).toInt ≤ 16 ∧ (gi (ttb σL107') 3).toInt ≤ (g.1.2.1 50 : Int)) → (0 ≤ (gi (own σL107') 0).toInt ∧ (gi (own σL107') 0).toInt ≤ 900) → (0 ≤ (gi (own σL107') 2).toInt ∧ (gi (own σL107') 2).toInt ≤ (gi (own σL107') 0).toInt) → ((gi (ttb σL107') 1).toInt = (gi (ttb σ) 1).toInt) → ((gi (ttb σL107') 3).toInt = (gi (ttb σ) 3).toInt) → (ttb σL107' = ttb σ) → (gi (own σL107') 5 = gi (own σ) 5) → ((gi (own σ) 1).toInt ≤ (gi (own σL107') 1).toInt) → (0 ≤ (gi (own σL107') 1).toInt ∧ (gi (own σL107') 1).toInt ≤ (gi (own σL107') 0).toInt) → ((gi (own σ) 2).toInt ≤ (gi (own σL107') 1).toInt) → (0 ≤ (gi (own σL107') 1).toInt ∧ (gi (own σL107') 1).toInt ≤ (gi (own σL107') 2).toInt) → ((gi (own σL107') 3).toInt = 1) → (True) → wH (dR g) σL107' s H locs → lv_has ls 1 [] → W p l e ({ frames := 1, cells := 0, slots := 0, locals := 21 } : Room) s m args below meth c H locs 0 0 (MQ below (wQv (dR g) (f_X7_next σ) (fun u => ((gi (ttb u) 1).toInt = (gi (ttb σ) 1).toInt) ∧ ((gi (ttb u) 3).toInt = (gi (ttb σ) 3).toInt) ∧ (ttb u = ttb σ) ∧ (gi (own u) 5 = gi (own σ) 5) ∧ ((gi (own σ) 1).toInt ≤ (gi (own u) 1).toInt) ∧ (0 ≤ (gi (own u) 0).toInt ∧ (gi (own u) 0).toInt ≤ 900) ∧ (0 ≤ (gi (own u) 2).toInt ∧ (gi (own u) 2).toInt ≤ (gi (own u) 0).toInt) ∧ (0 ≤ (gi (own u) 1).toInt ∧ (gi (own u) 1).toInt ≤ (gi (own u) 2).toInt) ∧ ((gi (own u) 3).toInt = 3 → (gi (own u) 1).toInt < (gi (own u) 2).toInt) ∧ ((gi (own σ) 2).toInt ≤ (gi (own u) 1).toInt))) args s 0 0 (dR g).2.2.2.1) (F0 m 323 ls [])) → W p l e ({ frames := 1, cells := 0, slots := 0, locals := 21 } : Room) s m args below meth c H locs 0 0 (MQ below (wQv (dR g) (f_X7_next σ) (fun u => ((gi (ttb u) 1).toInt = (gi (ttb σ) 1).toInt) ∧ ((gi (ttb u) 3).toInt = (gi (ttb σ) 3).toInt) ∧ (ttb u = ttb σ) ∧ (gi (own u) 5 = gi (own σ) 5) ∧ ((gi (own σ) 1).toInt ≤ (gi (own u) 1).toInt) ∧ (0 ≤ (gi (own u) 0).toInt ∧ (gi (own u) 0).toInt ≤ 900) ∧ (0 ≤ (gi (own u) 2).toInt ∧ (gi (own u) 2).toInt ≤ (gi (own u) 0).toInt) ∧ (0 ≤ (gi (own u) 1).toInt ∧ (gi (own u) 1).toInt ≤ (gi (own u) 2).toInt) ∧ ((gi (own u) 3).toInt = 3 → (gi (own u) 1).toInt < (gi (own u) 2).toInt) ∧ ((gi (own σ) 2).toInt ≤ (gi (own u) 1).toInt))) args s 0 0 (dR g).2.2.2.1) (F0 m 107 ls []) := by
        intro n
        induction n with
        | zero =>
          intro σL107 H locs ls hlp hld hs9 hbe hlpq hldq hTT hS5 hMN hat hnx hab hs1 _ hm; exact absurd hm (Nat.not_lt_zero _)
        | succ n ih =>
          intro σL107 H locs ls hlp hld hs9 hbe hlpq hldq hTT hS5 hMN hat hnx hab hs1 hI107 hm h hl kk
          refine lv_aload_n hx hb dX7_next_107 rfl (lv_at hl 0 rfl) ?_
          refine lv_aload_n hx hb dX7_next_108 rfl (lv_at hl 0 rfl) ?_
          refine R_g2 C h dX7_next_109 ?_
          refine w_callz (ci := 7) (q0 := 6) (As := [.int (gi (own σL107) 2)]) (rest := []) 1 (wXR g) C h (k_X7_isLetter l g σL107 (gi (own σL107) 2) (by first | assumption | omega) (by first | assumption | omega)) (lw_V q594 q596 qs8 q159 q597) rfl rfl rfl rfl (by decide +kernel) ⟨Nat.le_of_ble_eq_true rfl, Nat.le_of_ble_eq_true rfl⟩ rfl hl.1 rfl (Nat.le_of_ble_eq_true rfl) ⟨Nat.le_of_ble_eq_true rfl, Nat.le_of_ble_eq_true rfl⟩ dX7_next_112 (fun r112 σ112 H locs eσ112 er112 br112 hE112 h => ?_)
          rw [eσ112] at h
          have hE112 : (¬ r112 = 0 → (gi (own σL107) 2).toInt < (gi (own σL107) 0).toInt) := hE112
          have hlt_112 := hE112
          clear eσ112
          refine lv_if_eq (tgt := 323) hx hb dX7_next_115 (by decide) (fun c115 => ?_) (fun c115 => ?_)
          · have i115 := c_eq c115
            exact kk σL107 _ _ _ (show f_X7_next_L107 (n + 1) σL107 = σL107 from (by have er112 := er112.symm; subst er112; exact ((if_pos c115).trans rfl))) hlp hld hs9 hbe hlpq hldq hTT hS5 hMN hat hnx hab hs1 trivial h (lv_sub hl [] rfl)
          · have i115 := c_ne c115
            have okr112 := hlt_112 c115
            refine lv_aload_n hx hb dX7_next_118 rfl (lv_at hl 0 rfl) ?_
            refine lv_dup hx hb dX7_next_119 rfl ?_
            refine R_g2 C h dX7_next_120 ?_
            refine lv_iconst (v := 1) hx hb dX7_next_123 (by decide) ?_
            refine lv_iadd hx hb dX7_next_124 ?_
            refine R_p2 C h dX7_next_125 (fun σ125 H locs eσ125 h => ?_)
            have hNEW : (0 ≤ (gi (ttb σ125) 1).toInt ∧ (gi (ttb σ125) 1).toInt ≤ 6) ∧ (0 ≤ (gi (ttb σ125) 3).toInt ∧ (gi (ttb σ125) 3).toInt ≤ 16 ∧ (gi (ttb σ125) 3).toInt ≤ (g.1.2.1 50 : Int)) ∧ (0 ≤ (gi (own σ125) 0).toInt ∧ (gi (own σ125) 0).toInt ≤ 900) ∧ (0 ≤ (gi (own σ125) 2).toInt ∧ (gi (own σ125) 2).toInt ≤ (gi (own σ125) 0).toInt) ∧ ((gi (ttb σ125) 1).toInt = (gi (ttb σ) 1).toInt) ∧ ((gi (ttb σ125) 3).toInt = (gi (ttb σ) 3).toInt) ∧ (ttb σ125 = ttb σ) ∧ (gi (own σ125) 5 = gi (own σ) 5) ∧ ((gi (own σ) 1).toInt ≤ (gi (own σ125) 1).toInt) ∧ (0 ≤ (gi (own σ125) 1).toInt ∧ (gi (own σ125) 1).toInt ≤ (gi (own σ125) 0).toInt) ∧ ((gi (own σ) 2).toInt ≤ (gi (own σ125) 1).toInt) ∧ (0 ≤ (gi (own σ125) 1).toInt ∧ (gi (own σ125) 1).toInt ≤ (gi (own σ125) 2).toInt) ∧ ((gi (own σ125) 3).toInt = 1) := ⟨(by rw [eσ125] <;> exact hlp), (by rw [eσ125] <;> exact hld), (by rw [eσ125] <;> exact hs9), (by rw [eσ125]; show 0 ≤ (gi (own σL107) 2 + (1 : Int32)).toInt ∧ (gi (own σL107) 2 + (1 : Int32)).toInt ≤ (gi (own σL107) 0).toInt; rw [i_add (a := gi (own σL107) 2) rfl zl1 (by omega)]; omega), (by rw [eσ125] <;> exact hlpq), (by rw [eσ125] <;> exact hldq), (by rw [eσ125] <;> exact hTT), (by rw [eσ125] <;> exact hS5), (by rw [eσ125] <;> exact hMN), (by rw [eσ125] <;> exact hat), (by rw [eσ125] <;> exact hnx), (by rw [eσ125]; show 0 ≤ (gi (own σL107) 1).toInt ∧ (gi (own σL107) 1).toInt ≤ (gi (own σL107) 2 + (1 : Int32)).toInt; rw [i_add (a := gi (own σL107) 2) rfl zl1 (by omega)]; omega), (by rw [eσ125] <;> exact hs1)⟩
            obtain ⟨hlp, hld, hs9, hbe, hlpq, hldq, hTT, hS5, hMN, hat, hnx, hab, hs1⟩ := hNEW
            refine lv_goto (tgt := 107) hx hb dX7_next_128 (by decide) ?_
            have m107 : (gi (own σ125) 2).toInt = (gi (own σL107) 2).toInt + 1 := by rw [eσ125]; exact i_add (a := gi (own σL107) 2) rfl zl1 (by omega)
            have ms107 : (gi (own σ125) 0).toInt = (gi (own σL107) 0).toInt := by rw [eσ125] <;> rfl
            exact ih σ125 _ _ _ hlp hld hs9 hbe hlpq hldq hTT hS5 hMN hat hnx hab hs1 trivial (by omega) h hl (fun σL107' H locs ls en hlp hld hs9 hbe hlpq hldq hTT hS5 hMN hat hnx hab hs1 hI h hl => kk σL107' H locs ls ((show f_X7_next_L107 (n + 1) σL107 = f_X7_next_L107 n σ125 from (by have er112 := er112.symm; subst er112; have eσ125 := eσ125.symm; subst eσ125; exact ((if_neg c115).trans rfl))).trans en) hlp hld hs9 hbe hlpq hldq hTT hS5 hMN hat hnx hab hs1 hI h hl)
      refine hL107 (901) σ104 _ _ _ hlp hld hs9 hbe hlpq hldq hTT hS5 hMN hat hnx hab hs1 trivial (by omega) h hl (fun σL107e H locs ls eL107 hlp hld hs9 hbe hlpq hldq hTT hS5 hMN hat hnx hab hs1 hI107 h hl => ?_)
      have eσL107e : σL107e = (f_X7_next_L107 (901) σ104) := by rw [eL107]
      have he : f_X7_next σ = σL107e := (by have eσ5 := eσ5.symm; subst eσ5; have eσL8e := eσL8e.symm; subst eσL8e; have eσ71 := eσ71.symm; subst eσ71; have eσ76 := eσ76.symm; subst eσ76; have er96 := er96.symm; subst er96; have eσ104 := eσ104.symm; subst eσ104; have eσL107e := eσL107e.symm; subst eσL107e; exact ((if_pos c87).trans ((if_neg c99).trans rfl)))
      exact w_retv (wXR g) C h hr hlocks he ⟨hlpq, hldq, hTT, hS5, hMN, (by first | assumption | omega | (unfold Hd; omega)), (by first | assumption | omega | (unfold Hd; omega)), (by first | assumption | omega | (unfold Hd; omega)), (by first | assumption | (intro q9; omega)), (by first | assumption | omega | (unfold Hd; omega))⟩ dX7_next_323
  · have i87 := c_nlt c87
    have he : f_X7_next σ = σ76 := (by have eσ5 := eσ5.symm; subst eσ5; have eσL8e := eσL8e.symm; subst eσL8e; have eσ71 := eσ71.symm; subst eσ71; have eσ76 := eσ76.symm; subst eσ76; exact ((if_neg c87).trans rfl))
    exact w_retv (wXR g) C h hr hlocks he ⟨hlpq, hldq, hTT, hS5, hMN, (by first | assumption | omega | (unfold Hd; omega)), (by first | assumption | omega | (unfold Hd; omega)), (by first | assumption | omega | (unfold Hd; omega)), (by first | assumption | (intro q9; omega)), (by first | assumption | omega | (unfold Hd; omega))⟩ dX7_next_90
def f_X7_isWord_L28 (σ : MS × MS) (i1 : Nat) : Nat → Int32 → Int32
  | 0, x2_28 => 0
  | n + 1, x2_28 => if (nI (strsR.getD i1 []).length) ≤ x2_28 then ((1 : Int32)) else (if (ga (own σ) 1 ((gi (own σ) 1) + x2_28)) = (kc (strsR.getD i1 []) x2_28) then (f_X7_isWord_L28 σ i1 n (x2_28 + (1 : Int32))) else ((0 : Int32)))
def f_X7_isWord (σ : MS × MS) (i1 : Nat) : Int32 := if (gi (own σ) 3) = (1 : Int32) then (if ((gi (own σ) 2) - (gi (own σ) 1)) = (nI (strsR.getD i1 []).length) then (f_X7_isWord_L28 σ i1 (10) (0 : Int32)) else ((0 : Int32))) else ((0 : Int32))
set_option maxHeartbeats 4000000 in
set_option maxRecDepth 100000 in
theorem k_X7_isWord (l : Launch) (g : GR) (σ : MS × MS) (i1 : Nat) (hs9 : 0 ≤ (gi (own σ) 0).toInt ∧ (gi (own σ) 0).toInt ≤ 900) (hbe : 0 ≤ (gi (own σ) 2).toInt ∧ (gi (own σ) 2).toInt ≤ (gi (own σ) 0).toInt) (hab : 0 ≤ (gi (own σ) 1).toInt ∧ (gi (own σ) 1).toInt ≤ (gi (own σ) 2).toInt) (hi1 : i1 < 29) : Met l yX7_isWord (ws_ yX7_isWord cX7_isWord 3 (some .boolean)) ({ frames := 4, cells := 0, slots := 0, locals := 85 } : Room) (wPc (dR g) (g.2.1 90) σ [.ref (g.2.2.2.1 i1).1]) (wQz (dR g) σ (f_X7_isWord σ i1) (fun u r => (¬ r = 0 → (gi (own σ) 1).toInt < (gi (own σ) 2).toInt))) 0 0 (dR g).2.2.2.1 := by
  refine met_W RX7 (by decide) rfl (Nat.le_of_ble_eq_true rfl) ?_
  intro p e s m args below meth c C hr hlocks h ls hl
  have hx := C.1.1
  have hb := C.1.2.1
  have hml := C.1.2.2.1
  have hown := C.1.2.2.2.1
  have hts := C.1.2.2.2.2
  have hl : lv_has ls 3 [(0, .ref (g.2.1 90)), (1, .ref (g.2.2.2.1 i1).1)] := hl
  have zl0 : (0 : Int32).toInt = 0 := rfl
  have zl1 : (1 : Int32).toInt = 1 := rfl
  have hnI := strs_nI i1 hi1
  have hl9 := strs_len9 i1 hi1
  have hl1 := strs_pos i1 hi1
  refine lv_aload_n hx hb dX7_isWord_0 rfl (lv_at hl 0 rfl) ?_
  refine R_g3 C h dX7_isWord_1 ?_
  refine lv_iconst (v := 1) hx hb dX7_isWord_4 (by decide) ?_
  refine lv_icmp_ne (tgt := 24) hx hb dX7_isWord_5 (by decide) (fun c5 => ?_) (fun c5 => ?_)
  · have i5 := c_ne c5
    refine lv_iconst (v := 0) hx hb dX7_isWord_24 (by decide) ?_
    have he : f_X7_isWord σ i1 = (0 : Int32) := (by exact ((if_neg c5).trans rfl))
    exact w_retz (wXR g) C h hr hlocks rfl he (Or.inl rfl) (by first | (intro q9; exact absurd rfl q9) | (intro _; omega)) dX7_isWord_25
  · have i5 := c_eq c5
    refine lv_aload_n hx hb dX7_isWord_8 rfl (lv_at hl 0 rfl) ?_
    refine R_g2 C h dX7_isWord_9 ?_
    refine lv_aload_n hx hb dX7_isWord_12 rfl (lv_at hl 0 rfl) ?_
    refine R_g1 C h dX7_isWord_13 ?_
    refine lv_isub hx hb dX7_isWord_16 ?_
    refine lv_aload_n hx hb dX7_isWord_17 rfl (lv_at hl 1 rfl) ?_
    refine R_len (rest := [.int ((gi (own σ) 2) - (gi (own σ) 1))]) (i := i1) C h (by omega) ⟨Nat.le_of_ble_eq_true rfl, Nat.le_of_ble_eq_true rfl⟩ hl.1 (Nat.le_of_ble_eq_true rfl) ⟨Nat.le_of_ble_eq_true rfl, Nat.le_of_ble_eq_true rfl⟩ dX7_isWord_18 (fun H locs h => ?_)
    refine lv_icmp_eq (tgt := 26) hx hb dX7_isWord_21 (by decide) (fun c21 => ?_) (fun c21 => ?_)
    · have i21 := c_eq c21
      have k21 : (gi (own σ) 2).toInt - (gi (own σ) 1).toInt = ((strsR.getD i1 []).length : Int) := by rw [← hnI, ← i_sub (a := gi (own σ) 2) (b := gi (own σ) 1) rfl rfl (by omega)]; exact congrArg Int32.toInt c21
      refine lv_iconst (v := 0) hx hb dX7_isWord_26 (by decide) ?_
      refine lv_istore_n (lv' := [(2, .int (0 : Int32)), (0, .ref (g.2.1 90)), (1, .ref (g.2.2.2.1 i1).1)]) hx hb dX7_isWord_27 rfl hl (by decide) rfl (fun ls hl => ?_)
      have hL28 : ∀ (n : Nat) (x2_28 : Int32) (H : Heap) (locs : List Loc) (ls : Array Slot), (0 ≤ x2_28.toInt ∧ x2_28.toInt ≤ ((strsR.getD i1 []).length : Int)) → (((strsR.getD i1 []).length : Int) - x2_28.toInt).toNat < n → f_X7_isWord σ i1 = f_X7_isWord_L28 σ i1 n x2_28 → wH (dR g) σ s H locs → lv_has ls 3 [(0, .ref (g.2.1 90)), (1, .ref (g.2.2.2.1 i1).1), (2, .int x2_28)] → W p l e ({ frames := 4, cells := 0, slots := 0, locals := 85 } : Room) s m args below meth c H locs 0 0 (MQ below (wQz (dR g) σ (f_X7_isWord σ i1) (fun u r => (¬ r = 0 → (gi (own σ) 1).toInt < (gi (own σ) 2).toInt))) args s 0 0 (dR g).2.2.2.1) (F0 m 28 ls []) := by
        intro n
        induction n with
        | zero =>
          intro x2_28 H locs ls _ hm; exact absurd hm (Nat.not_lt_zero _)
        | succ n ih =>
          intro x2_28 H locs ls hI28 hm hf28 h hl
          refine lv_iload_n hx hb dX7_isWord_28 rfl (lv_at hl 2 rfl) ?_
          refine lv_aload_n hx hb dX7_isWord_29 rfl (lv_at hl 1 rfl) ?_
          refine R_len (rest := [.int x2_28]) (i := i1) C h (by omega) ⟨Nat.le_of_ble_eq_true rfl, Nat.le_of_ble_eq_true rfl⟩ hl.1 (Nat.le_of_ble_eq_true rfl) ⟨Nat.le_of_ble_eq_true rfl, Nat.le_of_ble_eq_true rfl⟩ dX7_isWord_30 (fun H locs h => ?_)
          refine lv_icmp_ge (tgt := 66) hx hb dX7_isWord_33 (by decide) (fun c33 => ?_) (fun c33 => ?_)
          · have i33 := c_le c33
            refine lv_iconst (v := 1) hx hb dX7_isWord_66 (by decide) ?_
            have he : f_X7_isWord σ i1 = (1 : Int32) := (by exact (hf28.trans ((if_pos c33).trans rfl)))
            exact w_retz (wXR g) C h hr hlocks rfl he (Or.inr rfl) (by first | (intro q9; exact absurd rfl q9) | (intro _; omega)) dX7_isWord_67
          · have i33 := c_nle c33
            refine lv_aload_n hx hb dX7_isWord_36 rfl (lv_at hl 0 rfl) ?_
            refine R_g8 C h dX7_isWord_37 ?_
            refine R_tape C h dX7_isWord_40 ?_
            refine lv_aload_n hx hb dX7_isWord_43 rfl (lv_at hl 0 rfl) ?_
            refine R_g1 C h dX7_isWord_44 ?_
            refine lv_iload_n hx hb dX7_isWord_47 rfl (lv_at hl 2 rfl) ?_
            refine lv_iadd hx hb dX7_isWord_48 ?_
            refine R_bald C h (ix_of (i_add (rfl : (gi (own σ) 1).toInt = (gi (own σ) 1).toInt) (rfl : x2_28.toInt = x2_28.toInt) (by omega)) (by omega)) dX7_isWord_49 ?_
            refine lv_aload_n hx hb dX7_isWord_50 rfl (lv_at hl 1 rfl) ?_
            refine lv_iload_n hx hb dX7_isWord_51 rfl (lv_at hl 2 rfl) ?_
            refine R_charAt (rest := [.int (ga (own σ) 1 ((gi (own σ) 1) + x2_28))]) (i := i1) C h (by omega) (vp_in_iff.mpr (by omega)) ⟨Nat.le_of_ble_eq_true rfl, Nat.le_of_ble_eq_true rfl⟩ hl.1 (Nat.le_of_ble_eq_true rfl) ⟨Nat.le_of_ble_eq_true rfl, Nat.le_of_ble_eq_true rfl⟩ dX7_isWord_52 (fun H locs h => ?_)
            refine lv_icmp_eq (tgt := 60) hx hb dX7_isWord_55 (by decide) (fun c55 => ?_) (fun c55 => ?_)
            · have i55 := c_eq c55
              refine lv_iinc (v := (x2_28 + (1 : Int32))) (lv' := [(2, .int (x2_28 + (1 : Int32))), (0, .ref (g.2.1 90)), (1, .ref (g.2.2.2.1 i1).1)]) hx hb dX7_isWord_60 hl (k := 2) rfl rfl (by decide) rfl (fun ls hl => ?_)
              refine lv_goto (tgt := 28) hx hb dX7_isWord_63 (by decide) ?_
              have tt2 : (x2_28 + (1 : Int32)).toInt = (x2_28.toInt + (1)) := (i_add (rfl : x2_28.toInt = x2_28.toInt) zl1 (by omega))
              exact ih (x2_28 + (1 : Int32)) _ _ _  (by first | assumption | omega) (by omega) (by exact (hf28.trans ((if_neg c33).trans ((if_pos c55).trans rfl)))) h (lv_sub hl [1, 2, 0] rfl)
            · have i55 := c_ne c55
              refine lv_iconst (v := 0) hx hb dX7_isWord_58 (by decide) ?_
              have he : f_X7_isWord σ i1 = (0 : Int32) := (by exact (hf28.trans ((if_neg c33).trans ((if_neg c55).trans rfl))))
              exact w_retz (wXR g) C h hr hlocks rfl he (Or.inl rfl) (by first | (intro q9; exact absurd rfl q9) | (intro _; omega)) dX7_isWord_59
      exact hL28 (10) (0 : Int32) _ _ _  (by first | assumption | omega) (by omega) (by exact ((if_pos c5).trans ((if_pos c21).trans rfl))) h (lv_sub hl [1, 2, 0] rfl)
    · have i21 := c_ne c21
      refine lv_iconst (v := 0) hx hb dX7_isWord_24 (by decide) ?_
      have he : f_X7_isWord σ i1 = (0 : Int32) := (by exact ((if_pos c5).trans ((if_neg c21).trans rfl)))
      exact w_retz (wXR g) C h hr hlocks rfl he (Or.inl rfl) (by first | (intro q9; exact absurd rfl q9) | (intro _; omega)) dX7_isWord_25
def f_X7_isSign (σ : MS × MS) (p1 : Int32) : Int32 := if (gi (own σ) 3) = (3 : Int32) then (if (ga (own σ) 1 (gi (own σ) 1)) = p1 then ((1 : Int32)) else ((0 : Int32))) else ((0 : Int32))
set_option maxHeartbeats 4000000 in
set_option maxRecDepth 100000 in
theorem k_X7_isSign (l : Launch) (g : GR) (σ : MS × MS) (p1 : Int32) (hs9 : 0 ≤ (gi (own σ) 0).toInt ∧ (gi (own σ) 0).toInt ≤ 900) (hbe : 0 ≤ (gi (own σ) 2).toInt ∧ (gi (own σ) 2).toInt ≤ (gi (own σ) 0).toInt) (hab : 0 ≤ (gi (own σ) 1).toInt ∧ (gi (own σ) 1).toInt ≤ (gi (own σ) 2).toInt) (hsg : (gi (own σ) 3).toInt = 3 → (gi (own σ) 1).toInt < (gi (own σ) 2).toInt) : Met l yX7_isSign (ws_ yX7_isSign cX7_isSign 2 (some .boolean)) ({ frames := 0, cells := 0, slots := 0, locals := 0 } : Room) (wPc (dR g) (g.2.1 90) σ [.int p1]) (wQz (dR g) σ (f_X7_isSign σ p1) (fun u r => (¬ r = 0 → (gi (own σ) 1).toInt < (gi (own σ) 2).toInt))) 0 0 (dR g).2.2.2.1 := by
  refine met_W RX7 (by decide) rfl (Nat.le_of_ble_eq_true rfl) ?_
  intro p e s m args below meth c C hr hlocks h ls hl
  have hx := C.1.1
  have hb := C.1.2.1
  have hml := C.1.2.2.1
  have hown := C.1.2.2.2.1
  have hts := C.1.2.2.2.2
  have hl : lv_has ls 2 [(0, .ref (g.2.1 90)), (1, .int p1)] := hl
  have zl0 : (0 : Int32).toInt = 0 := rfl
  have zl1 : (1 : Int32).toInt = 1 := rfl
  have zl3 : (3 : Int32).toInt = 3 := rfl
  refine lv_aload_n hx hb dX7_isSign_0 rfl (lv_at hl 0 rfl) ?_
  refine R_g3 C h dX7_isSign_1 ?_
  refine lv_iconst (v := 3) hx hb dX7_isSign_4 (by decide) ?_
  refine lv_icmp_ne (tgt := 28) hx hb dX7_isSign_5 (by decide) (fun c5 => ?_) (fun c5 => ?_)
  · have i5 := c_ne c5
    refine lv_iconst (v := 0) hx hb dX7_isSign_28 (by decide) ?_
    have he : f_X7_isSign σ p1 = (0 : Int32) := (by exact ((if_neg c5).trans rfl))
    exact w_retz (wXR g) C h hr hlocks rfl he (Or.inl rfl) (by first | (intro q9; exact absurd rfl q9) | (intro _; omega)) dX7_isSign_29
  · have i5 := c_eq c5
    have k5 := hsg (by omega)
    refine lv_aload_n hx hb dX7_isSign_8 rfl (lv_at hl 0 rfl) ?_
    refine R_g8 C h dX7_isSign_9 ?_
    refine R_tape C h dX7_isSign_12 ?_
    refine lv_aload_n hx hb dX7_isSign_15 rfl (lv_at hl 0 rfl) ?_
    refine R_g1 C h dX7_isSign_16 ?_
    refine R_bald C h (ix_of (rfl : (gi (own σ) 1).toInt = (gi (own σ) 1).toInt) (by omega)) dX7_isSign_19 ?_
    refine lv_iload_n hx hb dX7_isSign_20 rfl (lv_at hl 1 rfl) ?_
    refine lv_icmp_ne (tgt := 28) hx hb dX7_isSign_21 (by decide) (fun c21 => ?_) (fun c21 => ?_)
    · have i21 := c_ne c21
      refine lv_iconst (v := 0) hx hb dX7_isSign_28 (by decide) ?_
      have he : f_X7_isSign σ p1 = (0 : Int32) := (by exact ((if_pos c5).trans ((if_neg c21).trans rfl)))
      exact w_retz (wXR g) C h hr hlocks rfl he (Or.inl rfl) (by first | (intro q9; exact absurd rfl q9) | (intro _; omega)) dX7_isSign_29
    · have i21 := c_eq c21
      refine lv_iconst (v := 1) hx hb dX7_isSign_24 (by decide) ?_
      refine lv_goto (tgt := 29) hx hb dX7_isSign_25 (by decide) ?_
      have he : f_X7_isSign σ p1 = (1 : Int32) := (by exact ((if_pos c5).trans ((if_pos c21).trans rfl)))
      exact w_retz (wXR g) C h hr hlocks rfl he (Or.inr rfl) (by first | (intro q9; exact absurd rfl q9) | (intro _; omega)) dX7_isSign_29
def f_X7_close (σ : MS × MS) : (MS × MS) × Bool := (let r3 := (f_X7_isSign σ (59 : Int32)); if r3 = (0 : Int32) then ((let σ10 := (f_X7_wrong σ); (σ10, true))) else ((let σ15 := (f_X7_next σ); (σ15, false))))
set_option maxHeartbeats 4000000 in
set_option maxRecDepth 100000 in
theorem k_X7_close (l : Launch) (g : GR) (σ : MS × MS) (hlp : 0 ≤ (gi (ttb σ) 1).toInt ∧ (gi (ttb σ) 1).toInt ≤ 6) (hld : 0 ≤ (gi (ttb σ) 3).toInt ∧ (gi (ttb σ) 3).toInt ≤ 16 ∧ (gi (ttb σ) 3).toInt ≤ (g.1.2.1 50 : Int)) (hs9 : 0 ≤ (gi (own σ) 0).toInt ∧ (gi (own σ) 0).toInt ≤ 900) (hbe : 0 ≤ (gi (own σ) 2).toInt ∧ (gi (own σ) 2).toInt ≤ (gi (own σ) 0).toInt) (hab : 0 ≤ (gi (own σ) 1).toInt ∧ (gi (own σ) 1).toInt ≤ (gi (own σ) 2).toInt) (hsg : (gi (own σ) 3).toInt = 3 → (gi (own σ) 1).toInt < (gi (own σ) 2).toInt) : vx_Met l yX7_close (ws_ yX7_close cX7_close 1 none) ({ frames := 2, cells := 0, slots := 0, locals := 42 } : Room) (va_Pc [.ref (g.2.1 90)] (wU (dR g) σ)) (xQv g (f_X7_close σ).1 (f_X7_close σ).2 (fun u => ((gi (ttb u) 1).toInt = (gi (ttb σ) 1).toInt) ∧ ((gi (ttb u) 3).toInt = (gi (ttb σ) 3).toInt) ∧ (ttb u = ttb σ) ∧ (gi (own u) 5 = gi (own σ) 5) ∧ ((gi (own σ) 1).toInt ≤ (gi (own u) 1).toInt) ∧ ((gi (own σ) 1).toInt < (gi (own u) 1).toInt) ∧ (0 ≤ (gi (own u) 0).toInt ∧ (gi (own u) 0).toInt ≤ 900) ∧ (0 ≤ (gi (own u) 2).toInt ∧ (gi (own u) 2).toInt ≤ (gi (own u) 0).toInt) ∧ (0 ≤ (gi (own u) 1).toInt ∧ (gi (own u) 1).toInt ≤ (gi (own u) 2).toInt) ∧ ((gi (own u) 3).toInt = 3 → (gi (own u) 1).toInt < (gi (own u) 2).toInt))) (xX g (f_X7_close σ).1 (f_X7_close σ).2) 0 0 (rA g) := by
  refine met_R (by decide) rfl (Nat.le_of_ble_eq_true rfl) ?_
  intro p e s m args below meth c C hr hlocks htab h ls hl
  have hx := C.1.1
  have hb := C.1.2.1
  have hml := C.1.2.2.1
  have hown := C.1.2.2.2.1
  have hts := C.1.2.2.2.2
  have hl : lv_has ls 1 [(0, .ref (g.2.1 90))] := hl
  have hlpq : (gi (ttb σ) 1).toInt = (gi (ttb σ) 1).toInt := rfl
  have hldq : (gi (ttb σ) 3).toInt = (gi (ttb σ) 3).toInt := rfl
  have hTT : ttb σ = ttb σ := rfl
  have hS5 : gi (own σ) 5 = gi (own σ) 5 := rfl
  have hMN : (gi (own σ) 1).toInt ≤ (gi (own σ) 1).toInt := Int.le_refl _
  have zl0 : (0 : Int32).toInt = 0 := rfl
  have zl59 : (59 : Int32).toInt = 59 := rfl
  refine lv_aload_n hx hb dX7_close_0 rfl (lv_at hl 0 rfl) ?_
  refine lv_bipush (v := 59) hx hb dX7_close_1 (by decide) ?_
  refine w_callz (ci := 7) (q0 := 6) (As := [.int (59 : Int32)]) (rest := []) 1 (wXR g) C h (k_X7_isSign l g σ (59 : Int32) (by first | assumption | omega) (by first | assumption | omega) (by first | assumption | omega) (by first | assumption | omega)) (lw_V q861 q863 qs31 q159 q864) rfl rfl rfl rfl (by decide +kernel) ⟨Nat.le_of_ble_eq_true rfl, Nat.le_of_ble_eq_true rfl⟩ rfl hl.1 rfl (Nat.le_of_ble_eq_true rfl) ⟨Nat.le_of_ble_eq_true rfl, Nat.le_of_ble_eq_true rfl⟩ dX7_close_3 (fun r3 σ3 H locs eσ3 er3 br3 hE3 h => ?_)
  rw [eσ3] at h
  have hE3 : (¬ r3 = 0 → (gi (own σ) 1).toInt < (gi (own σ) 2).toInt) := hE3
  have hwl_3 := hE3
  clear eσ3
  refine lv_if_ne (tgt := 14) hx hb dX7_close_6 (by decide) (fun c6 => ?_) (fun c6 => ?_)
  · have i6 := c_ne c6
    have okr3 := hwl_3 c6
    refine lv_aload_n hx hb dX7_close_14 rfl (lv_at hl 0 rfl) ?_
    refine w_callv (ci := 7) (q0 := 6) (As := []) (rest := []) 0 (wXR g) C h (k_X7_next l g σ (by first | assumption | omega) (by first | assumption | omega) (by first | assumption | omega) (by first | assumption | omega) (by first | assumption | omega)) (lw_V q590 q592 qs7 q159 q593) rfl rfl rfl rfl (by decide +kernel) ⟨Nat.le_of_ble_eq_true rfl, Nat.le_of_ble_eq_true rfl⟩ rfl hl.1 rfl (Nat.le_of_ble_eq_true rfl) ⟨Nat.le_of_ble_eq_true rfl, Nat.le_of_ble_eq_true rfl⟩ dX7_close_15 (fun σ15 H locs eσ15 hE15 h => ?_)
    have hE15 : ((gi (ttb σ15) 1).toInt = (gi (ttb σ) 1).toInt) ∧ ((gi (ttb σ15) 3).toInt = (gi (ttb σ) 3).toInt) ∧ (ttb σ15 = ttb σ) ∧ (gi (own σ15) 5 = gi (own σ) 5) ∧ ((gi (own σ) 1).toInt ≤ (gi (own σ15) 1).toInt) ∧ (0 ≤ (gi (own σ15) 0).toInt ∧ (gi (own σ15) 0).toInt ≤ 900) ∧ (0 ≤ (gi (own σ15) 2).toInt ∧ (gi (own σ15) 2).toInt ≤ (gi (own σ15) 0).toInt) ∧ (0 ≤ (gi (own σ15) 1).toInt ∧ (gi (own σ15) 1).toInt ≤ (gi (own σ15) 2).toInt) ∧ ((gi (own σ15) 3).toInt = 3 → (gi (own σ15) 1).toInt < (gi (own σ15) 2).toInt) ∧ ((gi (own σ) 2).toInt ≤ (gi (own σ15) 1).toInt) := hE15
    obtain ⟨hlpq_15, hldq_15, hTT_15, hS5_15, hMN_15, hs9_15, hbe_15, hab_15, hsg_15, hnx_15⟩ := hE15
    have hNEW : (0 ≤ (gi (ttb σ15) 1).toInt ∧ (gi (ttb σ15) 1).toInt ≤ 6) ∧ (0 ≤ (gi (ttb σ15) 3).toInt ∧ (gi (ttb σ15) 3).toInt ≤ 16 ∧ (gi (ttb σ15) 3).toInt ≤ (g.1.2.1 50 : Int)) ∧ (0 ≤ (gi (own σ15) 0).toInt ∧ (gi (own σ15) 0).toInt ≤ 900) ∧ (0 ≤ (gi (own σ15) 2).toInt ∧ (gi (own σ15) 2).toInt ≤ (gi (own σ15) 0).toInt) ∧ (0 ≤ (gi (own σ15) 1).toInt ∧ (gi (own σ15) 1).toInt ≤ (gi (own σ15) 2).toInt) ∧ ((gi (own σ15) 3).toInt = 3 → (gi (own σ15) 1).toInt < (gi (own σ15) 2).toInt) ∧ ((gi (ttb σ15) 1).toInt = (gi (ttb σ) 1).toInt) ∧ ((gi (ttb σ15) 3).toInt = (gi (ttb σ) 3).toInt) ∧ (ttb σ15 = ttb σ) ∧ (gi (own σ15) 5 = gi (own σ) 5) ∧ ((gi (own σ) 1).toInt ≤ (gi (own σ15) 1).toInt) := ⟨(by first | assumption | omega), (by first | assumption | omega), (by first | assumption | omega), (by first | assumption | omega), (by first | assumption | omega), (by first | assumption | omega), (by first | assumption | omega), (by first | assumption | omega), (hTT_15.trans hTT), (hS5_15.trans hS5), (by first | assumption | omega)⟩
    obtain ⟨hlp, hld, hs9, hbe, hab, hsg, hlpq, hldq, hTT, hS5, hMN⟩ := hNEW
    have he : f_X7_close σ = (σ15, false) := (by have er3 := er3.symm; subst er3; have eσ15 := eσ15.symm; subst eσ15; exact ((if_neg c6).trans rfl))
    exact x_retv C h hr hlocks (congrArg Prod.fst he) (congrArg Prod.snd he) ⟨hlpq, hldq, hTT, hS5, hMN, (by first | assumption | omega | (unfold Hd; omega)), (by first | assumption | omega | (unfold Hd; omega)), (by first | assumption | omega | (unfold Hd; omega)), (by first | assumption | omega | (unfold Hd; omega)), (by first | assumption | omega | (unfold Hd; omega))⟩ dX7_close_18
  · have i6 := c_eq c6
    refine lv_aload_n hx hb dX7_close_9 rfl (lv_at hl 0 rfl) ?_
    refine R_rcall (ci := 7) (q0 := 6) (As := []) (rest := []) 0 C h (k_X7_wrong l g σ) (lw_V q748 q750 qs18 q159 q751) rfl rfl rfl rfl (by decide +kernel) ⟨Nat.le_of_ble_eq_true rfl, Nat.le_of_ble_eq_true rfl⟩ rfl hl.1 rfl (Nat.le_of_ble_eq_true rfl) ⟨Nat.le_of_ble_eq_true rfl, Nat.le_of_ble_eq_true rfl⟩ dX7_close_10 (fun σ10 H locs eσ10 h => ?_)
    have he : f_X7_close σ = (σ10, true) := (by have er3 := er3.symm; subst er3; have eσ10 := eσ10.symm; subst eσ10; exact ((if_pos c6).trans rfl))
    exact vx_athrow C.1.1 C.1.2.1 dX7_close_13 (x_out C h htab hlocks (congrArg Prod.fst he) (congrArg Prod.snd he))
def f_X7_word (σ : MS × MS) (i1 : Nat) : (MS × MS) × Bool := (let r2 := (f_X7_isWord σ i1); if r2 = (0 : Int32) then ((let σ9 := (f_X7_wrong σ); (σ9, true))) else ((let σ14 := (f_X7_next σ); (σ14, false))))
set_option maxHeartbeats 4000000 in
set_option maxRecDepth 100000 in
theorem k_X7_word (l : Launch) (g : GR) (σ : MS × MS) (i1 : Nat) (hlp : 0 ≤ (gi (ttb σ) 1).toInt ∧ (gi (ttb σ) 1).toInt ≤ 6) (hld : 0 ≤ (gi (ttb σ) 3).toInt ∧ (gi (ttb σ) 3).toInt ≤ 16 ∧ (gi (ttb σ) 3).toInt ≤ (g.1.2.1 50 : Int)) (hs9 : 0 ≤ (gi (own σ) 0).toInt ∧ (gi (own σ) 0).toInt ≤ 900) (hbe : 0 ≤ (gi (own σ) 2).toInt ∧ (gi (own σ) 2).toInt ≤ (gi (own σ) 0).toInt) (hab : 0 ≤ (gi (own σ) 1).toInt ∧ (gi (own σ) 1).toInt ≤ (gi (own σ) 2).toInt) (hsg : (gi (own σ) 3).toInt = 3 → (gi (own σ) 1).toInt < (gi (own σ) 2).toInt) (hi1 : i1 < 29) : vx_Met l yX7_word (ws_ yX7_word cX7_word 2 none) ({ frames := 5, cells := 0, slots := 0, locals := 107 } : Room) (va_Pc [.ref (g.2.1 90), .ref (g.2.2.2.1 i1).1] (wU (dR g) σ)) (xQv g (f_X7_word σ i1).1 (f_X7_word σ i1).2 (fun u => ((gi (ttb u) 1).toInt = (gi (ttb σ) 1).toInt) ∧ ((gi (ttb u) 3).toInt = (gi (ttb σ) 3).toInt) ∧ (ttb u = ttb σ) ∧ (gi (own u) 5 = gi (own σ) 5) ∧ ((gi (own σ) 1).toInt ≤ (gi (own u) 1).toInt) ∧ ((gi (own σ) 1).toInt < (gi (own u) 1).toInt) ∧ (0 ≤ (gi (own u) 0).toInt ∧ (gi (own u) 0).toInt ≤ 900) ∧ (0 ≤ (gi (own u) 2).toInt ∧ (gi (own u) 2).toInt ≤ (gi (own u) 0).toInt) ∧ (0 ≤ (gi (own u) 1).toInt ∧ (gi (own u) 1).toInt ≤ (gi (own u) 2).toInt) ∧ ((gi (own u) 3).toInt = 3 → (gi (own u) 1).toInt < (gi (own u) 2).toInt))) (xX g (f_X7_word σ i1).1 (f_X7_word σ i1).2) 0 0 (rA g) := by
  refine met_R (by decide) rfl (Nat.le_of_ble_eq_true rfl) ?_
  intro p e s m args below meth c C hr hlocks htab h ls hl
  have hx := C.1.1
  have hb := C.1.2.1
  have hml := C.1.2.2.1
  have hown := C.1.2.2.2.1
  have hts := C.1.2.2.2.2
  have hl : lv_has ls 2 [(0, .ref (g.2.1 90)), (1, .ref (g.2.2.2.1 i1).1)] := hl
  have hlpq : (gi (ttb σ) 1).toInt = (gi (ttb σ) 1).toInt := rfl
  have hldq : (gi (ttb σ) 3).toInt = (gi (ttb σ) 3).toInt := rfl
  have hTT : ttb σ = ttb σ := rfl
  have hS5 : gi (own σ) 5 = gi (own σ) 5 := rfl
  have hMN : (gi (own σ) 1).toInt ≤ (gi (own σ) 1).toInt := Int.le_refl _
  have zl0 : (0 : Int32).toInt = 0 := rfl
  refine lv_aload_n hx hb dX7_word_0 rfl (lv_at hl 0 rfl) ?_
  refine lv_aload_n hx hb dX7_word_1 rfl (lv_at hl 1 rfl) ?_
  refine w_callz (ci := 7) (q0 := 6) (As := [.ref (g.2.2.2.1 i1).1]) (rest := []) 1 (wXR g) C h (k_X7_isWord l g σ i1 (by first | assumption | omega) (by first | assumption | omega) (by first | assumption | omega) (by first | assumption | omega)) (lw_V q636 q638 qs10 q159 q639) rfl rfl rfl rfl (by decide +kernel) ⟨Nat.le_of_ble_eq_true rfl, Nat.le_of_ble_eq_true rfl⟩ rfl hl.1 rfl (Nat.le_of_ble_eq_true rfl) ⟨Nat.le_of_ble_eq_true rfl, Nat.le_of_ble_eq_true rfl⟩ dX7_word_2 (fun r2 σ2 H locs eσ2 er2 br2 hE2 h => ?_)
  rw [eσ2] at h
  have hE2 : (¬ r2 = 0 → (gi (own σ) 1).toInt < (gi (own σ) 2).toInt) := hE2
  have hwl_2 := hE2
  clear eσ2
  refine lv_if_ne (tgt := 13) hx hb dX7_word_5 (by decide) (fun c5 => ?_) (fun c5 => ?_)
  · have i5 := c_ne c5
    have okr2 := hwl_2 c5
    refine lv_aload_n hx hb dX7_word_13 rfl (lv_at hl 0 rfl) ?_
    refine w_callv (ci := 7) (q0 := 6) (As := []) (rest := []) 0 (wXR g) C h (k_X7_next l g σ (by first | assumption | omega) (by first | assumption | omega) (by first | assumption | omega) (by first | assumption | omega) (by first | assumption | omega)) (lw_V q590 q592 qs7 q159 q593) rfl rfl rfl rfl (by decide +kernel) ⟨Nat.le_of_ble_eq_true rfl, Nat.le_of_ble_eq_true rfl⟩ rfl hl.1 rfl (Nat.le_of_ble_eq_true rfl) ⟨Nat.le_of_ble_eq_true rfl, Nat.le_of_ble_eq_true rfl⟩ dX7_word_14 (fun σ14 H locs eσ14 hE14 h => ?_)
    have hE14 : ((gi (ttb σ14) 1).toInt = (gi (ttb σ) 1).toInt) ∧ ((gi (ttb σ14) 3).toInt = (gi (ttb σ) 3).toInt) ∧ (ttb σ14 = ttb σ) ∧ (gi (own σ14) 5 = gi (own σ) 5) ∧ ((gi (own σ) 1).toInt ≤ (gi (own σ14) 1).toInt) ∧ (0 ≤ (gi (own σ14) 0).toInt ∧ (gi (own σ14) 0).toInt ≤ 900) ∧ (0 ≤ (gi (own σ14) 2).toInt ∧ (gi (own σ14) 2).toInt ≤ (gi (own σ14) 0).toInt) ∧ (0 ≤ (gi (own σ14) 1).toInt ∧ (gi (own σ14) 1).toInt ≤ (gi (own σ14) 2).toInt) ∧ ((gi (own σ14) 3).toInt = 3 → (gi (own σ14) 1).toInt < (gi (own σ14) 2).toInt) ∧ ((gi (own σ) 2).toInt ≤ (gi (own σ14) 1).toInt) := hE14
    obtain ⟨hlpq_14, hldq_14, hTT_14, hS5_14, hMN_14, hs9_14, hbe_14, hab_14, hsg_14, hnx_14⟩ := hE14
    have hNEW : (0 ≤ (gi (ttb σ14) 1).toInt ∧ (gi (ttb σ14) 1).toInt ≤ 6) ∧ (0 ≤ (gi (ttb σ14) 3).toInt ∧ (gi (ttb σ14) 3).toInt ≤ 16 ∧ (gi (ttb σ14) 3).toInt ≤ (g.1.2.1 50 : Int)) ∧ (0 ≤ (gi (own σ14) 0).toInt ∧ (gi (own σ14) 0).toInt ≤ 900) ∧ (0 ≤ (gi (own σ14) 2).toInt ∧ (gi (own σ14) 2).toInt ≤ (gi (own σ14) 0).toInt) ∧ (0 ≤ (gi (own σ14) 1).toInt ∧ (gi (own σ14) 1).toInt ≤ (gi (own σ14) 2).toInt) ∧ ((gi (own σ14) 3).toInt = 3 → (gi (own σ14) 1).toInt < (gi (own σ14) 2).toInt) ∧ ((gi (ttb σ14) 1).toInt = (gi (ttb σ) 1).toInt) ∧ ((gi (ttb σ14) 3).toInt = (gi (ttb σ) 3).toInt) ∧ (ttb σ14 = ttb σ) ∧ (gi (own σ14) 5 = gi (own σ) 5) ∧ ((gi (own σ) 1).toInt ≤ (gi (own σ14) 1).toInt) := ⟨(by first | assumption | omega), (by first | assumption | omega), (by first | assumption | omega), (by first | assumption | omega), (by first | assumption | omega), (by first | assumption | omega), (by first | assumption | omega), (by first | assumption | omega), (hTT_14.trans hTT), (hS5_14.trans hS5), (by first | assumption | omega)⟩
    obtain ⟨hlp, hld, hs9, hbe, hab, hsg, hlpq, hldq, hTT, hS5, hMN⟩ := hNEW
    have he : f_X7_word σ i1 = (σ14, false) := (by have er2 := er2.symm; subst er2; have eσ14 := eσ14.symm; subst eσ14; exact ((if_neg c5).trans rfl))
    exact x_retv C h hr hlocks (congrArg Prod.fst he) (congrArg Prod.snd he) ⟨hlpq, hldq, hTT, hS5, hMN, (by first | assumption | omega | (unfold Hd; omega)), (by first | assumption | omega | (unfold Hd; omega)), (by first | assumption | omega | (unfold Hd; omega)), (by first | assumption | omega | (unfold Hd; omega)), (by first | assumption | omega | (unfold Hd; omega))⟩ dX7_word_17
  · have i5 := c_eq c5
    refine lv_aload_n hx hb dX7_word_8 rfl (lv_at hl 0 rfl) ?_
    refine R_rcall (ci := 7) (q0 := 6) (As := []) (rest := []) 0 C h (k_X7_wrong l g σ) (lw_V q748 q750 qs18 q159 q751) rfl rfl rfl rfl (by decide +kernel) ⟨Nat.le_of_ble_eq_true rfl, Nat.le_of_ble_eq_true rfl⟩ rfl hl.1 rfl (Nat.le_of_ble_eq_true rfl) ⟨Nat.le_of_ble_eq_true rfl, Nat.le_of_ble_eq_true rfl⟩ dX7_word_9 (fun σ9 H locs eσ9 h => ?_)
    have he : f_X7_word σ i1 = (σ9, true) := (by have er2 := er2.symm; subst er2; have eσ9 := eσ9.symm; subst eσ9; exact ((if_pos c5).trans rfl))
    exact vx_athrow C.1.1 C.1.2.1 dX7_word_12 (x_out C h htab hlocks (congrArg Prod.fst he) (congrArg Prod.snd he))
