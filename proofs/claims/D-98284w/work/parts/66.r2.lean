/-! walks of methods by contract, printed by gen/mkwalk.py -/
set_option maxRecDepth 100000
def f_X7_number (σ : MS × MS) (p1 : Int32) (p2 : Int32) : ((MS × MS) × Int32) × Bool := if (gi (own σ) 3) = (2 : Int32) then (if (gi (own σ) 4) < p1 then ((let σ41 := (f_X2_at σ (4 : Int32) (gi (own σ) 1)); ((σ41, 0), true))) else (if (gi (own σ) 4) ≤ p2 then ((let v49 := (gi (own σ) 4); let σ51 := (f_X7_next σ); ((σ51, v49), false))) else ((let σ41 := (f_X2_at σ (4 : Int32) (gi (own σ) 1)); ((σ41, 0), true))))) else ((let σ9 := (f_X7_wrong σ); ((σ9, 0), true)))
set_option maxHeartbeats 4000000 in
set_option maxRecDepth 100000 in
theorem k_X7_number (l : Launch) (g : GR) (σ : MS × MS) (p1 : Int32) (p2 : Int32) (hlp : 0 ≤ (gi (ttb σ) 1).toInt ∧ (gi (ttb σ) 1).toInt ≤ 6) (hld : 0 ≤ (gi (ttb σ) 3).toInt ∧ (gi (ttb σ) 3).toInt ≤ 16 ∧ (gi (ttb σ) 3).toInt ≤ (g.1.2.1 50 : Int)) (hs9 : 0 ≤ (gi (own σ) 0).toInt ∧ (gi (own σ) 0).toInt ≤ 900) (hbe : 0 ≤ (gi (own σ) 2).toInt ∧ (gi (own σ) 2).toInt ≤ (gi (own σ) 0).toInt) (hab : 0 ≤ (gi (own σ) 1).toInt ∧ (gi (own σ) 1).toInt ≤ (gi (own σ) 2).toInt) (hsg : (gi (own σ) 3).toInt = 3 → (gi (own σ) 1).toInt < (gi (own σ) 2).toInt) : vx_Met l yX7_number (ws_ yX7_number cX7_number 4 (some .int)) ({ frames := 2, cells := 0, slots := 0, locals := 42 } : Room) (va_Pc [.ref (g.2.1 90), .int p1, .int p2] (wU (dR g) σ)) (xQi g (f_X7_number σ p1 p2).1.1 (f_X7_number σ p1 p2).1.2 (f_X7_number σ p1 p2).2 (fun u r => ((gi (ttb u) 1).toInt = (gi (ttb σ) 1).toInt) ∧ ((gi (ttb u) 3).toInt = (gi (ttb σ) 3).toInt) ∧ (ttb u = ttb σ) ∧ (gi (own u) 5 = gi (own σ) 5) ∧ ((gi (own σ) 1).toInt ≤ (gi (own u) 1).toInt) ∧ (p1.toInt ≤ r.toInt ∧ r.toInt ≤ p2.toInt) ∧ (0 ≤ (gi (own u) 0).toInt ∧ (gi (own u) 0).toInt ≤ 900) ∧ (0 ≤ (gi (own u) 2).toInt ∧ (gi (own u) 2).toInt ≤ (gi (own u) 0).toInt) ∧ (0 ≤ (gi (own u) 1).toInt ∧ (gi (own u) 1).toInt ≤ (gi (own u) 2).toInt) ∧ ((gi (own u) 3).toInt = 3 → (gi (own u) 1).toInt < (gi (own u) 2).toInt))) (xX g (f_X7_number σ p1 p2).1.1 (f_X7_number σ p1 p2).2) 0 0 (rA g) := by
  refine met_R (by decide) rfl (Nat.le_of_ble_eq_true rfl) ?_
  intro p e s m args below meth c C hr hlocks htab h ls hl
  have hx := C.1.1
  have hb := C.1.2.1
  have hml := C.1.2.2.1
  have hown := C.1.2.2.2.1
  have hts := C.1.2.2.2.2
  have hl : lv_has ls 4 [(0, .ref (g.2.1 90)), (1, .int p1), (2, .int p2)] := hl
  have hlpq : (gi (ttb σ) 1).toInt = (gi (ttb σ) 1).toInt := rfl
  have hldq : (gi (ttb σ) 3).toInt = (gi (ttb σ) 3).toInt := rfl
  have hTT : ttb σ = ttb σ := rfl
  have hS5 : gi (own σ) 5 = gi (own σ) 5 := rfl
  have hMN : (gi (own σ) 1).toInt ≤ (gi (own σ) 1).toInt := Int.le_refl _
  have zl2 : (2 : Int32).toInt = 2 := rfl
  have zl4 : (4 : Int32).toInt = 4 := rfl
  refine lv_aload_n hx hb dX7_number_0 rfl (lv_at hl 0 rfl) ?_
  refine R_g3 C h dX7_number_1 ?_
  refine lv_iconst (v := 2) hx hb dX7_number_4 (by decide) ?_
  refine lv_icmp_eq (tgt := 13) hx hb dX7_number_5 (by decide) (fun c5 => ?_) (fun c5 => ?_)
  · have i5 := c_eq c5
    refine lv_aload_n hx hb dX7_number_13 rfl (lv_at hl 0 rfl) ?_
    refine R_g4 C h dX7_number_14 ?_
    refine lv_iload_n hx hb dX7_number_17 rfl (lv_at hl 1 rfl) ?_
    refine lv_icmp_lt (tgt := 29) hx hb dX7_number_18 (by decide) (fun c18 => ?_) (fun c18 => ?_)
    · have i18 := c_lt c18
      refine lv_aload_n hx hb dX7_number_29 rfl (lv_at hl 0 rfl) ?_
      refine R_g8 C h dX7_number_30 ?_
      refine R_bad C h dX7_number_33 ?_
      refine lv_iconst (v := 4) hx hb dX7_number_36 (by decide) ?_
      refine lv_aload_n hx hb dX7_number_37 rfl (lv_at hl 0 rfl) ?_
      refine R_g1 C h dX7_number_38 ?_
      refine R_rcall (ci := 2) (q0 := 7) (As := [.int (4 : Int32), .int (gi (own σ) 1)]) (rest := []) 2 C h (k_X2_at l g σ (4 : Int32) (gi (own σ) 1)) (lw_V q692 q693 q694 q148 q695) rfl rfl rfl rfl (by decide +kernel) ⟨Nat.le_of_ble_eq_true rfl, Nat.le_of_ble_eq_true rfl⟩ rfl hl.1 rfl (Nat.le_of_ble_eq_true rfl) ⟨Nat.le_of_ble_eq_true rfl, Nat.le_of_ble_eq_true rfl⟩ dX7_number_41 (fun σ41 H locs eσ41 h => ?_)
      have he : f_X7_number σ p1 p2 = ((σ41, 0), true) := (by have eσ41 := eσ41.symm; subst eσ41; exact ((if_pos c5).trans ((if_pos c18).trans rfl)))
      exact vx_athrow C.1.1 C.1.2.1 dX7_number_44 (x_out C h htab hlocks (congrArg (fun z => z.1.1) he) (congrArg Prod.snd he))
    · have i18 := c_nlt c18
      refine lv_aload_n hx hb dX7_number_21 rfl (lv_at hl 0 rfl) ?_
      refine R_g4 C h dX7_number_22 ?_
      refine lv_iload_n hx hb dX7_number_25 rfl (lv_at hl 2 rfl) ?_
      refine lv_icmp_le (tgt := 45) hx hb dX7_number_26 (by decide) (fun c26 => ?_) (fun c26 => ?_)
      · have i26 := c_le c26
        refine lv_aload_n hx hb dX7_number_45 rfl (lv_at hl 0 rfl) ?_
        refine R_g4 C h dX7_number_46 ?_
        refine lv_topi (fun v49 ev49 => ?_)
        refine lv_istore_n (lv' := [(3, .int v49), (0, .ref (g.2.1 90)), (1, .int p1), (2, .int p2)]) hx hb dX7_number_49 rfl hl (by decide) rfl (fun ls hl => ?_)
        have nv : v49.toInt = (gi (own σ) 4).toInt := by rw [ev49]
        refine lv_aload_n hx hb dX7_number_50 rfl (lv_at hl 1 rfl) ?_
        refine w_callv (ci := 7) (q0 := 6) (As := []) (rest := []) 0 (wXR g) C h (k_X7_next l g σ (by first | assumption | omega) (by first | assumption | omega) (by first | assumption | omega) (by first | assumption | omega) (by first | assumption | omega)) (lw_V q590 q592 qs7 q159 q593) rfl rfl rfl rfl (by decide +kernel) ⟨Nat.le_of_ble_eq_true rfl, Nat.le_of_ble_eq_true rfl⟩ rfl hl.1 rfl (Nat.le_of_ble_eq_true rfl) ⟨Nat.le_of_ble_eq_true rfl, Nat.le_of_ble_eq_true rfl⟩ dX7_number_51 (fun σ51 H locs eσ51 hE51 h => ?_)
        have hE51 : ((gi (ttb σ51) 1).toInt = (gi (ttb σ) 1).toInt) ∧ ((gi (ttb σ51) 3).toInt = (gi (ttb σ) 3).toInt) ∧ (ttb σ51 = ttb σ) ∧ (gi (own σ51) 5 = gi (own σ) 5) ∧ ((gi (own σ) 1).toInt ≤ (gi (own σ51) 1).toInt) ∧ (0 ≤ (gi (own σ51) 0).toInt ∧ (gi (own σ51) 0).toInt ≤ 900) ∧ (0 ≤ (gi (own σ51) 2).toInt ∧ (gi (own σ51) 2).toInt ≤ (gi (own σ51) 0).toInt) ∧ (0 ≤ (gi (own σ51) 1).toInt ∧ (gi (own σ51) 1).toInt ≤ (gi (own σ51) 2).toInt) ∧ ((gi (own σ51) 3).toInt = 3 → (gi (own σ51) 1).toInt < (gi (own σ51) 2).toInt) ∧ ((gi (own σ) 2).toInt ≤ (gi (own σ51) 1).toInt) := hE51
        obtain ⟨hlpq_51, hldq_51, hTT_51, hS5_51, hMN_51, hs9_51, hbe_51, hab_51, hsg_51, hnx_51⟩ := hE51
        have hNEW : (0 ≤ (gi (ttb σ51) 1).toInt ∧ (gi (ttb σ51) 1).toInt ≤ 6) ∧ (0 ≤ (gi (ttb σ51) 3).toInt ∧ (gi (ttb σ51) 3).toInt ≤ 16 ∧ (gi (ttb σ51) 3).toInt ≤ (g.1.2.1 50 : Int)) ∧ (0 ≤ (gi (own σ51) 0).toInt ∧ (gi (own σ51) 0).toInt ≤ 900) ∧ (0 ≤ (gi (own σ51) 2).toInt ∧ (gi (own σ51) 2).toInt ≤ (gi (own σ51) 0).toInt) ∧ (0 ≤ (gi (own σ51) 1).toInt ∧ (gi (own σ51) 1).toInt ≤ (gi (own σ51) 2).toInt) ∧ ((gi (own σ51) 3).toInt = 3 → (gi (own σ51) 1).toInt < (gi (own σ51) 2).toInt) ∧ ((gi (ttb σ51) 1).toInt = (gi (ttb σ) 1).toInt) ∧ ((gi (ttb σ51) 3).toInt = (gi (ttb σ) 3).toInt) ∧ (ttb σ51 = ttb σ) ∧ (gi (own σ51) 5 = gi (own σ) 5) ∧ ((gi (own σ) 1).toInt ≤ (gi (own σ51) 1).toInt) := ⟨(by first | assumption | omega), (by first | assumption | omega), (by first | assumption | omega), (by first | assumption | omega), (by first | assumption | omega), (by first | assumption | omega), (by first | assumption | omega), (by first | assumption | omega), (hTT_51.trans hTT), (hS5_51.trans hS5), (by first | assumption | omega)⟩
        obtain ⟨hlp, hld, hs9, hbe, hab, hsg, hlpq, hldq, hTT, hS5, hMN⟩ := hNEW
        refine lv_iload_n hx hb dX7_number_54 rfl (lv_at hl 0 rfl) ?_
        have he : f_X7_number σ p1 p2 = ((σ51, v49), false) := (by have ev49 := ev49.symm; subst ev49; have eσ51 := eσ51.symm; subst eσ51; exact ((if_pos c5).trans ((if_neg c18).trans ((if_pos c26).trans rfl))))
        exact x_reti C h hr hlocks (congrArg (fun z => z.1.1) he) (congrArg (fun z => z.1.2) he) (congrArg Prod.snd he) ⟨hlpq, hldq, hTT, hS5, hMN, (by first | assumption | omega | (unfold Hd; omega)), (by first | assumption | omega | (unfold Hd; omega)), (by first | assumption | omega | (unfold Hd; omega)), (by first | assumption | omega | (unfold Hd; omega)), (by first | assumption | omega | (unfold Hd; omega))⟩ dX7_number_55
      · have i26 := c_nle c26
        refine lv_aload_n hx hb dX7_number_29 rfl (lv_at hl 0 rfl) ?_
        refine R_g8 C h dX7_number_30 ?_
        refine R_bad C h dX7_number_33 ?_
        refine lv_iconst (v := 4) hx hb dX7_number_36 (by decide) ?_
        refine lv_aload_n hx hb dX7_number_37 rfl (lv_at hl 0 rfl) ?_
        refine R_g1 C h dX7_number_38 ?_
        refine R_rcall (ci := 2) (q0 := 7) (As := [.int (4 : Int32), .int (gi (own σ) 1)]) (rest := []) 2 C h (k_X2_at l g σ (4 : Int32) (gi (own σ) 1)) (lw_V q692 q693 q694 q148 q695) rfl rfl rfl rfl (by decide +kernel) ⟨Nat.le_of_ble_eq_true rfl, Nat.le_of_ble_eq_true rfl⟩ rfl hl.1 rfl (Nat.le_of_ble_eq_true rfl) ⟨Nat.le_of_ble_eq_true rfl, Nat.le_of_ble_eq_true rfl⟩ dX7_number_41 (fun σ41 H locs eσ41 h => ?_)
        have he : f_X7_number σ p1 p2 = ((σ41, 0), true) := (by have eσ41 := eσ41.symm; subst eσ41; exact ((if_pos c5).trans ((if_neg c18).trans ((if_neg c26).trans rfl))))
        exact vx_athrow C.1.1 C.1.2.1 dX7_number_44 (x_out C h htab hlocks (congrArg (fun z => z.1.1) he) (congrArg Prod.snd he))
  · have i5 := c_ne c5
    refine lv_aload_n hx hb dX7_number_8 rfl (lv_at hl 0 rfl) ?_
    refine R_rcall (ci := 7) (q0 := 6) (As := []) (rest := []) 0 C h (k_X7_wrong l g σ) (lw_V q748 q750 qs18 q159 q751) rfl rfl rfl rfl (by decide +kernel) ⟨Nat.le_of_ble_eq_true rfl, Nat.le_of_ble_eq_true rfl⟩ rfl hl.1 rfl (Nat.le_of_ble_eq_true rfl) ⟨Nat.le_of_ble_eq_true rfl, Nat.le_of_ble_eq_true rfl⟩ dX7_number_9 (fun σ9 H locs eσ9 h => ?_)
    have he : f_X7_number σ p1 p2 = ((σ9, 0), true) := (by have eσ9 := eσ9.symm; subst eσ9; exact ((if_neg c5).trans rfl))
    exact vx_athrow C.1.1 C.1.2.1 dX7_number_12 (x_out C h htab hlocks (congrArg (fun z => z.1.1) he) (congrArg Prod.snd he))
def f_X7_perhaps (σ : MS × MS) (i1 : Nat) (p2 : Int32) (p3 : Int32) (p4 : Int32) : ((MS × MS) × Int32) × Bool := (let r2 := (f_X7_isWord σ i1); if r2 = (0 : Int32) then (((σ, p4), false)) else ((let σ12 := (f_X7_next σ); let z18 := (f_X7_number σ12 p2 p3); if z18.2 = true then ((z18.1.1, 0), true) else (let σ18 := z18.1.1; let r18 := z18.1.2; ((σ18, r18), false)))))
set_option maxHeartbeats 4000000 in
set_option maxRecDepth 100000 in
theorem k_X7_perhaps (l : Launch) (g : GR) (σ : MS × MS) (i1 : Nat) (p2 : Int32) (p3 : Int32) (p4 : Int32) (hlp : 0 ≤ (gi (ttb σ) 1).toInt ∧ (gi (ttb σ) 1).toInt ≤ 6) (hld : 0 ≤ (gi (ttb σ) 3).toInt ∧ (gi (ttb σ) 3).toInt ≤ 16 ∧ (gi (ttb σ) 3).toInt ≤ (g.1.2.1 50 : Int)) (hs9 : 0 ≤ (gi (own σ) 0).toInt ∧ (gi (own σ) 0).toInt ≤ 900) (hbe : 0 ≤ (gi (own σ) 2).toInt ∧ (gi (own σ) 2).toInt ≤ (gi (own σ) 0).toInt) (hab : 0 ≤ (gi (own σ) 1).toInt ∧ (gi (own σ) 1).toInt ≤ (gi (own σ) 2).toInt) (hsg : (gi (own σ) 3).toInt = 3 → (gi (own σ) 1).toInt < (gi (own σ) 2).toInt) (hi1 : i1 < 29) : vx_Met l yX7_perhaps (ws_ yX7_perhaps cX7_perhaps 5 (some .int)) ({ frames := 5, cells := 0, slots := 0, locals := 107 } : Room) (va_Pc [.ref (g.2.1 90), .ref (g.2.2.2.1 i1).1, .int p2, .int p3, .int p4] (wU (dR g) σ)) (xQi g (f_X7_perhaps σ i1 p2 p3 p4).1.1 (f_X7_perhaps σ i1 p2 p3 p4).1.2 (f_X7_perhaps σ i1 p2 p3 p4).2 (fun u r => ((gi (ttb u) 1).toInt = (gi (ttb σ) 1).toInt) ∧ ((gi (ttb u) 3).toInt = (gi (ttb σ) 3).toInt) ∧ (ttb u = ttb σ) ∧ (gi (own u) 5 = gi (own σ) 5) ∧ ((gi (own σ) 1).toInt ≤ (gi (own u) 1).toInt) ∧ (r.toInt = p4.toInt ∨ (p2.toInt ≤ r.toInt ∧ r.toInt ≤ p3.toInt)) ∧ (0 ≤ (gi (own u) 0).toInt ∧ (gi (own u) 0).toInt ≤ 900) ∧ (0 ≤ (gi (own u) 2).toInt ∧ (gi (own u) 2).toInt ≤ (gi (own u) 0).toInt) ∧ (0 ≤ (gi (own u) 1).toInt ∧ (gi (own u) 1).toInt ≤ (gi (own u) 2).toInt) ∧ ((gi (own u) 3).toInt = 3 → (gi (own u) 1).toInt < (gi (own u) 2).toInt))) (xX g (f_X7_perhaps σ i1 p2 p3 p4).1.1 (f_X7_perhaps σ i1 p2 p3 p4).2) 0 0 (rA g) := by
  refine met_R (by decide) rfl (Nat.le_of_ble_eq_true rfl) ?_
  intro p e s m args below meth c C hr hlocks htab h ls hl
  have hx := C.1.1
  have hb := C.1.2.1
  have hml := C.1.2.2.1
  have hown := C.1.2.2.2.1
  have hts := C.1.2.2.2.2
  have hl : lv_has ls 5 [(0, .ref (g.2.1 90)), (1, .ref (g.2.2.2.1 i1).1), (2, .int p2), (3, .int p3), (4, .int p4)] := hl
  have hlpq : (gi (ttb σ) 1).toInt = (gi (ttb σ) 1).toInt := rfl
  have hldq : (gi (ttb σ) 3).toInt = (gi (ttb σ) 3).toInt := rfl
  have hTT : ttb σ = ttb σ := rfl
  have hS5 : gi (own σ) 5 = gi (own σ) 5 := rfl
  have hMN : (gi (own σ) 1).toInt ≤ (gi (own σ) 1).toInt := Int.le_refl _
  have zl0 : (0 : Int32).toInt = 0 := rfl
  refine lv_aload_n hx hb dX7_perhaps_0 rfl (lv_at hl 0 rfl) ?_
  refine lv_aload_n hx hb dX7_perhaps_1 rfl (lv_at hl 1 rfl) ?_
  refine w_callz (ci := 7) (q0 := 6) (As := [.ref (g.2.2.2.1 i1).1]) (rest := []) 1 (wXR g) C h (k_X7_isWord l g σ i1 (by first | assumption | omega) (by first | assumption | omega) (by first | assumption | omega) (by first | assumption | omega)) (lw_V q636 q638 qs10 q159 q639) rfl rfl rfl rfl (by decide +kernel) ⟨Nat.le_of_ble_eq_true rfl, Nat.le_of_ble_eq_true rfl⟩ rfl hl.1 rfl (Nat.le_of_ble_eq_true rfl) ⟨Nat.le_of_ble_eq_true rfl, Nat.le_of_ble_eq_true rfl⟩ dX7_perhaps_2 (fun r2 σ2 H locs eσ2 er2 br2 hE2 h => ?_)
  rw [eσ2] at h
  have hE2 : (¬ r2 = 0 → (gi (own σ) 1).toInt < (gi (own σ) 2).toInt) := hE2
  have hwl_2 := hE2
  clear eσ2
  refine lv_if_ne (tgt := 11) hx hb dX7_perhaps_5 (by decide) (fun c5 => ?_) (fun c5 => ?_)
  · have i5 := c_ne c5
    have okr2 := hwl_2 c5
    refine lv_aload_n hx hb dX7_perhaps_11 rfl (lv_at hl 0 rfl) ?_
    refine w_callv (ci := 7) (q0 := 6) (As := []) (rest := []) 0 (wXR g) C h (k_X7_next l g σ (by first | assumption | omega) (by first | assumption | omega) (by first | assumption | omega) (by first | assumption | omega) (by first | assumption | omega)) (lw_V q590 q592 qs7 q159 q593) rfl rfl rfl rfl (by decide +kernel) ⟨Nat.le_of_ble_eq_true rfl, Nat.le_of_ble_eq_true rfl⟩ rfl hl.1 rfl (Nat.le_of_ble_eq_true rfl) ⟨Nat.le_of_ble_eq_true rfl, Nat.le_of_ble_eq_true rfl⟩ dX7_perhaps_12 (fun σ12 H locs eσ12 hE12 h => ?_)
    have hE12 : ((gi (ttb σ12) 1).toInt = (gi (ttb σ) 1).toInt) ∧ ((gi (ttb σ12) 3).toInt = (gi (ttb σ) 3).toInt) ∧ (ttb σ12 = ttb σ) ∧ (gi (own σ12) 5 = gi (own σ) 5) ∧ ((gi (own σ) 1).toInt ≤ (gi (own σ12) 1).toInt) ∧ (0 ≤ (gi (own σ12) 0).toInt ∧ (gi (own σ12) 0).toInt ≤ 900) ∧ (0 ≤ (gi (own σ12) 2).toInt ∧ (gi (own σ12) 2).toInt ≤ (gi (own σ12) 0).toInt) ∧ (0 ≤ (gi (own σ12) 1).toInt ∧ (gi (own σ12) 1).toInt ≤ (gi (own σ12) 2).toInt) ∧ ((gi (own σ12) 3).toInt = 3 → (gi (own σ12) 1).toInt < (gi (own σ12) 2).toInt) ∧ ((gi (own σ) 2).toInt ≤ (gi (own σ12) 1).toInt) := hE12
    obtain ⟨hlpq_12, hldq_12, hTT_12, hS5_12, hMN_12, hs9_12, hbe_12, hab_12, hsg_12, hnx_12⟩ := hE12
    have hNEW : (0 ≤ (gi (ttb σ12) 1).toInt ∧ (gi (ttb σ12) 1).toInt ≤ 6) ∧ (0 ≤ (gi (ttb σ12) 3).toInt ∧ (gi (ttb σ12) 3).toInt ≤ 16 ∧ (gi (ttb σ12) 3).toInt ≤ (g.1.2.1 50 : Int)) ∧ (0 ≤ (gi (own σ12) 0).toInt ∧ (gi (own σ12) 0).toInt ≤ 900) ∧ (0 ≤ (gi (own σ12) 2).toInt ∧ (gi (own σ12) 2).toInt ≤ (gi (own σ12) 0).toInt) ∧ (0 ≤ (gi (own σ12) 1).toInt ∧ (gi (own σ12) 1).toInt ≤ (gi (own σ12) 2).toInt) ∧ ((gi (own σ12) 3).toInt = 3 → (gi (own σ12) 1).toInt < (gi (own σ12) 2).toInt) ∧ ((gi (ttb σ12) 1).toInt = (gi (ttb σ) 1).toInt) ∧ ((gi (ttb σ12) 3).toInt = (gi (ttb σ) 3).toInt) ∧ (ttb σ12 = ttb σ) ∧ (gi (own σ12) 5 = gi (own σ) 5) ∧ ((gi (own σ) 1).toInt ≤ (gi (own σ12) 1).toInt) := ⟨(by first | assumption | omega), (by first | assumption | omega), (by first | assumption | omega), (by first | assumption | omega), (by first | assumption | omega), (by first | assumption | omega), (by first | assumption | omega), (by first | assumption | omega), (hTT_12.trans hTT), (hS5_12.trans hS5), (by first | assumption | omega)⟩
    obtain ⟨hlp, hld, hs9, hbe, hab, hsg, hlpq, hldq, hTT, hS5, hMN⟩ := hNEW
    refine lv_aload_n hx hb dX7_perhaps_15 rfl (lv_at hl 0 rfl) ?_
    refine lv_iload_n hx hb dX7_perhaps_16 rfl (lv_at hl 2 rfl) ?_
    refine lv_iload_n hx hb dX7_perhaps_17 rfl (lv_at hl 3 rfl) ?_
    refine R_xcalli (As := [.int p2, .int p3]) (rest := []) 2 C h (k_X7_number l g σ12 p2 p3 (by first | assumption | omega) (by first | assumption | omega) (by first | assumption | omega) (by first | assumption | omega) (by first | assumption | omega) (by first | assumption | omega)) (lw_V q805 q807 qs20 q159 q808) rfl rfl (by decide +kernel) ⟨Nat.le_of_ble_eq_true rfl, Nat.le_of_ble_eq_true rfl⟩ rfl hl.1 rfl (Nat.le_of_ble_eq_true rfl) ⟨Nat.le_of_ble_eq_true rfl, Nat.le_of_ble_eq_true rfl⟩ dX7_perhaps_18 (fun σ18 H locs eσ18 bx18 h => ?_) (fun r18 σ18 H locs bx18 eσ18 er18 hE18 h => ?_)
    · have he : f_X7_perhaps σ i1 p2 p3 p4 = ((σ18, 0), true) := (by have er2 := er2.symm; subst er2; have eσ12 := eσ12.symm; subst eσ12; have eσ18 := eσ18.symm; subst eσ18; exact ((if_neg c5).trans ((if_pos bx18).trans rfl)))
      exact x_out C h htab hlocks (congrArg (fun z => z.1.1) he) (congrArg Prod.snd he)
    have bx18 := (fun q => Bool.noConfusion (bx18.symm.trans q) : ¬ ((f_X7_number σ12 p2 p3)).2 = true)
    have hE18 : ((gi (ttb σ18) 1).toInt = (gi (ttb σ12) 1).toInt) ∧ ((gi (ttb σ18) 3).toInt = (gi (ttb σ12) 3).toInt) ∧ (ttb σ18 = ttb σ12) ∧ (gi (own σ18) 5 = gi (own σ12) 5) ∧ ((gi (own σ12) 1).toInt ≤ (gi (own σ18) 1).toInt) ∧ (p2.toInt ≤ r18.toInt ∧ r18.toInt ≤ p3.toInt) ∧ (0 ≤ (gi (own σ18) 0).toInt ∧ (gi (own σ18) 0).toInt ≤ 900) ∧ (0 ≤ (gi (own σ18) 2).toInt ∧ (gi (own σ18) 2).toInt ≤ (gi (own σ18) 0).toInt) ∧ (0 ≤ (gi (own σ18) 1).toInt ∧ (gi (own σ18) 1).toInt ≤ (gi (own σ18) 2).toInt) ∧ ((gi (own σ18) 3).toInt = 3 → (gi (own σ18) 1).toInt < (gi (own σ18) 2).toInt) := hE18
    obtain ⟨hlpq_18, hldq_18, hTT_18, hS5_18, hMN_18, hnr_18, hs9_18, hbe_18, hab_18, hsg_18⟩ := hE18
    have hNEW : (0 ≤ (gi (ttb σ18) 1).toInt ∧ (gi (ttb σ18) 1).toInt ≤ 6) ∧ (0 ≤ (gi (ttb σ18) 3).toInt ∧ (gi (ttb σ18) 3).toInt ≤ 16 ∧ (gi (ttb σ18) 3).toInt ≤ (g.1.2.1 50 : Int)) ∧ (0 ≤ (gi (own σ18) 0).toInt ∧ (gi (own σ18) 0).toInt ≤ 900) ∧ (0 ≤ (gi (own σ18) 2).toInt ∧ (gi (own σ18) 2).toInt ≤ (gi (own σ18) 0).toInt) ∧ (0 ≤ (gi (own σ18) 1).toInt ∧ (gi (own σ18) 1).toInt ≤ (gi (own σ18) 2).toInt) ∧ ((gi (own σ18) 3).toInt = 3 → (gi (own σ18) 1).toInt < (gi (own σ18) 2).toInt) ∧ ((gi (ttb σ18) 1).toInt = (gi (ttb σ) 1).toInt) ∧ ((gi (ttb σ18) 3).toInt = (gi (ttb σ) 3).toInt) ∧ (ttb σ18 = ttb σ) ∧ (gi (own σ18) 5 = gi (own σ) 5) ∧ ((gi (own σ) 1).toInt ≤ (gi (own σ18) 1).toInt) := ⟨(by first | assumption | omega), (by first | assumption | omega), (by first | assumption | omega), (by first | assumption | omega), (by first | assumption | omega), (by first | assumption | omega), (by first | assumption | omega), (by first | assumption | omega), (hTT_18.trans hTT), (hS5_18.trans hS5), (by first | assumption | omega)⟩
    clear hlp hld hs9 hbe hab hsg hlpq hldq hTT hS5 hMN
    obtain ⟨hlp, hld, hs9, hbe, hab, hsg, hlpq, hldq, hTT, hS5, hMN⟩ := hNEW
    have he : f_X7_perhaps σ i1 p2 p3 p4 = ((σ18, r18), false) := (by have er2 := er2.symm; subst er2; have eσ12 := eσ12.symm; subst eσ12; have eσ18 := eσ18.symm; subst eσ18; have er18 := er18.symm; subst er18; exact ((if_neg c5).trans ((if_neg bx18).trans rfl)))
    exact x_reti C h hr hlocks (congrArg (fun z => z.1.1) he) (congrArg (fun z => z.1.2) he) (congrArg Prod.snd he) ⟨hlpq, hldq, hTT, hS5, hMN, (by first | assumption | omega | (unfold Hd; omega)), (by first | assumption | omega | (unfold Hd; omega)), (by first | assumption | omega | (unfold Hd; omega)), (by first | assumption | omega | (unfold Hd; omega)), (by first | assumption | omega | (unfold Hd; omega))⟩ dX7_perhaps_21
  · have i5 := c_eq c5
    refine lv_iload hx hb dX7_perhaps_8 (lv_at hl 4 rfl) ?_
    have he : f_X7_perhaps σ i1 p2 p3 p4 = ((σ, p4), false) := (by have er2 := er2.symm; subst er2; exact ((if_pos c5).trans rfl))
    exact x_reti C h hr hlocks (congrArg (fun z => z.1.1) he) (congrArg (fun z => z.1.2) he) (congrArg Prod.snd he) ⟨hlpq, hldq, hTT, hS5, hMN, (by first | assumption | omega | (unfold Hd; omega)), (by first | assumption | omega | (unfold Hd; omega)), (by first | assumption | omega | (unfold Hd; omega)), (by first | assumption | omega | (unfold Hd; omega)), (by first | assumption | omega | (unfold Hd; omega))⟩ dX7_perhaps_10
def f_X7_acts (σ : MS × MS) : Int32 := (let r3 := (f_X7_isWord σ 0); if r3 = (0 : Int32) then ((let r14 := (f_X7_isWord σ 1); if r14 = (0 : Int32) then ((let r25 := (f_X7_isWord σ 2); if r25 = (0 : Int32) then ((let r36 := (f_X7_isWord σ 3); if r36 = (0 : Int32) then ((let r47 := (f_X7_isWord σ 4); if r47 = (0 : Int32) then ((let r58 := (f_X7_isWord σ 5); if r58 = (0 : Int32) then ((-1 : Int32)) else ((5 : Int32)))) else ((4 : Int32)))) else ((3 : Int32)))) else ((2 : Int32)))) else ((1 : Int32)))) else ((0 : Int32)))
set_option maxHeartbeats 4000000 in
set_option maxRecDepth 100000 in
theorem k_X7_acts (l : Launch) (g : GR) (σ : MS × MS) (hs9 : 0 ≤ (gi (own σ) 0).toInt ∧ (gi (own σ) 0).toInt ≤ 900) (hbe : 0 ≤ (gi (own σ) 2).toInt ∧ (gi (own σ) 2).toInt ≤ (gi (own σ) 0).toInt) (hab : 0 ≤ (gi (own σ) 1).toInt ∧ (gi (own σ) 1).toInt ≤ (gi (own σ) 2).toInt) : Met l yX7_acts (ws_ yX7_acts cX7_acts 1 (some .int)) ({ frames := 5, cells := 0, slots := 0, locals := 107 } : Room) (wPc (dR g) (g.2.1 90) σ []) (wQi (dR g) σ (f_X7_acts σ) (fun u r => (-1 ≤ r.toInt ∧ r.toInt ≤ 5) ∧ (0 ≤ r.toInt → (gi (own σ) 1).toInt < (gi (own σ) 2).toInt))) 0 0 (dR g).2.2.2.1 := by
  refine met_W RX7 (by decide) rfl (Nat.le_of_ble_eq_true rfl) ?_
  intro p e s m args below meth c C hr hlocks h ls hl
  have hx := C.1.1
  have hb := C.1.2.1
  have hml := C.1.2.2.1
  have hown := C.1.2.2.2.1
  have hts := C.1.2.2.2.2
  have hl : lv_has ls 1 [(0, .ref (g.2.1 90))] := hl
  have zlm1 : (-1 : Int32).toInt = -1 := rfl
  have zl0 : (0 : Int32).toInt = 0 := rfl
  have zl1 : (1 : Int32).toInt = 1 := rfl
  have zl2 : (2 : Int32).toInt = 2 := rfl
  have zl3 : (3 : Int32).toInt = 3 := rfl
  have zl4 : (4 : Int32).toInt = 4 := rfl
  have zl5 : (5 : Int32).toInt = 5 := rfl
  refine lv_aload_n hx hb dX7_acts_0 rfl (lv_at hl 0 rfl) ?_
  refine R_s0 C dX7_acts_1 ?_
  refine w_callz (ci := 7) (q0 := 6) (As := [.ref (g.2.2.2.1 0).1]) (rest := []) 1 (wXR g) C h (k_X7_isWord l g σ 0 (by first | assumption | omega) (by first | assumption | omega) (by first | assumption | omega) (by first | assumption | omega)) (lw_V q636 q638 qs10 q159 q639) rfl rfl rfl rfl (by decide +kernel) ⟨Nat.le_of_ble_eq_true rfl, Nat.le_of_ble_eq_true rfl⟩ rfl hl.1 rfl (Nat.le_of_ble_eq_true rfl) ⟨Nat.le_of_ble_eq_true rfl, Nat.le_of_ble_eq_true rfl⟩ dX7_acts_3 (fun r3 σ3 H locs eσ3 er3 br3 hE3 h => ?_)
  rw [eσ3] at h
  have hE3 : (¬ r3 = 0 → (gi (own σ) 1).toInt < (gi (own σ) 2).toInt) := hE3
  have hwl_3 := hE3
  clear eσ3
  refine lv_if_eq (tgt := 11) hx hb dX7_acts_6 (by decide) (fun c6 => ?_) (fun c6 => ?_)
  · have i6 := c_eq c6
    refine lv_aload_n hx hb dX7_acts_11 rfl (lv_at hl 0 rfl) ?_
    refine R_s1 C dX7_acts_12 ?_
    refine w_callz (ci := 7) (q0 := 6) (As := [.ref (g.2.2.2.1 1).1]) (rest := []) 1 (wXR g) C h (k_X7_isWord l g σ 1 (by first | assumption | omega) (by first | assumption | omega) (by first | assumption | omega) (by first | assumption | omega)) (lw_V q636 q638 qs10 q159 q639) rfl rfl rfl rfl (by decide +kernel) ⟨Nat.le_of_ble_eq_true rfl, Nat.le_of_ble_eq_true rfl⟩ rfl hl.1 rfl (Nat.le_of_ble_eq_true rfl) ⟨Nat.le_of_ble_eq_true rfl, Nat.le_of_ble_eq_true rfl⟩ dX7_acts_14 (fun r14 σ14 H locs eσ14 er14 br14 hE14 h => ?_)
    rw [eσ14] at h
    have hE14 : (¬ r14 = 0 → (gi (own σ) 1).toInt < (gi (own σ) 2).toInt) := hE14
    have hwl_14 := hE14
    clear eσ14
    refine lv_if_eq (tgt := 22) hx hb dX7_acts_17 (by decide) (fun c17 => ?_) (fun c17 => ?_)
    · have i17 := c_eq c17
      refine lv_aload_n hx hb dX7_acts_22 rfl (lv_at hl 0 rfl) ?_
      refine R_s2 C dX7_acts_23 ?_
      refine w_callz (ci := 7) (q0 := 6) (As := [.ref (g.2.2.2.1 2).1]) (rest := []) 1 (wXR g) C h (k_X7_isWord l g σ 2 (by first | assumption | omega) (by first | assumption | omega) (by first | assumption | omega) (by first | assumption | omega)) (lw_V q636 q638 qs10 q159 q639) rfl rfl rfl rfl (by decide +kernel) ⟨Nat.le_of_ble_eq_true rfl, Nat.le_of_ble_eq_true rfl⟩ rfl hl.1 rfl (Nat.le_of_ble_eq_true rfl) ⟨Nat.le_of_ble_eq_true rfl, Nat.le_of_ble_eq_true rfl⟩ dX7_acts_25 (fun r25 σ25 H locs eσ25 er25 br25 hE25 h => ?_)
      rw [eσ25] at h
      have hE25 : (¬ r25 = 0 → (gi (own σ) 1).toInt < (gi (own σ) 2).toInt) := hE25
      have hwl_25 := hE25
      clear eσ25
      refine lv_if_eq (tgt := 33) hx hb dX7_acts_28 (by decide) (fun c28 => ?_) (fun c28 => ?_)
      · have i28 := c_eq c28
        refine lv_aload_n hx hb dX7_acts_33 rfl (lv_at hl 0 rfl) ?_
        refine R_s3 C dX7_acts_34 ?_
        refine w_callz (ci := 7) (q0 := 6) (As := [.ref (g.2.2.2.1 3).1]) (rest := []) 1 (wXR g) C h (k_X7_isWord l g σ 3 (by first | assumption | omega) (by first | assumption | omega) (by first | assumption | omega) (by first | assumption | omega)) (lw_V q636 q638 qs10 q159 q639) rfl rfl rfl rfl (by decide +kernel) ⟨Nat.le_of_ble_eq_true rfl, Nat.le_of_ble_eq_true rfl⟩ rfl hl.1 rfl (Nat.le_of_ble_eq_true rfl) ⟨Nat.le_of_ble_eq_true rfl, Nat.le_of_ble_eq_true rfl⟩ dX7_acts_36 (fun r36 σ36 H locs eσ36 er36 br36 hE36 h => ?_)
        rw [eσ36] at h
        have hE36 : (¬ r36 = 0 → (gi (own σ) 1).toInt < (gi (own σ) 2).toInt) := hE36
        have hwl_36 := hE36
        clear eσ36
        refine lv_if_eq (tgt := 44) hx hb dX7_acts_39 (by decide) (fun c39 => ?_) (fun c39 => ?_)
        · have i39 := c_eq c39
          refine lv_aload_n hx hb dX7_acts_44 rfl (lv_at hl 0 rfl) ?_
          refine R_s4 C dX7_acts_45 ?_
          refine w_callz (ci := 7) (q0 := 6) (As := [.ref (g.2.2.2.1 4).1]) (rest := []) 1 (wXR g) C h (k_X7_isWord l g σ 4 (by first | assumption | omega) (by first | assumption | omega) (by first | assumption | omega) (by first | assumption | omega)) (lw_V q636 q638 qs10 q159 q639) rfl rfl rfl rfl (by decide +kernel) ⟨Nat.le_of_ble_eq_true rfl, Nat.le_of_ble_eq_true rfl⟩ rfl hl.1 rfl (Nat.le_of_ble_eq_true rfl) ⟨Nat.le_of_ble_eq_true rfl, Nat.le_of_ble_eq_true rfl⟩ dX7_acts_47 (fun r47 σ47 H locs eσ47 er47 br47 hE47 h => ?_)
          rw [eσ47] at h
          have hE47 : (¬ r47 = 0 → (gi (own σ) 1).toInt < (gi (own σ) 2).toInt) := hE47
          have hwl_47 := hE47
          clear eσ47
          refine lv_if_eq (tgt := 55) hx hb dX7_acts_50 (by decide) (fun c50 => ?_) (fun c50 => ?_)
          · have i50 := c_eq c50
            refine lv_aload_n hx hb dX7_acts_55 rfl (lv_at hl 0 rfl) ?_
            refine R_s5 C dX7_acts_56 ?_
            refine w_callz (ci := 7) (q0 := 6) (As := [.ref (g.2.2.2.1 5).1]) (rest := []) 1 (wXR g) C h (k_X7_isWord l g σ 5 (by first | assumption | omega) (by first | assumption | omega) (by first | assumption | omega) (by first | assumption | omega)) (lw_V q636 q638 qs10 q159 q639) rfl rfl rfl rfl (by decide +kernel) ⟨Nat.le_of_ble_eq_true rfl, Nat.le_of_ble_eq_true rfl⟩ rfl hl.1 rfl (Nat.le_of_ble_eq_true rfl) ⟨Nat.le_of_ble_eq_true rfl, Nat.le_of_ble_eq_true rfl⟩ dX7_acts_58 (fun r58 σ58 H locs eσ58 er58 br58 hE58 h => ?_)
            rw [eσ58] at h
            have hE58 : (¬ r58 = 0 → (gi (own σ) 1).toInt < (gi (own σ) 2).toInt) := hE58
            have hwl_58 := hE58
            clear eσ58
            refine lv_if_eq (tgt := 68) hx hb dX7_acts_61 (by decide) (fun c61 => ?_) (fun c61 => ?_)
            · have i61 := c_eq c61
              refine lv_iconst (v := -1) hx hb dX7_acts_68 (by decide) ?_
              have he : f_X7_acts σ = (-1 : Int32) := (by have er3 := er3.symm; subst er3; have er14 := er14.symm; subst er14; have er25 := er25.symm; subst er25; have er36 := er36.symm; subst er36; have er47 := er47.symm; subst er47; have er58 := er58.symm; subst er58; exact ((if_pos c6).trans ((if_pos c17).trans ((if_pos c28).trans ((if_pos c39).trans ((if_pos c50).trans ((if_pos c61).trans rfl)))))))
              exact w_reti (wXR g) C h hr hlocks rfl he ⟨(by first | assumption | omega | (unfold Hd; omega)), (by intro _; omega)⟩ dX7_acts_69
            · have i61 := c_ne c61
              have okr58 := hwl_58 c61
              refine lv_iconst (v := 5) hx hb dX7_acts_64 (by decide) ?_
              refine lv_goto (tgt := 69) hx hb dX7_acts_65 (by decide) ?_
              have he : f_X7_acts σ = (5 : Int32) := (by have er3 := er3.symm; subst er3; have er14 := er14.symm; subst er14; have er25 := er25.symm; subst er25; have er36 := er36.symm; subst er36; have er47 := er47.symm; subst er47; have er58 := er58.symm; subst er58; exact ((if_pos c6).trans ((if_pos c17).trans ((if_pos c28).trans ((if_pos c39).trans ((if_pos c50).trans ((if_neg c61).trans rfl)))))))
              exact w_reti (wXR g) C h hr hlocks rfl he ⟨(by first | assumption | omega | (unfold Hd; omega)), (by intro _; omega)⟩ dX7_acts_69
          · have i50 := c_ne c50
            have okr47 := hwl_47 c50
            refine lv_iconst (v := 4) hx hb dX7_acts_53 (by decide) ?_
            have he : f_X7_acts σ = (4 : Int32) := (by have er3 := er3.symm; subst er3; have er14 := er14.symm; subst er14; have er25 := er25.symm; subst er25; have er36 := er36.symm; subst er36; have er47 := er47.symm; subst er47; exact ((if_pos c6).trans ((if_pos c17).trans ((if_pos c28).trans ((if_pos c39).trans ((if_neg c50).trans rfl))))))
            exact w_reti (wXR g) C h hr hlocks rfl he ⟨(by first | assumption | omega | (unfold Hd; omega)), (by intro _; omega)⟩ dX7_acts_54
        · have i39 := c_ne c39
          have okr36 := hwl_36 c39
          refine lv_iconst (v := 3) hx hb dX7_acts_42 (by decide) ?_
          have he : f_X7_acts σ = (3 : Int32) := (by have er3 := er3.symm; subst er3; have er14 := er14.symm; subst er14; have er25 := er25.symm; subst er25; have er36 := er36.symm; subst er36; exact ((if_pos c6).trans ((if_pos c17).trans ((if_pos c28).trans ((if_neg c39).trans rfl)))))
          exact w_reti (wXR g) C h hr hlocks rfl he ⟨(by first | assumption | omega | (unfold Hd; omega)), (by intro _; omega)⟩ dX7_acts_43
      · have i28 := c_ne c28
        have okr25 := hwl_25 c28
        refine lv_iconst (v := 2) hx hb dX7_acts_31 (by decide) ?_
        have he : f_X7_acts σ = (2 : Int32) := (by have er3 := er3.symm; subst er3; have er14 := er14.symm; subst er14; have er25 := er25.symm; subst er25; exact ((if_pos c6).trans ((if_pos c17).trans ((if_neg c28).trans rfl))))
        exact w_reti (wXR g) C h hr hlocks rfl he ⟨(by first | assumption | omega | (unfold Hd; omega)), (by intro _; omega)⟩ dX7_acts_32
    · have i17 := c_ne c17
      have okr14 := hwl_14 c17
      refine lv_iconst (v := 1) hx hb dX7_acts_20 (by decide) ?_
      have he : f_X7_acts σ = (1 : Int32) := (by have er3 := er3.symm; subst er3; have er14 := er14.symm; subst er14; exact ((if_pos c6).trans ((if_neg c17).trans rfl)))
      exact w_reti (wXR g) C h hr hlocks rfl he ⟨(by first | assumption | omega | (unfold Hd; omega)), (by intro _; omega)⟩ dX7_acts_21
  · have i6 := c_ne c6
    have okr3 := hwl_3 c6
    refine lv_iconst (v := 0) hx hb dX7_acts_9 (by decide) ?_
    have he : f_X7_acts σ = (0 : Int32) := (by have er3 := er3.symm; subst er3; exact ((if_neg c6).trans rfl))
    exact w_reti (wXR g) C h hr hlocks rfl he ⟨(by first | assumption | omega | (unfold Hd; omega)), (by intro _; omega)⟩ dX7_acts_10
def f_X7_tests (σ : MS × MS) : Int32 := (let r3 := (f_X7_isWord σ 6); if r3 = (0 : Int32) then ((let r16 := (f_X7_isWord σ 7); if r16 = (0 : Int32) then ((let r29 := (f_X7_isWord σ 8); if r29 = (0 : Int32) then ((-1 : Int32)) else ((2 : Int32)))) else ((1 : Int32)))) else ((0 : Int32)))
set_option maxHeartbeats 4000000 in
set_option maxRecDepth 100000 in
theorem k_X7_tests (l : Launch) (g : GR) (σ : MS × MS) (hs9 : 0 ≤ (gi (own σ) 0).toInt ∧ (gi (own σ) 0).toInt ≤ 900) (hbe : 0 ≤ (gi (own σ) 2).toInt ∧ (gi (own σ) 2).toInt ≤ (gi (own σ) 0).toInt) (hab : 0 ≤ (gi (own σ) 1).toInt ∧ (gi (own σ) 1).toInt ≤ (gi (own σ) 2).toInt) : Met l yX7_tests (ws_ yX7_tests cX7_tests 1 (some .int)) ({ frames := 5, cells := 0, slots := 0, locals := 107 } : Room) (wPc (dR g) (g.2.1 90) σ []) (wQi (dR g) σ (f_X7_tests σ) (fun u r => (-1 ≤ r.toInt ∧ r.toInt ≤ 2) ∧ (0 ≤ r.toInt → (gi (own σ) 1).toInt < (gi (own σ) 2).toInt))) 0 0 (dR g).2.2.2.1 := by
  refine met_W RX7 (by decide) rfl (Nat.le_of_ble_eq_true rfl) ?_
  intro p e s m args below meth c C hr hlocks h ls hl
  have hx := C.1.1
  have hb := C.1.2.1
  have hml := C.1.2.2.1
  have hown := C.1.2.2.2.1
  have hts := C.1.2.2.2.2
  have hl : lv_has ls 1 [(0, .ref (g.2.1 90))] := hl
  have zlm1 : (-1 : Int32).toInt = -1 := rfl
  have zl0 : (0 : Int32).toInt = 0 := rfl
  have zl1 : (1 : Int32).toInt = 1 := rfl
  have zl2 : (2 : Int32).toInt = 2 := rfl
  refine lv_aload_n hx hb dX7_tests_0 rfl (lv_at hl 0 rfl) ?_
  refine R_s6 C dX7_tests_1 ?_
  refine w_callz (ci := 7) (q0 := 6) (As := [.ref (g.2.2.2.1 6).1]) (rest := []) 1 (wXR g) C h (k_X7_isWord l g σ 6 (by first | assumption | omega) (by first | assumption | omega) (by first | assumption | omega) (by first | assumption | omega)) (lw_V q636 q638 qs10 q159 q639) rfl rfl rfl rfl (by decide +kernel) ⟨Nat.le_of_ble_eq_true rfl, Nat.le_of_ble_eq_true rfl⟩ rfl hl.1 rfl (Nat.le_of_ble_eq_true rfl) ⟨Nat.le_of_ble_eq_true rfl, Nat.le_of_ble_eq_true rfl⟩ dX7_tests_3 (fun r3 σ3 H locs eσ3 er3 br3 hE3 h => ?_)
  rw [eσ3] at h
  have hE3 : (¬ r3 = 0 → (gi (own σ) 1).toInt < (gi (own σ) 2).toInt) := hE3
  have hwl_3 := hE3
  clear eσ3
  refine lv_if_eq (tgt := 13) hx hb dX7_tests_6 (by decide) (fun c6 => ?_) (fun c6 => ?_)
  · have i6 := c_eq c6
    refine lv_aload_n hx hb dX7_tests_13 rfl (lv_at hl 0 rfl) ?_
    refine R_s7 C dX7_tests_14 ?_
    refine w_callz (ci := 7) (q0 := 6) (As := [.ref (g.2.2.2.1 7).1]) (rest := []) 1 (wXR g) C h (k_X7_isWord l g σ 7 (by first | assumption | omega) (by first | assumption | omega) (by first | assumption | omega) (by first | assumption | omega)) (lw_V q636 q638 qs10 q159 q639) rfl rfl rfl rfl (by decide +kernel) ⟨Nat.le_of_ble_eq_true rfl, Nat.le_of_ble_eq_true rfl⟩ rfl hl.1 rfl (Nat.le_of_ble_eq_true rfl) ⟨Nat.le_of_ble_eq_true rfl, Nat.le_of_ble_eq_true rfl⟩ dX7_tests_16 (fun r16 σ16 H locs eσ16 er16 br16 hE16 h => ?_)
    rw [eσ16] at h
    have hE16 : (¬ r16 = 0 → (gi (own σ) 1).toInt < (gi (own σ) 2).toInt) := hE16
    have hwl_16 := hE16
    clear eσ16
    refine lv_if_eq (tgt := 26) hx hb dX7_tests_19 (by decide) (fun c19 => ?_) (fun c19 => ?_)
    · have i19 := c_eq c19
      refine lv_aload_n hx hb dX7_tests_26 rfl (lv_at hl 0 rfl) ?_
      refine R_s8 C dX7_tests_27 ?_
      refine w_callz (ci := 7) (q0 := 6) (As := [.ref (g.2.2.2.1 8).1]) (rest := []) 1 (wXR g) C h (k_X7_isWord l g σ 8 (by first | assumption | omega) (by first | assumption | omega) (by first | assumption | omega) (by first | assumption | omega)) (lw_V q636 q638 qs10 q159 q639) rfl rfl rfl rfl (by decide +kernel) ⟨Nat.le_of_ble_eq_true rfl, Nat.le_of_ble_eq_true rfl⟩ rfl hl.1 rfl (Nat.le_of_ble_eq_true rfl) ⟨Nat.le_of_ble_eq_true rfl, Nat.le_of_ble_eq_true rfl⟩ dX7_tests_29 (fun r29 σ29 H locs eσ29 er29 br29 hE29 h => ?_)
      rw [eσ29] at h
      have hE29 : (¬ r29 = 0 → (gi (own σ) 1).toInt < (gi (own σ) 2).toInt) := hE29
      have hwl_29 := hE29
      clear eσ29
      refine lv_if_eq (tgt := 39) hx hb dX7_tests_32 (by decide) (fun c32 => ?_) (fun c32 => ?_)
      · have i32 := c_eq c32
        refine lv_iconst (v := -1) hx hb dX7_tests_39 (by decide) ?_
        have he : f_X7_tests σ = (-1 : Int32) := (by have er3 := er3.symm; subst er3; have er16 := er16.symm; subst er16; have er29 := er29.symm; subst er29; exact ((if_pos c6).trans ((if_pos c19).trans ((if_pos c32).trans rfl))))
        exact w_reti (wXR g) C h hr hlocks rfl he ⟨(by first | assumption | omega | (unfold Hd; omega)), (by intro _; omega)⟩ dX7_tests_40
      · have i32 := c_ne c32
        have okr29 := hwl_29 c32
        refine lv_iconst (v := 2) hx hb dX7_tests_35 (by decide) ?_
        refine lv_goto (tgt := 40) hx hb dX7_tests_36 (by decide) ?_
        have he : f_X7_tests σ = (2 : Int32) := (by have er3 := er3.symm; subst er3; have er16 := er16.symm; subst er16; have er29 := er29.symm; subst er29; exact ((if_pos c6).trans ((if_pos c19).trans ((if_neg c32).trans rfl))))
        exact w_reti (wXR g) C h hr hlocks rfl he ⟨(by first | assumption | omega | (unfold Hd; omega)), (by intro _; omega)⟩ dX7_tests_40
    · have i19 := c_ne c19
      have okr16 := hwl_16 c19
      refine lv_iconst (v := 1) hx hb dX7_tests_22 (by decide) ?_
      refine lv_goto (tgt := 40) hx hb dX7_tests_23 (by decide) ?_
      have he : f_X7_tests σ = (1 : Int32) := (by have er3 := er3.symm; subst er3; have er16 := er16.symm; subst er16; exact ((if_pos c6).trans ((if_neg c19).trans rfl)))
      exact w_reti (wXR g) C h hr hlocks rfl he ⟨(by first | assumption | omega | (unfold Hd; omega)), (by intro _; omega)⟩ dX7_tests_40
  · have i6 := c_ne c6
    have okr3 := hwl_3 c6
    refine lv_iconst (v := 0) hx hb dX7_tests_9 (by decide) ?_
    refine lv_goto (tgt := 40) hx hb dX7_tests_10 (by decide) ?_
    have he : f_X7_tests σ = (0 : Int32) := (by have er3 := er3.symm; subst er3; exact ((if_neg c6).trans rfl))
    exact w_reti (wXR g) C h hr hlocks rfl he ⟨(by first | assumption | omega | (unfold Hd; omega)), (by intro _; omega)⟩ dX7_tests_40
def f_X7_splits (σ : MS × MS) : Int32 := (let r3 := (f_X7_isWord σ 9); if r3 = (0 : Int32) then ((let r16 := (f_X7_isWord σ 10); if r16 = (0 : Int32) then ((let r29 := (f_X7_isWord σ 11); if r29 = (0 : Int32) then ((-1 : Int32)) else ((2 : Int32)))) else ((1 : Int32)))) else ((0 : Int32)))
set_option maxHeartbeats 4000000 in
set_option maxRecDepth 100000 in
theorem k_X7_splits (l : Launch) (g : GR) (σ : MS × MS) (hs9 : 0 ≤ (gi (own σ) 0).toInt ∧ (gi (own σ) 0).toInt ≤ 900) (hbe : 0 ≤ (gi (own σ) 2).toInt ∧ (gi (own σ) 2).toInt ≤ (gi (own σ) 0).toInt) (hab : 0 ≤ (gi (own σ) 1).toInt ∧ (gi (own σ) 1).toInt ≤ (gi (own σ) 2).toInt) : Met l yX7_splits (ws_ yX7_splits cX7_splits 1 (some .int)) ({ frames := 5, cells := 0, slots := 0, locals := 107 } : Room) (wPc (dR g) (g.2.1 90) σ []) (wQi (dR g) σ (f_X7_splits σ) (fun u r => (-1 ≤ r.toInt ∧ r.toInt ≤ 2) ∧ (0 ≤ r.toInt → (gi (own σ) 1).toInt < (gi (own σ) 2).toInt))) 0 0 (dR g).2.2.2.1 := by
  refine met_W RX7 (by decide) rfl (Nat.le_of_ble_eq_true rfl) ?_
  intro p e s m args below meth c C hr hlocks h ls hl
  have hx := C.1.1
  have hb := C.1.2.1
  have hml := C.1.2.2.1
  have hown := C.1.2.2.2.1
  have hts := C.1.2.2.2.2
  have hl : lv_has ls 1 [(0, .ref (g.2.1 90))] := hl
  have zlm1 : (-1 : Int32).toInt = -1 := rfl
  have zl0 : (0 : Int32).toInt = 0 := rfl
  have zl1 : (1 : Int32).toInt = 1 := rfl
  have zl2 : (2 : Int32).toInt = 2 := rfl
  refine lv_aload_n hx hb dX7_splits_0 rfl (lv_at hl 0 rfl) ?_
  refine R_s9 C dX7_splits_1 ?_
  refine w_callz (ci := 7) (q0 := 6) (As := [.ref (g.2.2.2.1 9).1]) (rest := []) 1 (wXR g) C h (k_X7_isWord l g σ 9 (by first | assumption | omega) (by first | assumption | omega) (by first | assumption | omega) (by first | assumption | omega)) (lw_V q636 q638 qs10 q159 q639) rfl rfl rfl rfl (by decide +kernel) ⟨Nat.le_of_ble_eq_true rfl, Nat.le_of_ble_eq_true rfl⟩ rfl hl.1 rfl (Nat.le_of_ble_eq_true rfl) ⟨Nat.le_of_ble_eq_true rfl, Nat.le_of_ble_eq_true rfl⟩ dX7_splits_3 (fun r3 σ3 H locs eσ3 er3 br3 hE3 h => ?_)
  rw [eσ3] at h
  have hE3 : (¬ r3 = 0 → (gi (own σ) 1).toInt < (gi (own σ) 2).toInt) := hE3
  have hwl_3 := hE3
  clear eσ3
  refine lv_if_eq (tgt := 13) hx hb dX7_splits_6 (by decide) (fun c6 => ?_) (fun c6 => ?_)
  · have i6 := c_eq c6
    refine lv_aload_n hx hb dX7_splits_13 rfl (lv_at hl 0 rfl) ?_
    refine R_s10 C dX7_splits_14 ?_
    refine w_callz (ci := 7) (q0 := 6) (As := [.ref (g.2.2.2.1 10).1]) (rest := []) 1 (wXR g) C h (k_X7_isWord l g σ 10 (by first | assumption | omega) (by first | assumption | omega) (by first | assumption | omega) (by first | assumption | omega)) (lw_V q636 q638 qs10 q159 q639) rfl rfl rfl rfl (by decide +kernel) ⟨Nat.le_of_ble_eq_true rfl, Nat.le_of_ble_eq_true rfl⟩ rfl hl.1 rfl (Nat.le_of_ble_eq_true rfl) ⟨Nat.le_of_ble_eq_true rfl, Nat.le_of_ble_eq_true rfl⟩ dX7_splits_16 (fun r16 σ16 H locs eσ16 er16 br16 hE16 h => ?_)
    rw [eσ16] at h
    have hE16 : (¬ r16 = 0 → (gi (own σ) 1).toInt < (gi (own σ) 2).toInt) := hE16
    have hwl_16 := hE16
    clear eσ16
    refine lv_if_eq (tgt := 26) hx hb dX7_splits_19 (by decide) (fun c19 => ?_) (fun c19 => ?_)
    · have i19 := c_eq c19
      refine lv_aload_n hx hb dX7_splits_26 rfl (lv_at hl 0 rfl) ?_
      refine R_s11 C dX7_splits_27 ?_
      refine w_callz (ci := 7) (q0 := 6) (As := [.ref (g.2.2.2.1 11).1]) (rest := []) 1 (wXR g) C h (k_X7_isWord l g σ 11 (by first | assumption | omega) (by first | assumption | omega) (by first | assumption | omega) (by first | assumption | omega)) (lw_V q636 q638 qs10 q159 q639) rfl rfl rfl rfl (by decide +kernel) ⟨Nat.le_of_ble_eq_true rfl, Nat.le_of_ble_eq_true rfl⟩ rfl hl.1 rfl (Nat.le_of_ble_eq_true rfl) ⟨Nat.le_of_ble_eq_true rfl, Nat.le_of_ble_eq_true rfl⟩ dX7_splits_29 (fun r29 σ29 H locs eσ29 er29 br29 hE29 h => ?_)
      rw [eσ29] at h
      have hE29 : (¬ r29 = 0 → (gi (own σ) 1).toInt < (gi (own σ) 2).toInt) := hE29
      have hwl_29 := hE29
      clear eσ29
      refine lv_if_eq (tgt := 39) hx hb dX7_splits_32 (by decide) (fun c32 => ?_) (fun c32 => ?_)
      · have i32 := c_eq c32
        refine lv_iconst (v := -1) hx hb dX7_splits_39 (by decide) ?_
        have he : f_X7_splits σ = (-1 : Int32) := (by have er3 := er3.symm; subst er3; have er16 := er16.symm; subst er16; have er29 := er29.symm; subst er29; exact ((if_pos c6).trans ((if_pos c19).trans ((if_pos c32).trans rfl))))
        exact w_reti (wXR g) C h hr hlocks rfl he ⟨(by first | assumption | omega | (unfold Hd; omega)), (by intro _; omega)⟩ dX7_splits_40
      · have i32 := c_ne c32
        have okr29 := hwl_29 c32
        refine lv_iconst (v := 2) hx hb dX7_splits_35 (by decide) ?_
        refine lv_goto (tgt := 40) hx hb dX7_splits_36 (by decide) ?_
        have he : f_X7_splits σ = (2 : Int32) := (by have er3 := er3.symm; subst er3; have er16 := er16.symm; subst er16; have er29 := er29.symm; subst er29; exact ((if_pos c6).trans ((if_pos c19).trans ((if_neg c32).trans rfl))))
        exact w_reti (wXR g) C h hr hlocks rfl he ⟨(by first | assumption | omega | (unfold Hd; omega)), (by intro _; omega)⟩ dX7_splits_40
    · have i19 := c_ne c19
      have okr16 := hwl_16 c19
      refine lv_iconst (v := 1) hx hb dX7_splits_22 (by decide) ?_
      refine lv_goto (tgt := 40) hx hb dX7_splits_23 (by decide) ?_
      have he : f_X7_splits σ = (1 : Int32) := (by have er3 := er3.symm; subst er3; have er16 := er16.symm; subst er16; exact ((if_pos c6).trans ((if_neg c19).trans rfl)))
      exact w_reti (wXR g) C h hr hlocks rfl he ⟨(by first | assumption | omega | (unfold Hd; omega)), (by intro _; omega)⟩ dX7_splits_40
  · have i6 := c_ne c6
    have okr3 := hwl_3 c6
    refine lv_iconst (v := 0) hx hb dX7_splits_9 (by decide) ?_
    refine lv_goto (tgt := 40) hx hb dX7_splits_10 (by decide) ?_
    have he : f_X7_splits σ = (0 : Int32) := (by have er3 := er3.symm; subst er3; exact ((if_neg c6).trans rfl))
    exact w_reti (wXR g) C h hr hlocks rfl he ⟨(by first | assumption | omega | (unfold Hd; omega)), (by intro _; omega)⟩ dX7_splits_40
def f_X7_laws (σ : MS × MS) : Int32 := (let r3 := (f_X7_isWord σ 8); if r3 = (0 : Int32) then ((let r16 := (f_X7_isWord σ 12); if r16 = (0 : Int32) then ((let r29 := (f_X7_isWord σ 13); if r29 = (0 : Int32) then ((let r42 := (f_X7_isWord σ 14); if r42 = (0 : Int32) then ((-1 : Int32)) else ((3 : Int32)))) else ((2 : Int32)))) else ((1 : Int32)))) else ((0 : Int32)))
set_option maxHeartbeats 4000000 in
set_option maxRecDepth 100000 in
theorem k_X7_laws (l : Launch) (g : GR) (σ : MS × MS) (hs9 : 0 ≤ (gi (own σ) 0).toInt ∧ (gi (own σ) 0).toInt ≤ 900) (hbe : 0 ≤ (gi (own σ) 2).toInt ∧ (gi (own σ) 2).toInt ≤ (gi (own σ) 0).toInt) (hab : 0 ≤ (gi (own σ) 1).toInt ∧ (gi (own σ) 1).toInt ≤ (gi (own σ) 2).toInt) : Met l yX7_laws (ws_ yX7_laws cX7_laws 1 (some .int)) ({ frames := 5, cells := 0, slots := 0, locals := 107 } : Room) (wPc (dR g) (g.2.1 90) σ []) (wQi (dR g) σ (f_X7_laws σ) (fun u r => (-1 ≤ r.toInt ∧ r.toInt ≤ 3) ∧ (0 ≤ r.toInt → (gi (own σ) 1).toInt < (gi (own σ) 2).toInt))) 0 0 (dR g).2.2.2.1 := by
  refine met_W RX7 (by decide) rfl (Nat.le_of_ble_eq_true rfl) ?_
  intro p e s m args below meth c C hr hlocks h ls hl
  have hx := C.1.1
  have hb := C.1.2.1
  have hml := C.1.2.2.1
  have hown := C.1.2.2.2.1
  have hts := C.1.2.2.2.2
  have hl : lv_has ls 1 [(0, .ref (g.2.1 90))] := hl
  have zlm1 : (-1 : Int32).toInt = -1 := rfl
  have zl0 : (0 : Int32).toInt = 0 := rfl
  have zl1 : (1 : Int32).toInt = 1 := rfl
  have zl2 : (2 : Int32).toInt = 2 := rfl
  have zl3 : (3 : Int32).toInt = 3 := rfl
  refine lv_aload_n hx hb dX7_laws_0 rfl (lv_at hl 0 rfl) ?_
  refine R_s8 C dX7_laws_1 ?_
  refine w_callz (ci := 7) (q0 := 6) (As := [.ref (g.2.2.2.1 8).1]) (rest := []) 1 (wXR g) C h (k_X7_isWord l g σ 8 (by first | assumption | omega) (by first | assumption | omega) (by first | assumption | omega) (by first | assumption | omega)) (lw_V q636 q638 qs10 q159 q639) rfl rfl rfl rfl (by decide +kernel) ⟨Nat.le_of_ble_eq_true rfl, Nat.le_of_ble_eq_true rfl⟩ rfl hl.1 rfl (Nat.le_of_ble_eq_true rfl) ⟨Nat.le_of_ble_eq_true rfl, Nat.le_of_ble_eq_true rfl⟩ dX7_laws_3 (fun r3 σ3 H locs eσ3 er3 br3 hE3 h => ?_)
  rw [eσ3] at h
  have hE3 : (¬ r3 = 0 → (gi (own σ) 1).toInt < (gi (own σ) 2).toInt) := hE3
  have hwl_3 := hE3
  clear eσ3
  refine lv_if_eq (tgt := 13) hx hb dX7_laws_6 (by decide) (fun c6 => ?_) (fun c6 => ?_)
  · have i6 := c_eq c6
    refine lv_aload_n hx hb dX7_laws_13 rfl (lv_at hl 0 rfl) ?_
    refine R_s12 C dX7_laws_14 ?_
    refine w_callz (ci := 7) (q0 := 6) (As := [.ref (g.2.2.2.1 12).1]) (rest := []) 1 (wXR g) C h (k_X7_isWord l g σ 12 (by first | assumption | omega) (by first | assumption | omega) (by first | assumption | omega) (by first | assumption | omega)) (lw_V q636 q638 qs10 q159 q639) rfl rfl rfl rfl (by decide +kernel) ⟨Nat.le_of_ble_eq_true rfl, Nat.le_of_ble_eq_true rfl⟩ rfl hl.1 rfl (Nat.le_of_ble_eq_true rfl) ⟨Nat.le_of_ble_eq_true rfl, Nat.le_of_ble_eq_true rfl⟩ dX7_laws_16 (fun r16 σ16 H locs eσ16 er16 br16 hE16 h => ?_)
    rw [eσ16] at h
    have hE16 : (¬ r16 = 0 → (gi (own σ) 1).toInt < (gi (own σ) 2).toInt) := hE16
    have hwl_16 := hE16
    clear eσ16
    refine lv_if_eq (tgt := 26) hx hb dX7_laws_19 (by decide) (fun c19 => ?_) (fun c19 => ?_)
    · have i19 := c_eq c19
      refine lv_aload_n hx hb dX7_laws_26 rfl (lv_at hl 0 rfl) ?_
      refine R_s13 C dX7_laws_27 ?_
      refine w_callz (ci := 7) (q0 := 6) (As := [.ref (g.2.2.2.1 13).1]) (rest := []) 1 (wXR g) C h (k_X7_isWord l g σ 13 (by first | assumption | omega) (by first | assumption | omega) (by first | assumption | omega) (by first | assumption | omega)) (lw_V q636 q638 qs10 q159 q639) rfl rfl rfl rfl (by decide +kernel) ⟨Nat.le_of_ble_eq_true rfl, Nat.le_of_ble_eq_true rfl⟩ rfl hl.1 rfl (Nat.le_of_ble_eq_true rfl) ⟨Nat.le_of_ble_eq_true rfl, Nat.le_of_ble_eq_true rfl⟩ dX7_laws_29 (fun r29 σ29 H locs eσ29 er29 br29 hE29 h => ?_)
      rw [eσ29] at h
      have hE29 : (¬ r29 = 0 → (gi (own σ) 1).toInt < (gi (own σ) 2).toInt) := hE29
      have hwl_29 := hE29
      clear eσ29
      refine lv_if_eq (tgt := 39) hx hb dX7_laws_32 (by decide) (fun c32 => ?_) (fun c32 => ?_)
      · have i32 := c_eq c32
        refine lv_aload_n hx hb dX7_laws_39 rfl (lv_at hl 0 rfl) ?_
        refine R_s14 C dX7_laws_40 ?_
        refine w_callz (ci := 7) (q0 := 6) (As := [.ref (g.2.2.2.1 14).1]) (rest := []) 1 (wXR g) C h (k_X7_isWord l g σ 14 (by first | assumption | omega) (by first | assumption | omega) (by first | assumption | omega) (by first | assumption | omega)) (lw_V q636 q638 qs10 q159 q639) rfl rfl rfl rfl (by decide +kernel) ⟨Nat.le_of_ble_eq_true rfl, Nat.le_of_ble_eq_true rfl⟩ rfl hl.1 rfl (Nat.le_of_ble_eq_true rfl) ⟨Nat.le_of_ble_eq_true rfl, Nat.le_of_ble_eq_true rfl⟩ dX7_laws_42 (fun r42 σ42 H locs eσ42 er42 br42 hE42 h => ?_)
        rw [eσ42] at h
        have hE42 : (¬ r42 = 0 → (gi (own σ) 1).toInt < (gi (own σ) 2).toInt) := hE42
        have hwl_42 := hE42
        clear eσ42
        refine lv_if_eq (tgt := 52) hx hb dX7_laws_45 (by decide) (fun c45 => ?_) (fun c45 => ?_)
        · have i45 := c_eq c45
          refine lv_iconst (v := -1) hx hb dX7_laws_52 (by decide) ?_
          have he : f_X7_laws σ = (-1 : Int32) := (by have er3 := er3.symm; subst er3; have er16 := er16.symm; subst er16; have er29 := er29.symm; subst er29; have er42 := er42.symm; subst er42; exact ((if_pos c6).trans ((if_pos c19).trans ((if_pos c32).trans ((if_pos c45).trans rfl)))))
          exact w_reti (wXR g) C h hr hlocks rfl he ⟨(by first | assumption | omega | (unfold Hd; omega)), (by intro _; omega)⟩ dX7_laws_53
        · have i45 := c_ne c45
          have okr42 := hwl_42 c45
          refine lv_iconst (v := 3) hx hb dX7_laws_48 (by decide) ?_
          refine lv_goto (tgt := 53) hx hb dX7_laws_49 (by decide) ?_
          have he : f_X7_laws σ = (3 : Int32) := (by have er3 := er3.symm; subst er3; have er16 := er16.symm; subst er16; have er29 := er29.symm; subst er29; have er42 := er42.symm; subst er42; exact ((if_pos c6).trans ((if_pos c19).trans ((if_pos c32).trans ((if_neg c45).trans rfl)))))
          exact w_reti (wXR g) C h hr hlocks rfl he ⟨(by first | assumption | omega | (unfold Hd; omega)), (by intro _; omega)⟩ dX7_laws_53
      · have i32 := c_ne c32
        have okr29 := hwl_29 c32
        refine lv_iconst (v := 2) hx hb dX7_laws_35 (by decide) ?_
        refine lv_goto (tgt := 53) hx hb dX7_laws_36 (by decide) ?_
        have he : f_X7_laws σ = (2 : Int32) := (by have er3 := er3.symm; subst er3; have er16 := er16.symm; subst er16; have er29 := er29.symm; subst er29; exact ((if_pos c6).trans ((if_pos c19).trans ((if_neg c32).trans rfl))))
        exact w_reti (wXR g) C h hr hlocks rfl he ⟨(by first | assumption | omega | (unfold Hd; omega)), (by intro _; omega)⟩ dX7_laws_53
    · have i19 := c_ne c19
      have okr16 := hwl_16 c19
      refine lv_iconst (v := 1) hx hb dX7_laws_22 (by decide) ?_
      refine lv_goto (tgt := 53) hx hb dX7_laws_23 (by decide) ?_
      have he : f_X7_laws σ = (1 : Int32) := (by have er3 := er3.symm; subst er3; have er16 := er16.symm; subst er16; exact ((if_pos c6).trans ((if_neg c19).trans rfl)))
      exact w_reti (wXR g) C h hr hlocks rfl he ⟨(by first | assumption | omega | (unfold Hd; omega)), (by intro _; omega)⟩ dX7_laws_53
  · have i6 := c_ne c6
    have okr3 := hwl_3 c6
    refine lv_iconst (v := 0) hx hb dX7_laws_9 (by decide) ?_
    refine lv_goto (tgt := 53) hx hb dX7_laws_10 (by decide) ?_
    have he : f_X7_laws σ = (0 : Int32) := (by have er3 := er3.symm; subst er3; exact ((if_neg c6).trans rfl))
    exact w_reti (wXR g) C h hr hlocks rfl he ⟨(by first | assumption | omega | (unfold Hd; omega)), (by intro _; omega)⟩ dX7_laws_53
def f_X7_isKept (σ : MS × MS) : Int32 := (let r3 := (f_X7_isWord σ 15); (let z86_ : Int32 := (if r3 = (0 : Int32) then ((let r12 := (f_X7_isWord σ 16); if r12 = (0 : Int32) then ((let r21 := (f_X7_isWord σ 17); if r21 = (0 : Int32) then ((let r30 := (f_X7_isWord σ 18); if r30 = (0 : Int32) then ((let r39 := (f_X7_isWord σ 19); if r39 = (0 : Int32) then ((let r48 := (f_X7_isWord σ 20); if r48 = (0 : Int32) then ((let r57 := (f_X7_isWord σ 21); if r57 = (0 : Int32) then ((let r66 := (f_X7_isWord σ 22); if r66 = (0 : Int32) then ((let r75 := (f_X7_isWord σ 23); if r75 = (0 : Int32) then ((0 : Int32)) else ((1 : Int32)))) else ((1 : Int32)))) else ((1 : Int32)))) else ((1 : Int32)))) else ((1 : Int32)))) else ((1 : Int32)))) else ((1 : Int32)))) else ((1 : Int32)))) else ((1 : Int32))); let t0_86 := z86_; (let r90 := (f_X7_isWord σ 24); (let z137_ : Int32 := (if r90 = (0 : Int32) then ((let r99 := (f_X7_isWord σ 25); if r99 = (0 : Int32) then ((let r108 := (f_X7_isWord σ 26); if r108 = (0 : Int32) then ((let r117 := (f_X7_isWord σ 27); if r117 = (0 : Int32) then ((let r126 := (f_X7_isWord σ 28); if r126 = (0 : Int32) then ((0 : Int32)) else ((1 : Int32)))) else ((1 : Int32)))) else ((1 : Int32)))) else ((1 : Int32)))) else ((1 : Int32))); let t0_137 := z137_; if t0_86 = (0 : Int32) then (if t0_137 = (0 : Int32) then ((let r147 := (f_X7_acts σ); if (0 : Int32) ≤ r147 then ((1 : Int32)) else ((let r154 := (f_X7_tests σ); if (0 : Int32) ≤ r154 then ((1 : Int32)) else ((let r161 := (f_X7_splits σ); if (0 : Int32) ≤ r161 then ((1 : Int32)) else ((let r168 := (f_X7_laws σ); if r168 < (0 : Int32) then ((0 : Int32)) else ((1 : Int32)))))))))) else ((1 : Int32))) else ((1 : Int32))))))
set_option maxHeartbeats 4000000 in
set_option maxRecDepth 100000 in
theorem k_X7_isKept (l : Launch) (g : GR) (σ : MS × MS) (hs9 : 0 ≤ (gi (own σ) 0).toInt ∧ (gi (own σ) 0).toInt ≤ 900) (hbe : 0 ≤ (gi (own σ) 2).toInt ∧ (gi (own σ) 2).toInt ≤ (gi (own σ) 0).toInt) (hab : 0 ≤ (gi (own σ) 1).toInt ∧ (gi (own σ) 1).toInt ≤ (gi (own σ) 2).toInt) : Met l yX7_isKept (ws_ yX7_isKept cX7_isKept 3 (some .boolean)) ({ frames := 6, cells := 0, slots := 0, locals := 127 } : Room) (wPc (dR g) (g.2.1 90) σ []) (wQz (dR g) σ (f_X7_isKept σ) (fun u r => True)) 0 0 (dR g).2.2.2.1 := by
  refine met_W RX7 (by decide) rfl (Nat.le_of_ble_eq_true rfl) ?_
  intro p e s m args below meth c C hr hlocks h ls hl
  have hx := C.1.1
  have hb := C.1.2.1
  have hml := C.1.2.2.1
  have hown := C.1.2.2.2.1
  have hts := C.1.2.2.2.2
  have hl : lv_has ls 3 [(0, .ref (g.2.1 90))] := hl
  have zl0 : (0 : Int32).toInt = 0 := rfl
  have zl1 : (1 : Int32).toInt = 1 := rfl
  refine lv_aload_n hx hb dX7_isKept_0 rfl (lv_at hl 0 rfl) ?_
  refine R_s15 C dX7_isKept_1 ?_
  refine w_callz (ci := 7) (q0 := 6) (As := [.ref (g.2.2.2.1 15).1]) (rest := []) 1 (wXR g) C h (k_X7_isWord l g σ 15 (by first | assumption | omega) (by first | assumption | omega) (by first | assumption | omega) (by first | assumption | omega)) (lw_V q636 q638 qs10 q159 q639) rfl rfl rfl rfl (by decide +kernel) ⟨Nat.le_of_ble_eq_true rfl, Nat.le_of_ble_eq_true rfl⟩ rfl hl.1 rfl (Nat.le_of_ble_eq_true rfl) ⟨Nat.le_of_ble_eq_true rfl, Nat.le_of_ble_eq_true rfl⟩ dX7_isKept_3 (fun r3 σ3 H locs eσ3 er3 br3 hE3 h => ?_)
  rw [eσ3] at h
  have hE3 : (¬ r3 = 0 → (gi (own σ) 1).toInt < (gi (own σ) 2).toInt) := hE3
  have hwl_3 := hE3
  clear eσ3
  have j86 : ∀ (t0_86 : Int32) (H : Heap) (locs : List Loc) (ls : Array Slot) (ej86 : (if r3 = (0 : Int32) then ((let r12 := (f_X7_isWord σ 16); if r12 = (0 : Int32) then ((let r21 := (f_X7_isWord σ 17); if r21 = (0 : Int32) then ((let r30 := (f_X7_isWord σ 18); if r30 = (0 : Int32) then ((let r39 := (f_X7_isWord σ 19); if r39 = (0 : Int32) then ((let r48 := (f_X7_isWord σ 20); if r48 = (0 : Int32) then ((let r57 := (f_X7_isWord σ 21); if r57 = (0 : Int32) then ((let r66 := (f_X7_isWord σ 22); if r66 = (0 : Int32) then ((let r75 := (f_X7_isWord σ 23); if r75 = (0 : Int32) then ((0 : Int32)) else ((1 : Int32)))) else ((1 : Int32)))) else ((1 : Int32)))) else ((1 : Int32)))) else ((1 : Int32)))) else ((1 : Int32)))) else ((1 : Int32)))) else ((1 : Int32)))) else ((1 : Int32))) = t0_86) (bt0_86 : t0_86 = 0 ∨ t0_86 = 1) (h : wH (dR g) σ s H locs) (hl : lv_has ls 3 [(0, .ref (g.2.1 90))]), W p l e ({ frames := 6, cells := 0, slots := 0, locals := 127 } : Room) s m args below meth c H locs 0 0 (MQ below (wQz (dR g) σ (f_X7_isKept σ) (fun u r => True)) args s 0 0 (dR g).2.2.2.1) (F0 m 86 ls [.int t0_86]) := by
    intro t0_86 H locs ls ej86 bt0_86 h hl
    have et0_86 := ej86.symm
    refine lv_istore_n (lv' := [(1, .int t0_86), (0, .ref (g.2.1 90))]) hx hb dX7_isKept_86 rfl hl (by decide) rfl (fun ls hl => ?_)
    refine lv_aload_n hx hb dX7_isKept_87 rfl (lv_at hl 1 rfl) ?_
    refine R_s24 C dX7_isKept_88 ?_
    refine w_callz (ci := 7) (q0 := 6) (As := [.ref (g.2.2.2.1 24).1]) (rest := []) 1 (wXR g) C h (k_X7_isWord l g σ 24 (by first | assumption | omega) (by first | assumption | omega) (by first | assumption | omega) (by first | assumption | omega)) (lw_V q636 q638 qs10 q159 q639) rfl rfl rfl rfl (by decide +kernel) ⟨Nat.le_of_ble_eq_true rfl, Nat.le_of_ble_eq_true rfl⟩ rfl hl.1 rfl (Nat.le_of_ble_eq_true rfl) ⟨Nat.le_of_ble_eq_true rfl, Nat.le_of_ble_eq_true rfl⟩ dX7_isKept_90 (fun r90 σ90 H locs eσ90 er90 br90 hE90 h => ?_)
    rw [eσ90] at h
    have hE90 : (¬ r90 = 0 → (gi (own σ) 1).toInt < (gi (own σ) 2).toInt) := hE90
    have hwl_90 := hE90
    clear eσ90
    have j137 : ∀ (t0_137 : Int32) (H : Heap) (locs : List Loc) (ls : Array Slot) (ej137 : (if r90 = (0 : Int32) then ((let r99 := (f_X7_isWord σ 25); if r99 = (0 : Int32) then ((let r108 := (f_X7_isWord σ 26); if r108 = (0 : Int32) then ((let r117 := (f_X7_isWord σ 27); if r117 = (0 : Int32) then ((let r126 := (f_X7_isWord σ 28); if r126 = (0 : Int32) then ((0 : Int32)) else ((1 : Int32)))) else ((1 : Int32)))) else ((1 : Int32)))) else ((1 : Int32)))) else ((1 : Int32))) = t0_137) (bt0_137 : t0_137 = 0 ∨ t0_137 = 1) (h : wH (dR g) σ s H locs) (hl : lv_has ls 3 [(0, .ref (g.2.1 90)), (1, .int t0_86)]), W p l e ({ frames := 6, cells := 0, slots := 0, locals := 127 } : Room) s m args below meth c H locs 0 0 (MQ below (wQz (dR g) σ (f_X7_isKept σ) (fun u r => True)) args s 0 0 (dR g).2.2.2.1) (F0 m 137 ls [.int t0_137]) := by
      intro t0_137 H locs ls ej137 bt0_137 h hl
      have et0_137 := ej137.symm
      refine lv_istore_n (lv' := [(2, .int t0_137), (0, .ref (g.2.1 90)), (1, .int t0_86)]) hx hb dX7_isKept_137 rfl hl (by decide) rfl (fun ls hl => ?_)
      refine lv_iload_n hx hb dX7_isKept_138 rfl (lv_at hl 2 rfl) ?_
      refine lv_if_ne (tgt := 174) hx hb dX7_isKept_139 (by decide) (fun c139 => ?_) (fun c139 => ?_)
      · have i139 := c_ne c139
        refine lv_iconst (v := 1) hx hb dX7_isKept_174 (by decide) ?_
        refine lv_goto (tgt := 179) hx hb dX7_isKept_175 (by decide) ?_
        have he : f_X7_isKept σ = (1 : Int32) := (by have er3 := er3.symm; subst er3; have et0_86 := et0_86.symm; subst et0_86; have er90 := er90.symm; subst er90; have et0_137 := et0_137.symm; subst et0_137; exact ((if_neg c139).trans rfl))
        exact w_retz (wXR g) C h hr hlocks rfl he (Or.inr rfl) trivial dX7_isKept_179
      · have i139 := c_eq c139
        refine lv_iload_n hx hb dX7_isKept_142 rfl (lv_at hl 0 rfl) ?_
        refine lv_if_ne (tgt := 174) hx hb dX7_isKept_143 (by decide) (fun c143 => ?_) (fun c143 => ?_)
        · have i143 := c_ne c143
          refine lv_iconst (v := 1) hx hb dX7_isKept_174 (by decide) ?_
          refine lv_goto (tgt := 179) hx hb dX7_isKept_175 (by decide) ?_
          have he : f_X7_isKept σ = (1 : Int32) := (by have er3 := er3.symm; subst er3; have et0_86 := et0_86.symm; subst et0_86; have er90 := er90.symm; subst er90; have et0_137 := et0_137.symm; subst et0_137; exact ((if_pos c139).trans ((if_neg c143).trans rfl)))
          exact w_retz (wXR g) C h hr hlocks rfl he (Or.inr rfl) trivial dX7_isKept_179
        · have i143 := c_eq c143
          refine lv_aload_n hx hb dX7_isKept_146 rfl (lv_at hl 1 rfl) ?_
          refine w_calli (ci := 7) (q0 := 6) (As := []) (rest := []) 0 (wXR g) C h (k_X7_acts l g σ (by first | assumption | omega) (by first | assumption | omega) (by first | assumption | omega)) (lw_V q717 q719 qs14 q159 q720) rfl rfl rfl rfl (by decide +kernel) ⟨Nat.le_of_ble_eq_true rfl, Nat.le_of_ble_eq_true rfl⟩ rfl hl.1 rfl (Nat.le_of_ble_eq_true rfl) ⟨Nat.le_of_ble_eq_true rfl, Nat.le_of_ble_eq_true rfl⟩ dX7_isKept_147 (fun r147 σ147 H locs eσ147 er147 hE147 h => ?_)
          rw [eσ147] at h
          have hE147 : (-1 ≤ r147.toInt ∧ r147.toInt ≤ 5) ∧ (0 ≤ r147.toInt → (gi (own σ) 1).toInt < (gi (own σ) 2).toInt) := hE147
          obtain ⟨hrg_147, hpw_147⟩ := hE147
          clear eσ147
          refine lv_if_ge (tgt := 174) hx hb dX7_isKept_150 (by decide) (fun c150 => ?_) (fun c150 => ?_)
          · have i150 := c_le c150
            refine lv_iconst (v := 1) hx hb dX7_isKept_174 (by decide) ?_
            refine lv_goto (tgt := 179) hx hb dX7_isKept_175 (by decide) ?_
            have he : f_X7_isKept σ = (1 : Int32) := (by have er3 := er3.symm; subst er3; have et0_86 := et0_86.symm; subst et0_86; have er90 := er90.symm; subst er90; have et0_137 := et0_137.symm; subst et0_137; have er147 := er147.symm; subst er147; exact ((if_pos c139).trans ((if_pos c143).trans ((if_pos c150).trans rfl))))
            exact w_retz (wXR g) C h hr hlocks rfl he (Or.inr rfl) trivial dX7_isKept_179
          · have i150 := c_nle c150
            refine lv_aload_n hx hb dX7_isKept_153 rfl (lv_at hl 1 rfl) ?_
            refine w_calli (ci := 7) (q0 := 6) (As := []) (rest := []) 0 (wXR g) C h (k_X7_tests l g σ (by first | assumption | omega) (by first | assumption | omega) (by first | assumption | omega)) (lw_V q727 q729 qs15 q159 q730) rfl rfl rfl rfl (by decide +kernel) ⟨Nat.le_of_ble_eq_true rfl, Nat.le_of_ble_eq_true rfl⟩ rfl hl.1 rfl (Nat.le_of_ble_eq_true rfl) ⟨Nat.le_of_ble_eq_true rfl, Nat.le_of_ble_eq_true rfl⟩ dX7_isKept_154 (fun r154 σ154 H locs eσ154 er154 hE154 h => ?_)
            rw [eσ154] at h
            have hE154 : (-1 ≤ r154.toInt ∧ r154.toInt ≤ 2) ∧ (0 ≤ r154.toInt → (gi (own σ) 1).toInt < (gi (own σ) 2).toInt) := hE154
            obtain ⟨hrg_154, hpw_154⟩ := hE154
            clear eσ154
            refine lv_if_ge (tgt := 174) hx hb dX7_isKept_157 (by decide) (fun c157 => ?_) (fun c157 => ?_)
            · have i157 := c_le c157
              refine lv_iconst (v := 1) hx hb dX7_isKept_174 (by decide) ?_
              refine lv_goto (tgt := 179) hx hb dX7_isKept_175 (by decide) ?_
              have he : f_X7_isKept σ = (1 : Int32) := (by have er3 := er3.symm; subst er3; have et0_86 := et0_86.symm; subst et0_86; have er90 := er90.symm; subst er90; have et0_137 := et0_137.symm; subst et0_137; have er147 := er147.symm; subst er147; have er154 := er154.symm; subst er154; exact ((if_pos c139).trans ((if_pos c143).trans ((if_neg c150).trans ((if_pos c157).trans rfl)))))
              exact w_retz (wXR g) C h hr hlocks rfl he (Or.inr rfl) trivial dX7_isKept_179
            · have i157 := c_nle c157
              refine lv_aload_n hx hb dX7_isKept_160 rfl (lv_at hl 1 rfl) ?_
              refine w_calli (ci := 7) (q0 := 6) (As := []) (rest := []) 0 (wXR g) C h (k_X7_splits l g σ (by first | assumption | omega) (by first | assumption | omega) (by first | assumption | omega)) (lw_V q734 q736 qs16 q159 q737) rfl rfl rfl rfl (by decide +kernel) ⟨Nat.le_of_ble_eq_true rfl, Nat.le_of_ble_eq_true rfl⟩ rfl hl.1 rfl (Nat.le_of_ble_eq_true rfl) ⟨Nat.le_of_ble_eq_true rfl, Nat.le_of_ble_eq_true rfl⟩ dX7_isKept_161 (fun r161 σ161 H locs eσ161 er161 hE161 h => ?_)
              rw [eσ161] at h
              have hE161 : (-1 ≤ r161.toInt ∧ r161.toInt ≤ 2) ∧ (0 ≤ r161.toInt → (gi (own σ) 1).toInt < (gi (own σ) 2).toInt) := hE161
              obtain ⟨hrg_161, hpw_161⟩ := hE161
              clear eσ161
              refine lv_if_ge (tgt := 174) hx hb dX7_isKept_164 (by decide) (fun c164 => ?_) (fun c164 => ?_)
              · have i164 := c_le c164
                refine lv_iconst (v := 1) hx hb dX7_isKept_174 (by decide) ?_
                refine lv_goto (tgt := 179) hx hb dX7_isKept_175 (by decide) ?_
                have he : f_X7_isKept σ = (1 : Int32) := (by have er3 := er3.symm; subst er3; have et0_86 := et0_86.symm; subst et0_86; have er90 := er90.symm; subst er90; have et0_137 := et0_137.symm; subst et0_137; have er147 := er147.symm; subst er147; have er154 := er154.symm; subst er154; have er161 := er161.symm; subst er161; exact ((if_pos c139).trans ((if_pos c143).trans ((if_neg c150).trans ((if_neg c157).trans ((if_pos c164).trans rfl))))))
                exact w_retz (wXR g) C h hr hlocks rfl he (Or.inr rfl) trivial dX7_isKept_179
              · have i164 := c_nle c164
                refine lv_aload_n hx hb dX7_isKept_167 rfl (lv_at hl 1 rfl) ?_
                refine w_calli (ci := 7) (q0 := 6) (As := []) (rest := []) 0 (wXR g) C h (k_X7_laws l g σ (by first | assumption | omega) (by first | assumption | omega) (by first | assumption | omega)) (lw_V q741 q743 qs17 q159 q744) rfl rfl rfl rfl (by decide +kernel) ⟨Nat.le_of_ble_eq_true rfl, Nat.le_of_ble_eq_true rfl⟩ rfl hl.1 rfl (Nat.le_of_ble_eq_true rfl) ⟨Nat.le_of_ble_eq_true rfl, Nat.le_of_ble_eq_true rfl⟩ dX7_isKept_168 (fun r168 σ168 H locs eσ168 er168 hE168 h => ?_)
                rw [eσ168] at h
                have hE168 : (-1 ≤ r168.toInt ∧ r168.toInt ≤ 3) ∧ (0 ≤ r168.toInt → (gi (own σ) 1).toInt < (gi (own σ) 2).toInt) := hE168
                obtain ⟨hrg_168, hpw_168⟩ := hE168
                clear eσ168
                refine lv_if_lt (tgt := 178) hx hb dX7_isKept_171 (by decide) (fun c171 => ?_) (fun c171 => ?_)
                · have i171 := c_lt c171
                  refine lv_iconst (v := 0) hx hb dX7_isKept_178 (by decide) ?_
                  have he : f_X7_isKept σ = (0 : Int32) := (by have er3 := er3.symm; subst er3; have et0_86 := et0_86.symm; subst et0_86; have er90 := er90.symm; subst er90; have et0_137 := et0_137.symm; subst et0_137; have er147 := er147.symm; subst er147; have er154 := er154.symm; subst er154; have er161 := er161.symm; subst er161; have er168 := er168.symm; subst er168; exact ((if_pos c139).trans ((if_pos c143).trans ((if_neg c150).trans ((if_neg c157).trans ((if_neg c164).trans ((if_pos c171).trans rfl)))))))
                  exact w_retz (wXR g) C h hr hlocks rfl he (Or.inl rfl) trivial dX7_isKept_179
                · have i171 := c_nlt c171
                  refine lv_iconst (v := 1) hx hb dX7_isKept_174 (by decide) ?_
                  refine lv_goto (tgt := 179) hx hb dX7_isKept_175 (by decide) ?_
                  have he : f_X7_isKept σ = (1 : Int32) := (by have er3 := er3.symm; subst er3; have et0_86 := et0_86.symm; subst et0_86; have er90 := er90.symm; subst er90; have et0_137 := et0_137.symm; subst et0_137; have er147 := er147.symm; subst er147; have er154 := er154.symm; subst er154; have er161 := er161.symm; subst er161; have er168 := er168.symm; subst er168; exact ((if_pos c139).trans ((if_pos c143).trans ((if_neg c150).trans ((if_neg c157).trans ((if_neg c164).trans ((if_neg c171).trans rfl)))))))
                  exact w_retz (wXR g) C h hr hlocks rfl he (Or.inr rfl) trivial dX7_isKept_179
    refine lv_if_ne (tgt := 132) hx hb dX7_isKept_93 (by decide) (fun c93 => ?_) (fun c93 => ?_)
    · have i93 := c_ne c93
      have okr90 := hwl_90 c93
      refine lv_iconst (v := 1) hx hb dX7_isKept_132 (by decide) ?_
      refine lv_goto (tgt := 137) hx hb dX7_isKept_133 (by decide) ?_
      exact j137 _ _ _ _ (by exact ((if_neg c93).trans rfl)) (Or.inr rfl) h (lv_sub hl [1, 0] rfl)
    · have i93 := c_eq c93
      refine lv_aload_n hx hb dX7_isKept_96 rfl (lv_at hl 1 rfl) ?_
      refine R_s25 C dX7_isKept_97 ?_
      refine w_callz (ci := 7) (q0 := 6) (As := [.ref (g.2.2.2.1 25).1]) (rest := []) 1 (wXR g) C h (k_X7_isWord l g σ 25 (by first | assumption | omega) (by first | assumption | omega) (by first | assumption | omega) (by first | assumption | omega)) (lw_V q636 q638 qs10 q159 q639) rfl rfl rfl rfl (by decide +kernel) ⟨Nat.le_of_ble_eq_true rfl, Nat.le_of_ble_eq_true rfl⟩ rfl hl.1 rfl (Nat.le_of_ble_eq_true rfl) ⟨Nat.le_of_ble_eq_true rfl, Nat.le_of_ble_eq_true rfl⟩ dX7_isKept_99 (fun r99 σ99 H locs eσ99 er99 br99 hE99 h => ?_)
      rw [eσ99] at h
      have hE99 : (¬ r99 = 0 → (gi (own σ) 1).toInt < (gi (own σ) 2).toInt) := hE99
      have hwl_99 := hE99
      clear eσ99
      refine lv_if_ne (tgt := 132) hx hb dX7_isKept_102 (by decide) (fun c102 => ?_) (fun c102 => ?_)
      · have i102 := c_ne c102
        have okr99 := hwl_99 c102
        refine lv_iconst (v := 1) hx hb dX7_isKept_132 (by decide) ?_
        refine lv_goto (tgt := 137) hx hb dX7_isKept_133 (by decide) ?_
        exact j137 _ _ _ _ (by have er99 := er99.symm; subst er99; exact ((if_pos c93).trans ((if_neg c102).trans rfl))) (Or.inr rfl) h (lv_sub hl [1, 0] rfl)
      · have i102 := c_eq c102
        refine lv_aload_n hx hb dX7_isKept_105 rfl (lv_at hl 1 rfl) ?_
        refine R_s26 C dX7_isKept_106 ?_
        refine w_callz (ci := 7) (q0 := 6) (As := [.ref (g.2.2.2.1 26).1]) (rest := []) 1 (wXR g) C h (k_X7_isWord l g σ 26 (by first | assumption | omega) (by first | assumption | omega) (by first | assumption | omega) (by first | assumption | omega)) (lw_V q636 q638 qs10 q159 q639) rfl rfl rfl rfl (by decide +kernel) ⟨Nat.le_of_ble_eq_true rfl, Nat.le_of_ble_eq_true rfl⟩ rfl hl.1 rfl (Nat.le_of_ble_eq_true rfl) ⟨Nat.le_of_ble_eq_true rfl, Nat.le_of_ble_eq_true rfl⟩ dX7_isKept_108 (fun r108 σ108 H locs eσ108 er108 br108 hE108 h => ?_)
        rw [eσ108] at h
        have hE108 : (¬ r108 = 0 → (gi (own σ) 1).toInt < (gi (own σ) 2).toInt) := hE108
        have hwl_108 := hE108
        clear eσ108
        refine lv_if_ne (tgt := 132) hx hb dX7_isKept_111 (by decide) (fun c111 => ?_) (fun c111 => ?_)
        · have i111 := c_ne c111
          have okr108 := hwl_108 c111
          refine lv_iconst (v := 1) hx hb dX7_isKept_132 (by decide) ?_
          refine lv_goto (tgt := 137) hx hb dX7_isKept_133 (by decide) ?_
          exact j137 _ _ _ _ (by have er99 := er99.symm; subst er99; have er108 := er108.symm; subst er108; exact ((if_pos c93).trans ((if_pos c102).trans ((if_neg c111).trans rfl)))) (Or.inr rfl) h (lv_sub hl [1, 0] rfl)
        · have i111 := c_eq c111
          refine lv_aload_n hx hb dX7_isKept_114 rfl (lv_at hl 1 rfl) ?_
          refine R_s27 C dX7_isKept_115 ?_
          refine w_callz (ci := 7) (q0 := 6) (As := [.ref (g.2.2.2.1 27).1]) (rest := []) 1 (wXR g) C h (k_X7_isWord l g σ 27 (by first | assumption | omega) (by first | assumption | omega) (by first | assumption | omega) (by first | assumption | omega)) (lw_V q636 q638 qs10 q159 q639) rfl rfl rfl rfl (by decide +kernel) ⟨Nat.le_of_ble_eq_true rfl, Nat.le_of_ble_eq_true rfl⟩ rfl hl.1 rfl (Nat.le_of_ble_eq_true rfl) ⟨Nat.le_of_ble_eq_true rfl, Nat.le_of_ble_eq_true rfl⟩ dX7_isKept_117 (fun r117 σ117 H locs eσ117 er117 br117 hE117 h => ?_)
          rw [eσ117] at h
          have hE117 : (¬ r117 = 0 → (gi (own σ) 1).toInt < (gi (own σ) 2).toInt) := hE117
          have hwl_117 := hE117
          clear eσ117
          refine lv_if_ne (tgt := 132) hx hb dX7_isKept_120 (by decide) (fun c120 => ?_) (fun c120 => ?_)
          · have i120 := c_ne c120
            have okr117 := hwl_117 c120
            refine lv_iconst (v := 1) hx hb dX7_isKept_132 (by decide) ?_
            refine lv_goto (tgt := 137) hx hb dX7_isKept_133 (by decide) ?_
            exact j137 _ _ _ _ (by have er99 := er99.symm; subst er99; have er108 := er108.symm; subst er108; have er117 := er117.symm; subst er117; exact ((if_pos c93).trans ((if_pos c102).trans ((if_pos c111).trans ((if_neg c120).trans rfl))))) (Or.inr rfl) h (lv_sub hl [1, 0] rfl)
          · have i120 := c_eq c120
            refine lv_aload_n hx hb dX7_isKept_123 rfl (lv_at hl 1 rfl) ?_
            refine R_s28 C dX7_isKept_124 ?_
            refine w_callz (ci := 7) (q0 := 6) (As := [.ref (g.2.2.2.1 28).1]) (rest := []) 1 (wXR g) C h (k_X7_isWord l g σ 28 (by first | assumption | omega) (by first | assumption | omega) (by first | assumption | omega) (by first | assumption | omega)) (lw_V q636 q638 qs10 q159 q639) rfl rfl rfl rfl (by decide +kernel) ⟨Nat.le_of_ble_eq_true rfl, Nat.le_of_ble_eq_true rfl⟩ rfl hl.1 rfl (Nat.le_of_ble_eq_true rfl) ⟨Nat.le_of_ble_eq_true rfl, Nat.le_of_ble_eq_true rfl⟩ dX7_isKept_126 (fun r126 σ126 H locs eσ126 er126 br126 hE126 h => ?_)
            rw [eσ126] at h
            have hE126 : (¬ r126 = 0 → (gi (own σ) 1).toInt < (gi (own σ) 2).toInt) := hE126
            have hwl_126 := hE126
            clear eσ126
            refine lv_if_eq (tgt := 136) hx hb dX7_isKept_129 (by decide) (fun c129 => ?_) (fun c129 => ?_)
            · have i129 := c_eq c129
              refine lv_iconst (v := 0) hx hb dX7_isKept_136 (by decide) ?_
              exact j137 _ _ _ _ (by have er99 := er99.symm; subst er99; have er108 := er108.symm; subst er108; have er117 := er117.symm; subst er117; have er126 := er126.symm; subst er126; exact ((if_pos c93).trans ((if_pos c102).trans ((if_pos c111).trans ((if_pos c120).trans ((if_pos c129).trans rfl)))))) (Or.inl rfl) h (lv_sub hl [1, 0] rfl)
            · have i129 := c_ne c129
              have okr126 := hwl_126 c129
              refine lv_iconst (v := 1) hx hb dX7_isKept_132 (by decide) ?_
              refine lv_goto (tgt := 137) hx hb dX7_isKept_133 (by decide) ?_
              exact j137 _ _ _ _ (by have er99 := er99.symm; subst er99; have er108 := er108.symm; subst er108; have er117 := er117.symm; subst er117; have er126 := er126.symm; subst er126; exact ((if_pos c93).trans ((if_pos c102).trans ((if_pos c111).trans ((if_pos c120).trans ((if_neg c129).trans rfl)))))) (Or.inr rfl) h (lv_sub hl [1, 0] rfl)
  refine lv_if_ne (tgt := 81) hx hb dX7_isKept_6 (by decide) (fun c6 => ?_) (fun c6 => ?_)
  · have i6 := c_ne c6
    have okr3 := hwl_3 c6
    refine lv_iconst (v := 1) hx hb dX7_isKept_81 (by decide) ?_
    refine lv_goto (tgt := 86) hx hb dX7_isKept_82 (by decide) ?_
    exact j86 _ _ _ _ (by exact ((if_neg c6).trans rfl)) (Or.inr rfl) h hl
  · have i6 := c_eq c6
    refine lv_aload_n hx hb dX7_isKept_9 rfl (lv_at hl 0 rfl) ?_
    refine R_s16 C dX7_isKept_10 ?_
    refine w_callz (ci := 7) (q0 := 6) (As := [.ref (g.2.2.2.1 16).1]) (rest := []) 1 (wXR g) C h (k_X7_isWord l g σ 16 (by first | assumption | omega) (by first | assumption | omega) (by first | assumption | omega) (by first | assumption | omega)) (lw_V q636 q638 qs10 q159 q639) rfl rfl rfl rfl (by decide +kernel) ⟨Nat.le_of_ble_eq_true rfl, Nat.le_of_ble_eq_true rfl⟩ rfl hl.1 rfl (Nat.le_of_ble_eq_true rfl) ⟨Nat.le_of_ble_eq_true rfl, Nat.le_of_ble_eq_true rfl⟩ dX7_isKept_12 (fun r12 σ12 H locs eσ12 er12 br12 hE12 h => ?_)
    rw [eσ12] at h
    have hE12 : (¬ r12 = 0 → (gi (own σ) 1).toInt < (gi (own σ) 2).toInt) := hE12
    have hwl_12 := hE12
    clear eσ12
    refine lv_if_ne (tgt := 81) hx hb dX7_isKept_15 (by decide) (fun c15 => ?_) (fun c15 => ?_)
    · have i15 := c_ne c15
      have okr12 := hwl_12 c15
      refine lv_iconst (v := 1) hx hb dX7_isKept_81 (by decide) ?_
      refine lv_goto (tgt := 86) hx hb dX7_isKept_82 (by decide) ?_
      exact j86 _ _ _ _ (by have er12 := er12.symm; subst er12; exact ((if_pos c6).trans ((if_neg c15).trans rfl))) (Or.inr rfl) h hl
    · have i15 := c_eq c15
      refine lv_aload_n hx hb dX7_isKept_18 rfl (lv_at hl 0 rfl) ?_
      refine R_s17 C dX7_isKept_19 ?_
      refine w_callz (ci := 7) (q0 := 6) (As := [.ref (g.2.2.2.1 17).1]) (rest := []) 1 (wXR g) C h (k_X7_isWord l g σ 17 (by first | assumption | omega) (by first | assumption | omega) (by first | assumption | omega) (by first | assumption | omega)) (lw_V q636 q638 qs10 q159 q639) rfl rfl rfl rfl (by decide +kernel) ⟨Nat.le_of_ble_eq_true rfl, Nat.le_of_ble_eq_true rfl⟩ rfl hl.1 rfl (Nat.le_of_ble_eq_true rfl) ⟨Nat.le_of_ble_eq_true rfl, Nat.le_of_ble_eq_true rfl⟩ dX7_isKept_21 (fun r21 σ21 H locs eσ21 er21 br21 hE21 h => ?_)
      rw [eσ21] at h
      have hE21 : (¬ r21 = 0 → (gi (own σ) 1).toInt < (gi (own σ) 2).toInt) := hE21
      have hwl_21 := hE21
      clear eσ21
      refine lv_if_ne (tgt := 81) hx hb dX7_isKept_24 (by decide) (fun c24 => ?_) (fun c24 => ?_)
      · have i24 := c_ne c24
        have okr21 := hwl_21 c24
        refine lv_iconst (v := 1) hx hb dX7_isKept_81 (by decide) ?_
        refine lv_goto (tgt := 86) hx hb dX7_isKept_82 (by decide) ?_
        exact j86 _ _ _ _ (by have er12 := er12.symm; subst er12; have er21 := er21.symm; subst er21; exact ((if_pos c6).trans ((if_pos c15).trans ((if_neg c24).trans rfl)))) (Or.inr rfl) h hl
      · have i24 := c_eq c24
        refine lv_aload_n hx hb dX7_isKept_27 rfl (lv_at hl 0 rfl) ?_
        refine R_s18 C dX7_isKept_28 ?_
        refine w_callz (ci := 7) (q0 := 6) (As := [.ref (g.2.2.2.1 18).1]) (rest := []) 1 (wXR g) C h (k_X7_isWord l g σ 18 (by first | assumption | omega) (by first | assumption | omega) (by first | assumption | omega) (by first | assumption | omega)) (lw_V q636 q638 qs10 q159 q639) rfl rfl rfl rfl (by decide +kernel) ⟨Nat.le_of_ble_eq_true rfl, Nat.le_of_ble_eq_true rfl⟩ rfl hl.1 rfl (Nat.le_of_ble_eq_true rfl) ⟨Nat.le_of_ble_eq_true rfl, Nat.le_of_ble_eq_true rfl⟩ dX7_isKept_30 (fun r30 σ30 H locs eσ30 er30 br30 hE30 h => ?_)
        rw [eσ30] at h
        have hE30 : (¬ r30 = 0 → (gi (own σ) 1).toInt < (gi (own σ) 2).toInt) := hE30
        have hwl_30 := hE30
        clear eσ30
        refine lv_if_ne (tgt := 81) hx hb dX7_isKept_33 (by decide) (fun c33 => ?_) (fun c33 => ?_)
        · have i33 := c_ne c33
          have okr30 := hwl_30 c33
          refine lv_iconst (v := 1) hx hb dX7_isKept_81 (by decide) ?_
          refine lv_goto (tgt := 86) hx hb dX7_isKept_82 (by decide) ?_
          exact j86 _ _ _ _ (by have er12 := er12.symm; subst er12; have er21 := er21.symm; subst er21; have er30 := er30.symm; subst er30; exact ((if_pos c6).trans ((if_pos c15).trans ((if_pos c24).trans ((if_neg c33).trans rfl))))) (Or.inr rfl) h hl
        · have i33 := c_eq c33
          refine lv_aload_n hx hb dX7_isKept_36 rfl (lv_at hl 0 rfl) ?_
          refine R_s19 C dX7_isKept_37 ?_
          refine w_callz (ci := 7) (q0 := 6) (As := [.ref (g.2.2.2.1 19).1]) (rest := []) 1 (wXR g) C h (k_X7_isWord l g σ 19 (by first | assumption | omega) (by first | assumption | omega) (by first | assumption | omega) (by first | assumption | omega)) (lw_V q636 q638 qs10 q159 q639) rfl rfl rfl rfl (by decide +kernel) ⟨Nat.le_of_ble_eq_true rfl, Nat.le_of_ble_eq_true rfl⟩ rfl hl.1 rfl (Nat.le_of_ble_eq_true rfl) ⟨Nat.le_of_ble_eq_true rfl, Nat.le_of_ble_eq_true rfl⟩ dX7_isKept_39 (fun r39 σ39 H locs eσ39 er39 br39 hE39 h => ?_)
          rw [eσ39] at h
          have hE39 : (¬ r39 = 0 → (gi (own σ) 1).toInt < (gi (own σ) 2).toInt) := hE39
          have hwl_39 := hE39
          clear eσ39
          refine lv_if_ne (tgt := 81) hx hb dX7_isKept_42 (by decide) (fun c42 => ?_) (fun c42 => ?_)
          · have i42 := c_ne c42
            have okr39 := hwl_39 c42
            refine lv_iconst (v := 1) hx hb dX7_isKept_81 (by decide) ?_
            refine lv_goto (tgt := 86) hx hb dX7_isKept_82 (by decide) ?_
            exact j86 _ _ _ _ (by have er12 := er12.symm; subst er12; have er21 := er21.symm; subst er21; have er30 := er30.symm; subst er30; have er39 := er39.symm; subst er39; exact ((if_pos c6).trans ((if_pos c15).trans ((if_pos c24).trans ((if_pos c33).trans ((if_neg c42).trans rfl)))))) (Or.inr rfl) h hl
          · have i42 := c_eq c42
            refine lv_aload_n hx hb dX7_isKept_45 rfl (lv_at hl 0 rfl) ?_
            refine R_s20 C dX7_isKept_46 ?_
            refine w_callz (ci := 7) (q0 := 6) (As := [.ref (g.2.2.2.1 20).1]) (rest := []) 1 (wXR g) C h (k_X7_isWord l g σ 20 (by first | assumption | omega) (by first | assumption | omega) (by first | assumption | omega) (by first | assumption | omega)) (lw_V q636 q638 qs10 q159 q639) rfl rfl rfl rfl (by decide +kernel) ⟨Nat.le_of_ble_eq_true rfl, Nat.le_of_ble_eq_true rfl⟩ rfl hl.1 rfl (Nat.le_of_ble_eq_true rfl) ⟨Nat.le_of_ble_eq_true rfl, Nat.le_of_ble_eq_true rfl⟩ dX7_isKept_48 (fun r48 σ48 H locs eσ48 er48 br48 hE48 h => ?_)
            rw [eσ48] at h
            have hE48 : (¬ r48 = 0 → (gi (own σ) 1).toInt < (gi (own σ) 2).toInt) := hE48
            have hwl_48 := hE48
            clear eσ48
            refine lv_if_ne (tgt := 81) hx hb dX7_isKept_51 (by decide) (fun c51 => ?_) (fun c51 => ?_)
            · have i51 := c_ne c51
              have okr48 := hwl_48 c51
              refine lv_iconst (v := 1) hx hb dX7_isKept_81 (by decide) ?_
              refine lv_goto (tgt := 86) hx hb dX7_isKept_82 (by decide) ?_
              exact j86 _ _ _ _ (by have er12 := er12.symm; subst er12; have er21 := er21.symm; subst er21; have er30 := er30.symm; subst er30; have er39 := er39.symm; subst er39; have er48 := er48.symm; subst er48; exact ((if_pos c6).trans ((if_pos c15).trans ((if_pos c24).trans ((if_pos c33).trans ((if_pos c42).trans ((if_neg c51).trans rfl))))))) (Or.inr rfl) h hl
            · have i51 := c_eq c51
              refine lv_aload_n hx hb dX7_isKept_54 rfl (lv_at hl 0 rfl) ?_
              refine R_s21 C dX7_isKept_55 ?_
              refine w_callz (ci := 7) (q0 := 6) (As := [.ref (g.2.2.2.1 21).1]) (rest := []) 1 (wXR g) C h (k_X7_isWord l g σ 21 (by first | assumption | omega) (by first | assumption | omega) (by first | assumption | omega) (by first | assumption | omega)) (lw_V q636 q638 qs10 q159 q639) rfl rfl rfl rfl (by decide +kernel) ⟨Nat.le_of_ble_eq_true rfl, Nat.le_of_ble_eq_true rfl⟩ rfl hl.1 rfl (Nat.le_of_ble_eq_true rfl) ⟨Nat.le_of_ble_eq_true rfl, Nat.le_of_ble_eq_true rfl⟩ dX7_isKept_57 (fun r57 σ57 H locs eσ57 er57 br57 hE57 h => ?_)
              rw [eσ57] at h
              have hE57 : (¬ r57 = 0 → (gi (own σ) 1).toInt < (gi (own σ) 2).toInt) := hE57
              have hwl_57 := hE57
              clear eσ57
              refine lv_if_ne (tgt := 81) hx hb dX7_isKept_60 (by decide) (fun c60 => ?_) (fun c60 => ?_)
              · have i60 := c_ne c60
                have okr57 := hwl_57 c60
                refine lv_iconst (v := 1) hx hb dX7_isKept_81 (by decide) ?_
                refine lv_goto (tgt := 86) hx hb dX7_isKept_82 (by decide) ?_
                exact j86 _ _ _ _ (by have er12 := er12.symm; subst er12; have er21 := er21.symm; subst er21; have er30 := er30.symm; subst er30; have er39 := er39.symm; subst er39; have er48 := er48.symm; subst er48; have er57 := er57.symm; subst er57; exact ((if_pos c6).trans ((if_pos c15).trans ((if_pos c24).trans ((if_pos c33).trans ((if_pos c42).trans ((if_pos c51).trans ((if_neg c60).trans rfl)))))))) (Or.inr rfl) h hl
              · have i60 := c_eq c60
                refine lv_aload_n hx hb dX7_isKept_63 rfl (lv_at hl 0 rfl) ?_
                refine R_s22 C dX7_isKept_64 ?_
                refine w_callz (ci := 7) (q0 := 6) (As := [.ref (g.2.2.2.1 22).1]) (rest := []) 1 (wXR g) C h (k_X7_isWord l g σ 22 (by first | assumption | omega) (by first | assumption | omega) (by first | assumption | omega) (by first | assumption | omega)) (lw_V q636 q638 qs10 q159 q639) rfl rfl rfl rfl (by decide +kernel) ⟨Nat.le_of_ble_eq_true rfl, Nat.le_of_ble_eq_true rfl⟩ rfl hl.1 rfl (Nat.le_of_ble_eq_true rfl) ⟨Nat.le_of_ble_eq_true rfl, Nat.le_of_ble_eq_true rfl⟩ dX7_isKept_66 (fun r66 σ66 H locs eσ66 er66 br66 hE66 h => ?_)
                rw [eσ66] at h
                have hE66 : (¬ r66 = 0 → (gi (own σ) 1).toInt < (gi (own σ) 2).toInt) := hE66
                have hwl_66 := hE66
                clear eσ66
                refine lv_if_ne (tgt := 81) hx hb dX7_isKept_69 (by decide) (fun c69 => ?_) (fun c69 => ?_)
                · have i69 := c_ne c69
                  have okr66 := hwl_66 c69
                  refine lv_iconst (v := 1) hx hb dX7_isKept_81 (by decide) ?_
                  refine lv_goto (tgt := 86) hx hb dX7_isKept_82 (by decide) ?_
                  exact j86 _ _ _ _ (by have er12 := er12.symm; subst er12; have er21 := er21.symm; subst er21; have er30 := er30.symm; subst er30; have er39 := er39.symm; subst er39; have er48 := er48.symm; subst er48; have er57 := er57.symm; subst er57; have er66 := er66.symm; subst er66; exact ((if_pos c6).trans ((if_pos c15).trans ((if_pos c24).trans ((if_pos c33).trans ((if_pos c42).trans ((if_pos c51).trans ((if_pos c60).trans ((if_neg c69).trans rfl))))))))) (Or.inr rfl) h hl
                · have i69 := c_eq c69
                  refine lv_aload_n hx hb dX7_isKept_72 rfl (lv_at hl 0 rfl) ?_
                  refine R_s23 C dX7_isKept_73 ?_
                  refine w_callz (ci := 7) (q0 := 6) (As := [.ref (g.2.2.2.1 23).1]) (rest := []) 1 (wXR g) C h (k_X7_isWord l g σ 23 (by first | assumption | omega) (by first | assumption | omega) (by first | assumption | omega) (by first | assumption | omega)) (lw_V q636 q638 qs10 q159 q639) rfl rfl rfl rfl (by decide +kernel) ⟨Nat.le_of_ble_eq_true rfl, Nat.le_of_ble_eq_true rfl⟩ rfl hl.1 rfl (Nat.le_of_ble_eq_true rfl) ⟨Nat.le_of_ble_eq_true rfl, Nat.le_of_ble_eq_true rfl⟩ dX7_isKept_75 (fun r75 σ75 H locs eσ75 er75 br75 hE75 h => ?_)
                  rw [eσ75] at h
                  have hE75 : (¬ r75 = 0 → (gi (own σ) 1).toInt < (gi (own σ) 2).toInt) := hE75
                  have hwl_75 := hE75
                  clear eσ75
                  refine lv_if_eq (tgt := 85) hx hb dX7_isKept_78 (by decide) (fun c78 => ?_) (fun c78 => ?_)
                  · have i78 := c_eq c78
                    refine lv_iconst (v := 0) hx hb dX7_isKept_85 (by decide) ?_
                    exact j86 _ _ _ _ (by have er12 := er12.symm; subst er12; have er21 := er21.symm; subst er21; have er30 := er30.symm; subst er30; have er39 := er39.symm; subst er39; have er48 := er48.symm; subst er48; have er57 := er57.symm; subst er57; have er66 := er66.symm; subst er66; have er75 := er75.symm; subst er75; exact ((if_pos c6).trans ((if_pos c15).trans ((if_pos c24).trans ((if_pos c33).trans ((if_pos c42).trans ((if_pos c51).trans ((if_pos c60).trans ((if_pos c69).trans ((if_pos c78).trans rfl)))))))))) (Or.inl rfl) h hl
                  · have i78 := c_ne c78
                    have okr75 := hwl_75 c78
                    refine lv_iconst (v := 1) hx hb dX7_isKept_81 (by decide) ?_
                    refine lv_goto (tgt := 86) hx hb dX7_isKept_82 (by decide) ?_
                    exact j86 _ _ _ _ (by have er12 := er12.symm; subst er12; have er21 := er21.symm; subst er21; have er30 := er30.symm; subst er30; have er39 := er39.symm; subst er39; have er48 := er48.symm; subst er48; have er57 := er57.symm; subst er57; have er66 := er66.symm; subst er66; have er75 := er75.symm; subst er75; exact ((if_pos c6).trans ((if_pos c15).trans ((if_pos c24).trans ((if_pos c33).trans ((if_pos c42).trans ((if_pos c51).trans ((if_pos c60).trans ((if_pos c69).trans ((if_neg c78).trans rfl)))))))))) (Or.inr rfl) h hl
