/-! walks of methods by contract, printed by gen/mkwalk.py -/
set_option maxRecDepth 100000
def f_X6_oldOne (σ : MS) (p1 : Int32) (p2 : Int32) (p3 : Int32) : MS × Int32 := (let r3 := (f_X6_isName σ); if r3 = (0 : Int32) then ((let z11 := (f_X6_fails σ (2 : Int32)); let σ11 := z11.1; let r11 := z11.2; (σ11, r11))) else ((let r23 := (f_X6_findHere σ p1 p2); let σ26 := sa σ 0 p3 r23; if (ga σ26 0 p3) = (-1 : Int32) then ((let z39 := (f_X6_fails σ26 (3 : Int32)); let σ39 := z39.1; let r39 := z39.2; (σ39, r39))) else ((let σ44 := (f_X6_ahead σ26); (σ44, (1 : Int32)))))))
set_option maxHeartbeats 4000000 in
set_option maxRecDepth 100000 in
theorem k_X6_oldOne (l : Launch) (g : GE) (σ : MS) (p1 : Int32) (p2 : Int32) (p3 : Int32) (hsz : 0 ≤ (gi σ 11).toInt ∧ (gi σ 11).toInt ≤ 900) (hen : 0 ≤ (gi σ 14).toInt ∧ (gi σ 14).toInt ≤ (gi σ 11).toInt) (hfr : 0 ≤ (gi σ 13).toInt ∧ (gi σ 13).toInt ≤ (gi σ 14).toInt) (htk : Hd (¬ (gi σ 12).toInt = 0 → (gi σ 13).toInt < (gi σ 14).toInt)) (hb0 : 0 ≤ p1.toInt ∧ p1.toInt ≤ 24) (hb1 : p2.toInt ≤ 6) (h3n : 2000 ≤ p3.toInt ∧ p3.toInt < 3000) : Met l yX6_oldOne (ws_ yX6_oldOne cX6_oldOne 4 (some .boolean)) ({ frames := 6, cells := 0, slots := 0, locals := 132 } : Room) (mPc g σ [.int p1, .int p2, .int p3]) (mQz g (f_X6_oldOne σ p1 p2 p3).1 (f_X6_oldOne σ p1 p2 p3).2 (fun u r => (∀ j : Int32, 0 ≤ j.toInt → ¬ j.toInt = p3.toInt → ga u 0 j = ga σ 0 j) ∧ ((gi u 11).toInt = (gi σ 11).toInt) ∧ ((gi σ 13).toInt ≤ (gi u 13).toInt) ∧ (PFr σ u) ∧ (0 ≤ (gi u 11).toInt ∧ (gi u 11).toInt ≤ 900) ∧ (0 ≤ (gi u 14).toInt ∧ (gi u 14).toInt ≤ (gi u 11).toInt) ∧ (0 ≤ (gi u 13).toInt ∧ (gi u 13).toInt ≤ (gi u 14).toInt) ∧ (Hd (¬ (gi u 12).toInt = 0 → (gi u 13).toInt < (gi u 14).toInt)) ∧ (Hd (¬ r.toInt = 0 → 0 ≤ (ga u 0 p3).toInt ∧ (ga u 0 p3).toInt < p2.toInt)) ∧ (Hd (ga u 0 p3 = ga σ 0 p3 ∨ (-1 ≤ (ga u 0 p3).toInt ∧ (ga u 0 p3).toInt ≤ 5))))) 0 0 (mA g) := by
  refine met_M (by decide) rfl (Nat.le_of_ble_eq_true rfl) ?_
  intro p e s m args below meth c C hr hlocks h ls hl
  have hx := C.1.1
  have hb := C.1.2.1
  have hml := C.1.2.2.1
  have hown := C.1.2.2.2.1
  have hts := C.1.2.2.2.2
  have hl : lv_has ls 4 [(0, .ref (g.2.1 99)), (1, .int p1), (2, .int p2), (3, .int p3)] := hl
  have hA2 : ∀ j : Int32, 0 ≤ j.toInt → ¬ j.toInt = p3.toInt → ga σ 0 j = ga σ 0 j := fun _ _ _ => rfl
  have hsm : (gi σ 11).toInt = (gi σ 11).toInt := rfl
  have hmo : (gi σ 13).toInt ≤ (gi σ 13).toInt := Int.le_refl _
  have hFR : PFr σ σ := Fr.rf
  have zlm1 : (-1 : Int32).toInt = -1 := rfl
  have zl0 : (0 : Int32).toInt = 0 := rfl
  have zl1 : (1 : Int32).toInt = 1 := rfl
  have zl2 : (2 : Int32).toInt = 2 := rfl
  have zl3 : (3 : Int32).toInt = 3 := rfl
  refine lv_aload_n hx hb dX6_oldOne_0 rfl (lv_at hl 0 rfl) ?_
  refine M_keys C dX6_oldOne_1 ?_
  refine M_callz (As := [.ref (g.2.1 97)]) (rest := []) 1 C h (k_X6_isName l g σ (by first | assumption | omega) (by first | assumption | omega) (by first | assumption | omega) (by first | assumption | omega)) (lw_V q1746 q1748 qs76 q152 q1749) rfl rfl (by decide +kernel) ⟨Nat.le_of_ble_eq_true rfl, Nat.le_of_ble_eq_true rfl⟩ rfl hl.1 rfl (Nat.le_of_ble_eq_true rfl) ⟨Nat.le_of_ble_eq_true rfl, Nat.le_of_ble_eq_true rfl⟩ dX6_oldOne_3 (fun r3 σ3 H locs eσ3 er3 br3 hE3 h => ?_)
  rw [eσ3] at h
  clear hE3
  clear eσ3
  refine lv_if_ne (tgt := 15) hx hb dX6_oldOne_6 (by decide) (fun c6 => ?_) (fun c6 => ?_)
  · have i6 := c_ne c6
    refine lv_aload_n hx hb dX6_oldOne_15 rfl (lv_at hl 0 rfl) ?_
    refine Mg_0 C h dX6_oldOne_16 ?_
    refine lv_iload_n hx hb dX6_oldOne_19 rfl (lv_at hl 3 rfl) ?_
    refine lv_aload_n hx hb dX6_oldOne_20 rfl (lv_at hl 0 rfl) ?_
    refine lv_iload_n hx hb dX6_oldOne_21 rfl (lv_at hl 1 rfl) ?_
    refine lv_iload_n hx hb dX6_oldOne_22 rfl (lv_at hl 2 rfl) ?_
    refine M_calli (As := [.int p1, .int p2]) (rest := [.int p3, .ref (g.2.1 0)]) 2 C h (k_X6_findHere l g σ p1 p2 (by first | assumption | omega) (by first | assumption | omega) (by first | assumption | omega) (by first | assumption | omega) (by first | assumption | omega) (by first | assumption | omega)) (lw_V q1750 q1752 qs77 q152 q1753) rfl rfl (by decide +kernel) ⟨Nat.le_of_ble_eq_true rfl, Nat.le_of_ble_eq_true rfl⟩ rfl hl.1 rfl (Nat.le_of_ble_eq_true rfl) ⟨Nat.le_of_ble_eq_true rfl, Nat.le_of_ble_eq_true rfl⟩ dX6_oldOne_23 (fun r23 σ23 H locs eσ23 er23 hE23 h => ?_)
    rw [eσ23] at h
    have hE23 : (-1 ≤ r23.toInt ∧ (r23.toInt < p2.toInt ∨ r23.toInt = -1)) := hE23
    have fr_23 := hE23
    clear eσ23
    refine Ms_0 C h (ix_of (rfl : p3.toInt = p3.toInt) (by omega)) dX6_oldOne_26 (fun σ26 H locs eσ26 h => ?_)
    have hNEW : (0 ≤ (gi σ26 11).toInt ∧ (gi σ26 11).toInt ≤ 900) ∧ (0 ≤ (gi σ26 14).toInt ∧ (gi σ26 14).toInt ≤ (gi σ26 11).toInt) ∧ (0 ≤ (gi σ26 13).toInt ∧ (gi σ26 13).toInt ≤ (gi σ26 14).toInt) ∧ (Hd (¬ (gi σ26 12).toInt = 0 → (gi σ26 13).toInt < (gi σ26 14).toInt)) ∧ (∀ j : Int32, 0 ≤ j.toInt → ¬ j.toInt = p3.toInt → ga σ26 0 j = ga σ 0 j) ∧ ((gi σ26 11).toInt = (gi σ 11).toInt) ∧ ((gi σ 13).toInt ≤ (gi σ26 13).toInt) ∧ (PFr σ σ26) := ⟨(by rw [eσ26, ] <;> exact hsz), (by rw [eσ26, ] <;> exact hen), (by rw [eσ26, ] <;> exact hfr), (by rw [eσ26, ] <;> exact htk), (by rw [eσ26]; exact (fun j h0 hj => (ga_sa_ne (rfl : p3.toInt = p3.toInt) rfl (by omega)).trans (hA2 j h0 hj))), (by rw [eσ26, ] <;> exact hsm), (by rw [eσ26, ] <;> exact hmo), (by rw [eσ26]; exact (Fr_sa (rfl : p3.toInt = p3.toInt) (by first | omega | (dsimp only; omega)) (by omega) hFR))⟩
    obtain ⟨hsz, hen, hfr, htk, hA2, hsm, hmo, hFR⟩ := hNEW
    have fo1 : -1 ≤ (ga σ26 0 p3).toInt ∧ ((ga σ26 0 p3).toInt < p2.toInt ∨ (ga σ26 0 p3).toInt = -1) := (by rw [eσ26, ga_sa_eq]; exact fr_23)
    refine lv_aload_n hx hb dX6_oldOne_27 rfl (lv_at hl 0 rfl) ?_
    refine Mg_0 C h dX6_oldOne_28 ?_
    refine lv_iload_n hx hb dX6_oldOne_31 rfl (lv_at hl 3 rfl) ?_
    refine Ml_0 C h (ix_of (rfl : p3.toInt = p3.toInt) (by omega)) dX6_oldOne_32 ?_
    refine lv_iconst (v := -1) hx hb dX6_oldOne_33 (by decide) ?_
    refine lv_icmp_ne (tgt := 43) hx hb dX6_oldOne_34 (by decide) (fun c34 => ?_) (fun c34 => ?_)
    · have i34 := c_ne c34
      have fo2 : 0 ≤ (ga σ26 0 p3).toInt ∧ (ga σ26 0 p3).toInt < p2.toInt := (by omega)
      refine lv_aload_n hx hb dX6_oldOne_43 rfl (lv_at hl 0 rfl) ?_
      refine M_callv (As := []) (rest := []) 0 C h (k_X6_ahead l g σ26 (by first | assumption | omega) (by first | assumption | omega)) (lw_V q1707 q1709 qs69 q152 q1710) rfl rfl (by decide +kernel) ⟨Nat.le_of_ble_eq_true rfl, Nat.le_of_ble_eq_true rfl⟩ rfl hl.1 rfl (Nat.le_of_ble_eq_true rfl) ⟨Nat.le_of_ble_eq_true rfl, Nat.le_of_ble_eq_true rfl⟩ dX6_oldOne_44 (fun σ44 H locs eσ44 hE44 h => ?_)
      have hE44 : (∀ j : Int32, ga σ44 0 j = ga σ26 0 j) ∧ ((gi σ44 11).toInt = (gi σ26 11).toInt) ∧ (PFr σ26 σ44) ∧ (0 ≤ (gi σ44 11).toInt ∧ (gi σ44 11).toInt ≤ 900) ∧ (0 ≤ (gi σ44 14).toInt ∧ (gi σ44 14).toInt ≤ (gi σ44 11).toInt) ∧ (0 ≤ (gi σ44 13).toInt ∧ (gi σ44 13).toInt ≤ (gi σ44 14).toInt) ∧ (Hd (¬ (gi σ44 12).toInt = 0 → (gi σ44 13).toInt < (gi σ44 14).toInt)) ∧ ((gi σ26 14).toInt ≤ (gi σ44 13).toInt) := hE44
      obtain ⟨hA0_44, hsm_44, hFR_44, hsz_44, hen_44, hfr_44, htk_44, hmf_44⟩ := hE44
      have hNEW : (0 ≤ (gi σ44 11).toInt ∧ (gi σ44 11).toInt ≤ 900) ∧ (0 ≤ (gi σ44 14).toInt ∧ (gi σ44 14).toInt ≤ (gi σ44 11).toInt) ∧ (0 ≤ (gi σ44 13).toInt ∧ (gi σ44 13).toInt ≤ (gi σ44 14).toInt) ∧ (Hd (¬ (gi σ44 12).toInt = 0 → (gi σ44 13).toInt < (gi σ44 14).toInt)) ∧ (∀ j : Int32, 0 ≤ j.toInt → ¬ j.toInt = p3.toInt → ga σ44 0 j = ga σ 0 j) ∧ ((gi σ44 11).toInt = (gi σ 11).toInt) ∧ ((gi σ 13).toInt ≤ (gi σ44 13).toInt) ∧ (PFr σ σ44) ∧ (-1 ≤ (ga σ44 0 p3).toInt ∧ ((ga σ44 0 p3).toInt < p2.toInt ∨ (ga σ44 0 p3).toInt = -1)) ∧ (0 ≤ (ga σ44 0 p3).toInt ∧ (ga σ44 0 p3).toInt < p2.toInt) := ⟨(by first | assumption | omega), (by first | assumption | omega), (by first | assumption | omega), (by first | assumption | omega), (fun j h0 hj => (hA0_44 j).trans (hA2 j h0 hj)), (by first | assumption | omega), (by first | assumption | omega), (Fr.tr hFR hFR_44), (by simp only [hA0_44] <;> exact fo1), (by simp only [hA0_44] <;> exact fo2)⟩
      clear hsz hen hfr htk hA2 hsm hmo hFR
      obtain ⟨hsz, hen, hfr, htk, hA2, hsm, hmo, hFR, fo1, fo2⟩ := hNEW
      clear hsm_44 hsz_44 hen_44 hfr_44 htk_44
      refine lv_iconst (v := 1) hx hb dX6_oldOne_47 (by decide) ?_
      have he : f_X6_oldOne σ p1 p2 p3 = (σ44, (1 : Int32)) := (by have er3 := er3.symm; subst er3; have er23 := er23.symm; subst er23; have eσ26 := eσ26.symm; subst eσ26; have eσ44 := eσ44.symm; subst eσ44; exact ((if_neg c6).trans ((if_neg c34).trans rfl)))
      exact M_retz C h hr hlocks (congrArg Prod.fst he) (congrArg Prod.snd he) (Or.inr rfl) ⟨hA2, hsm, hmo, hFR, (by first | assumption | omega | (unfold Hd; omega)), (by first | assumption | omega | (unfold Hd; omega)), (by first | assumption | omega | (unfold Hd; omega)), (by first | assumption | omega | (unfold Hd; omega)), (by first | exact (fun q => absurd zl0 q) | exact (fun _ => fo2) | exact (fun q => absurd fz_11 q) | exact (fun q => absurd fz_39 q)), (by first | exact Or.inr (by omega) | exact Or.inl (hA0_11 p3))⟩ dX6_oldOne_48
    · have i34 := c_eq c34
      refine lv_aload_n hx hb dX6_oldOne_37 rfl (lv_at hl 0 rfl) ?_
      refine lv_iconst (v := 3) hx hb dX6_oldOne_38 (by decide) ?_
      refine M_callz (As := [.int (3 : Int32)]) (rest := []) 1 C h (k_X6_fails l g σ26 (3 : Int32) (by first | assumption | omega) (by first | assumption | omega) (by first | assumption | omega) (by first | assumption | omega)) (lw_V q1742 q1744 qs75 q152 q1745) rfl rfl (by decide +kernel) ⟨Nat.le_of_ble_eq_true rfl, Nat.le_of_ble_eq_true rfl⟩ rfl hl.1 rfl (Nat.le_of_ble_eq_true rfl) ⟨Nat.le_of_ble_eq_true rfl, Nat.le_of_ble_eq_true rfl⟩ dX6_oldOne_39 (fun r39 σ39 H locs eσ39 er39 br39 hE39 h => ?_)
      have hE39 : (∀ j : Int32, ga σ39 0 j = ga σ26 0 j) ∧ ((gi σ39 11).toInt = (gi σ26 11).toInt) ∧ ((gi σ26 13).toInt ≤ (gi σ39 13).toInt) ∧ (PFr σ26 σ39) ∧ (0 ≤ (gi σ39 11).toInt ∧ (gi σ39 11).toInt ≤ 900) ∧ (0 ≤ (gi σ39 14).toInt ∧ (gi σ39 14).toInt ≤ (gi σ39 11).toInt) ∧ (0 ≤ (gi σ39 13).toInt ∧ (gi σ39 13).toInt ≤ (gi σ39 14).toInt) ∧ (Hd (¬ (gi σ39 12).toInt = 0 → (gi σ39 13).toInt < (gi σ39 14).toInt)) ∧ (r39.toInt = 0) := hE39
      obtain ⟨hA0_39, hsm_39, hmo_39, hFR_39, hsz_39, hen_39, hfr_39, htk_39, fz_39⟩ := hE39
      have hNEW : (0 ≤ (gi σ39 11).toInt ∧ (gi σ39 11).toInt ≤ 900) ∧ (0 ≤ (gi σ39 14).toInt ∧ (gi σ39 14).toInt ≤ (gi σ39 11).toInt) ∧ (0 ≤ (gi σ39 13).toInt ∧ (gi σ39 13).toInt ≤ (gi σ39 14).toInt) ∧ (Hd (¬ (gi σ39 12).toInt = 0 → (gi σ39 13).toInt < (gi σ39 14).toInt)) ∧ (∀ j : Int32, 0 ≤ j.toInt → ¬ j.toInt = p3.toInt → ga σ39 0 j = ga σ 0 j) ∧ ((gi σ39 11).toInt = (gi σ 11).toInt) ∧ ((gi σ 13).toInt ≤ (gi σ39 13).toInt) ∧ (PFr σ σ39) ∧ (-1 ≤ (ga σ39 0 p3).toInt ∧ ((ga σ39 0 p3).toInt < p2.toInt ∨ (ga σ39 0 p3).toInt = -1)) := ⟨(by first | assumption | omega), (by first | assumption | omega), (by first | assumption | omega), (by first | assumption | omega), (fun j h0 hj => (hA0_39 j).trans (hA2 j h0 hj)), (by first | assumption | omega), (by first | assumption | omega), (Fr.tr hFR hFR_39), (by simp only [hA0_39] <;> exact fo1)⟩
      clear hsz hen hfr htk hA2 hsm hmo hFR
      obtain ⟨hsz, hen, hfr, htk, hA2, hsm, hmo, hFR, fo1⟩ := hNEW
      clear hsm_39 hmo_39 hsz_39 hen_39 hfr_39 htk_39
      have he : f_X6_oldOne σ p1 p2 p3 = (σ39, r39) := (by have er3 := er3.symm; subst er3; have er23 := er23.symm; subst er23; have eσ26 := eσ26.symm; subst eσ26; have eσ39 := eσ39.symm; subst eσ39; have er39 := er39.symm; subst er39; exact ((if_neg c6).trans ((if_pos c34).trans rfl)))
      exact M_retz C h hr hlocks (congrArg Prod.fst he) (congrArg Prod.snd he) br39 ⟨hA2, hsm, hmo, hFR, (by first | assumption | omega | (unfold Hd; omega)), (by first | assumption | omega | (unfold Hd; omega)), (by first | assumption | omega | (unfold Hd; omega)), (by first | assumption | omega | (unfold Hd; omega)), (by first | exact (fun q => absurd zl0 q) | exact (fun _ => fo2) | exact (fun q => absurd fz_11 q) | exact (fun q => absurd fz_39 q)), (by first | exact Or.inr (by omega) | exact Or.inl (hA0_11 p3))⟩ dX6_oldOne_42
  · have i6 := c_eq c6
    refine lv_aload_n hx hb dX6_oldOne_9 rfl (lv_at hl 0 rfl) ?_
    refine lv_iconst (v := 2) hx hb dX6_oldOne_10 (by decide) ?_
    refine M_callz (As := [.int (2 : Int32)]) (rest := []) 1 C h (k_X6_fails l g σ (2 : Int32) (by first | assumption | omega) (by first | assumption | omega) (by first | assumption | omega) (by first | assumption | omega)) (lw_V q1742 q1744 qs75 q152 q1745) rfl rfl (by decide +kernel) ⟨Nat.le_of_ble_eq_true rfl, Nat.le_of_ble_eq_true rfl⟩ rfl hl.1 rfl (Nat.le_of_ble_eq_true rfl) ⟨Nat.le_of_ble_eq_true rfl, Nat.le_of_ble_eq_true rfl⟩ dX6_oldOne_11 (fun r11 σ11 H locs eσ11 er11 br11 hE11 h => ?_)
    have hE11 : (∀ j : Int32, ga σ11 0 j = ga σ 0 j) ∧ ((gi σ11 11).toInt = (gi σ 11).toInt) ∧ ((gi σ 13).toInt ≤ (gi σ11 13).toInt) ∧ (PFr σ σ11) ∧ (0 ≤ (gi σ11 11).toInt ∧ (gi σ11 11).toInt ≤ 900) ∧ (0 ≤ (gi σ11 14).toInt ∧ (gi σ11 14).toInt ≤ (gi σ11 11).toInt) ∧ (0 ≤ (gi σ11 13).toInt ∧ (gi σ11 13).toInt ≤ (gi σ11 14).toInt) ∧ (Hd (¬ (gi σ11 12).toInt = 0 → (gi σ11 13).toInt < (gi σ11 14).toInt)) ∧ (r11.toInt = 0) := hE11
    obtain ⟨hA0_11, hsm_11, hmo_11, hFR_11, hsz_11, hen_11, hfr_11, htk_11, fz_11⟩ := hE11
    have hNEW : (0 ≤ (gi σ11 11).toInt ∧ (gi σ11 11).toInt ≤ 900) ∧ (0 ≤ (gi σ11 14).toInt ∧ (gi σ11 14).toInt ≤ (gi σ11 11).toInt) ∧ (0 ≤ (gi σ11 13).toInt ∧ (gi σ11 13).toInt ≤ (gi σ11 14).toInt) ∧ (Hd (¬ (gi σ11 12).toInt = 0 → (gi σ11 13).toInt < (gi σ11 14).toInt)) ∧ (∀ j : Int32, 0 ≤ j.toInt → ¬ j.toInt = p3.toInt → ga σ11 0 j = ga σ 0 j) ∧ ((gi σ11 11).toInt = (gi σ 11).toInt) ∧ ((gi σ 13).toInt ≤ (gi σ11 13).toInt) ∧ (PFr σ σ11) := ⟨(by first | assumption | omega), (by first | assumption | omega), (by first | assumption | omega), (by first | assumption | omega), (fun j h0 hj => (hA0_11 j).trans (hA2 j h0 hj)), (by first | assumption | omega), (by first | assumption | omega), (Fr.tr hFR hFR_11)⟩
    obtain ⟨hsz, hen, hfr, htk, hA2, hsm, hmo, hFR⟩ := hNEW
    clear hsm_11 hmo_11 hsz_11 hen_11 hfr_11 htk_11
    have he : f_X6_oldOne σ p1 p2 p3 = (σ11, r11) := (by have er3 := er3.symm; subst er3; have eσ11 := eσ11.symm; subst eσ11; have er11 := er11.symm; subst er11; exact ((if_pos c6).trans rfl))
    exact M_retz C h hr hlocks (congrArg Prod.fst he) (congrArg Prod.snd he) br11 ⟨hA2, hsm, hmo, hFR, (by first | assumption | omega | (unfold Hd; omega)), (by first | assumption | omega | (unfold Hd; omega)), (by first | assumption | omega | (unfold Hd; omega)), (by first | assumption | omega | (unfold Hd; omega)), (by first | exact (fun q => absurd zl0 q) | exact (fun _ => fo2) | exact (fun q => absurd fz_11 q) | exact (fun q => absurd fz_39 q)), (by first | exact Or.inr (by omega) | exact Or.inl (hA0_11 p3))⟩ dX6_oldOne_14
def f_X6_personTo (σ : MS) (p1 : Int32) : MS × Int32 := (let z9 := (f_X6_oldOne σ (0 : Int32) (ga σ 0 (0 : Int32)) p1); let σ9 := z9.1; let r9 := z9.2; (σ9, r9))
set_option maxHeartbeats 4000000 in
set_option maxRecDepth 100000 in
theorem k_X6_personTo (l : Launch) (g : GE) (σ : MS) (p1 : Int32) (hsz : 0 ≤ (gi σ 11).toInt ∧ (gi σ 11).toInt ≤ 900) (hen : 0 ≤ (gi σ 14).toInt ∧ (gi σ 14).toInt ≤ (gi σ 11).toInt) (hfr : 0 ≤ (gi σ 13).toInt ∧ (gi σ 13).toInt ≤ (gi σ 14).toInt) (htk : Hd (¬ (gi σ 12).toInt = 0 → (gi σ 13).toInt < (gi σ 14).toInt)) (hp : 0 ≤ (ga σ 0 (0 : Int32)).toInt ∧ (ga σ 0 (0 : Int32)).toInt ≤ 6) (h1n : 2130 ≤ p1.toInt ∧ p1.toInt < 3000) : Met l yX6_personTo (ws_ yX6_personTo cX6_personTo 2 (some .boolean)) ({ frames := 7, cells := 0, slots := 0, locals := 155 } : Room) (mPc g σ [.int p1]) (mQz g (f_X6_personTo σ p1).1 (f_X6_personTo σ p1).2 (fun u r => ((ga u 0 (0 : Int32)).toInt = (ga σ 0 (0 : Int32)).toInt) ∧ (∀ j : Int32, 0 ≤ j.toInt → ¬ j.toInt = p1.toInt → ga u 0 j = ga σ 0 j) ∧ ((gi u 11).toInt = (gi σ 11).toInt) ∧ ((gi σ 13).toInt ≤ (gi u 13).toInt) ∧ (PFr σ u) ∧ (0 ≤ (gi u 11).toInt ∧ (gi u 11).toInt ≤ 900) ∧ (0 ≤ (gi u 14).toInt ∧ (gi u 14).toInt ≤ (gi u 11).toInt) ∧ (0 ≤ (gi u 13).toInt ∧ (gi u 13).toInt ≤ (gi u 14).toInt) ∧ (Hd (¬ (gi u 12).toInt = 0 → (gi u 13).toInt < (gi u 14).toInt)) ∧ (Hd (¬ r.toInt = 0 → 0 ≤ (ga u 0 p1).toInt ∧ (ga u 0 p1).toInt < (ga σ 0 (0 : Int32)).toInt)))) 0 0 (mA g) := by
  refine met_M (by decide) rfl (Nat.le_of_ble_eq_true rfl) ?_
  intro p e s m args below meth c C hr hlocks h ls hl
  have hx := C.1.1
  have hb := C.1.2.1
  have hml := C.1.2.2.1
  have hown := C.1.2.2.2.1
  have hts := C.1.2.2.2.2
  have hl : lv_has ls 2 [(0, .ref (g.2.1 99)), (1, .int p1)] := hl
  have hpq : (ga σ 0 (0 : Int32)).toInt = (ga σ 0 (0 : Int32)).toInt := rfl
  have hA1 : ∀ j : Int32, 0 ≤ j.toInt → ¬ j.toInt = p1.toInt → ga σ 0 j = ga σ 0 j := fun _ _ _ => rfl
  have hsm : (gi σ 11).toInt = (gi σ 11).toInt := rfl
  have hmo : (gi σ 13).toInt ≤ (gi σ 13).toInt := Int.le_refl _
  have hFR : PFr σ σ := Fr.rf
  have zl0 : (0 : Int32).toInt = 0 := rfl
  have zl0 : (0 : Int32).toInt = 0 := rfl
  refine lv_aload_n hx hb dX6_personTo_0 rfl (lv_at hl 0 rfl) ?_
  refine lv_iconst (v := 0) hx hb dX6_personTo_1 (by decide) ?_
  refine lv_aload_n hx hb dX6_personTo_2 rfl (lv_at hl 0 rfl) ?_
  refine Mg_0 C h dX6_personTo_3 ?_
  refine lv_iconst (v := 0) hx hb dX6_personTo_6 (by decide) ?_
  refine Ml_0 C h (ix_of zl0 (by omega)) dX6_personTo_7 ?_
  refine lv_iload_n hx hb dX6_personTo_8 rfl (lv_at hl 1 rfl) ?_
  refine M_callz (As := [.int (0 : Int32), .int (ga σ 0 (0 : Int32)), .int p1]) (rest := []) 3 C h (k_X6_oldOne l g σ (0 : Int32) (ga σ 0 (0 : Int32)) p1 (by first | assumption | omega) (by first | assumption | omega) (by first | assumption | omega) (by first | assumption | omega) (by first | assumption | omega) (by first | assumption | omega) (by first | assumption | omega)) (lw_V q1774 q1776 qs83 q152 q1777) rfl rfl (by decide +kernel) ⟨Nat.le_of_ble_eq_true rfl, Nat.le_of_ble_eq_true rfl⟩ rfl hl.1 rfl (Nat.le_of_ble_eq_true rfl) ⟨Nat.le_of_ble_eq_true rfl, Nat.le_of_ble_eq_true rfl⟩ dX6_personTo_9 (fun r9 σ9 H locs eσ9 er9 br9 hE9 h => ?_)
  have hE9 : (∀ j : Int32, 0 ≤ j.toInt → ¬ j.toInt = p1.toInt → ga σ9 0 j = ga σ 0 j) ∧ ((gi σ9 11).toInt = (gi σ 11).toInt) ∧ ((gi σ 13).toInt ≤ (gi σ9 13).toInt) ∧ (PFr σ σ9) ∧ (0 ≤ (gi σ9 11).toInt ∧ (gi σ9 11).toInt ≤ 900) ∧ (0 ≤ (gi σ9 14).toInt ∧ (gi σ9 14).toInt ≤ (gi σ9 11).toInt) ∧ (0 ≤ (gi σ9 13).toInt ∧ (gi σ9 13).toInt ≤ (gi σ9 14).toInt) ∧ (Hd (¬ (gi σ9 12).toInt = 0 → (gi σ9 13).toInt < (gi σ9 14).toInt)) ∧ (Hd (¬ r9.toInt = 0 → 0 ≤ (ga σ9 0 p1).toInt ∧ (ga σ9 0 p1).toInt < (ga σ 0 (0 : Int32)).toInt)) ∧ (Hd (ga σ9 0 p1 = ga σ 0 p1 ∨ (-1 ≤ (ga σ9 0 p1).toInt ∧ (ga σ9 0 p1).toInt ≤ 5))) := hE9
  obtain ⟨hA2_9, hsm_9, hmo_9, hFR_9, hsz_9, hen_9, hfr_9, htk_9, fo_9, fw_9⟩ := hE9
  have hNEW : (0 ≤ (gi σ9 11).toInt ∧ (gi σ9 11).toInt ≤ 900) ∧ (0 ≤ (gi σ9 14).toInt ∧ (gi σ9 14).toInt ≤ (gi σ9 11).toInt) ∧ (0 ≤ (gi σ9 13).toInt ∧ (gi σ9 13).toInt ≤ (gi σ9 14).toInt) ∧ (Hd (¬ (gi σ9 12).toInt = 0 → (gi σ9 13).toInt < (gi σ9 14).toInt)) ∧ (0 ≤ (ga σ9 0 (0 : Int32)).toInt ∧ (ga σ9 0 (0 : Int32)).toInt ≤ 6) ∧ ((ga σ9 0 (0 : Int32)).toInt = (ga σ 0 (0 : Int32)).toInt) ∧ (∀ j : Int32, 0 ≤ j.toInt → ¬ j.toInt = p1.toInt → ga σ9 0 j = ga σ 0 j) ∧ ((gi σ9 11).toInt = (gi σ 11).toInt) ∧ ((gi σ 13).toInt ≤ (gi σ9 13).toInt) ∧ (PFr σ σ9) := ⟨(by first | assumption | omega), (by first | assumption | omega), (by first | assumption | omega), (by first | assumption | omega), (by rw [hA2_9 0 (by omega) (by omega)]; exact hp), (by rw [hA2_9 0 (by omega) (by omega)]), (fun j h0 hj => (hA2_9 j h0 hj).trans (hA1 j h0 hj)), (by first | assumption | omega), (by first | assumption | omega), (Fr.tr hFR hFR_9)⟩
  obtain ⟨hsz, hen, hfr, htk, hp, hpq, hA1, hsm, hmo, hFR⟩ := hNEW
  clear hsm_9 hmo_9 hsz_9 hen_9 hfr_9 htk_9
  have he : f_X6_personTo σ p1 = (σ9, r9) := (by have eσ9 := eσ9.symm; subst eσ9; have er9 := er9.symm; subst er9; exact rfl)
  exact M_retz C h hr hlocks (congrArg Prod.fst he) (congrArg Prod.snd he) br9 ⟨hpq, hA1, hsm, hmo, hFR, (by first | assumption | omega | (unfold Hd; omega)), (by first | assumption | omega | (unfold Hd; omega)), (by first | assumption | omega | (unfold Hd; omega)), (by first | assumption | omega | (unfold Hd; omega)), (by first | assumption | omega | (unfold Hd; omega))⟩ dX6_personTo_12
def f_X6_otherOne (σ : MS) (p1 : Int32) (p2 : Int32) (p3 : Int32) (p4 : Int32) : MS × Int32 := (let r3 := (f_X6_isName σ); if r3 = (0 : Int32) then ((let z35 := (f_X6_oldOne σ p1 p2 p4); let σ35 := z35.1; let r35 := z35.2; (σ35, r35))) else ((let r12 := (f_X6_findHere σ p1 p2); if r12 = (ga σ 0 p3) then ((let z26 := (f_X6_fails σ (5 : Int32)); let σ26 := z26.1; let r26 := z26.2; (σ26, r26))) else ((let z35 := (f_X6_oldOne σ p1 p2 p4); let σ35 := z35.1; let r35 := z35.2; (σ35, r35))))))
set_option maxHeartbeats 4000000 in
set_option maxRecDepth 100000 in
theorem k_X6_otherOne (l : Launch) (g : GE) (σ : MS) (p1 : Int32) (p2 : Int32) (p3 : Int32) (p4 : Int32) (hsz : 0 ≤ (gi σ 11).toInt ∧ (gi σ 11).toInt ≤ 900) (hen : 0 ≤ (gi σ 14).toInt ∧ (gi σ 14).toInt ≤ (gi σ 11).toInt) (hfr : 0 ≤ (gi σ 13).toInt ∧ (gi σ 13).toInt ≤ (gi σ 14).toInt) (htk : Hd (¬ (gi σ 12).toInt = 0 → (gi σ 13).toInt < (gi σ 14).toInt)) (hb0 : 0 ≤ p1.toInt ∧ p1.toInt ≤ 24) (hb1 : p2.toInt ≤ 6) (h3n : 0 ≤ p3.toInt ∧ p3.toInt < 3000) (h4n : 2000 ≤ p4.toInt ∧ p4.toInt < 3000) : Met l yX6_otherOne (ws_ yX6_otherOne cX6_otherOne 5 (some .boolean)) ({ frames := 7, cells := 0, slots := 0, locals := 155 } : Room) (mPc g σ [.int p1, .int p2, .int p3, .int p4]) (mQz g (f_X6_otherOne σ p1 p2 p3 p4).1 (f_X6_otherOne σ p1 p2 p3 p4).2 (fun u r => (∀ j : Int32, 0 ≤ j.toInt → ¬ j.toInt = p4.toInt → ga u 0 j = ga σ 0 j) ∧ ((gi u 11).toInt = (gi σ 11).toInt) ∧ ((gi σ 13).toInt ≤ (gi u 13).toInt) ∧ (PFr σ u) ∧ (0 ≤ (gi u 11).toInt ∧ (gi u 11).toInt ≤ 900) ∧ (0 ≤ (gi u 14).toInt ∧ (gi u 14).toInt ≤ (gi u 11).toInt) ∧ (0 ≤ (gi u 13).toInt ∧ (gi u 13).toInt ≤ (gi u 14).toInt) ∧ (Hd (¬ (gi u 12).toInt = 0 → (gi u 13).toInt < (gi u 14).toInt)) ∧ (Hd (¬ r.toInt = 0 → 0 ≤ (ga u 0 p4).toInt ∧ (ga u 0 p4).toInt < p2.toInt)))) 0 0 (mA g) := by
  refine met_M (by decide) rfl (Nat.le_of_ble_eq_true rfl) ?_
  intro p e s m args below meth c C hr hlocks h ls hl
  have hx := C.1.1
  have hb := C.1.2.1
  have hml := C.1.2.2.1
  have hown := C.1.2.2.2.1
  have hts := C.1.2.2.2.2
  have hl : lv_has ls 5 [(0, .ref (g.2.1 99)), (1, .int p1), (2, .int p2), (3, .int p3), (4, .int p4)] := hl
  have hA4 : ∀ j : Int32, 0 ≤ j.toInt → ¬ j.toInt = p4.toInt → ga σ 0 j = ga σ 0 j := fun _ _ _ => rfl
  have hsm : (gi σ 11).toInt = (gi σ 11).toInt := rfl
  have hmo : (gi σ 13).toInt ≤ (gi σ 13).toInt := Int.le_refl _
  have hFR : PFr σ σ := Fr.rf
  have zl0 : (0 : Int32).toInt = 0 := rfl
  have zl5 : (5 : Int32).toInt = 5 := rfl
  refine lv_aload_n hx hb dX6_otherOne_0 rfl (lv_at hl 0 rfl) ?_
  refine M_keys C dX6_otherOne_1 ?_
  refine M_callz (As := [.ref (g.2.1 97)]) (rest := []) 1 C h (k_X6_isName l g σ (by first | assumption | omega) (by first | assumption | omega) (by first | assumption | omega) (by first | assumption | omega)) (lw_V q1746 q1748 qs76 q152 q1749) rfl rfl (by decide +kernel) ⟨Nat.le_of_ble_eq_true rfl, Nat.le_of_ble_eq_true rfl⟩ rfl hl.1 rfl (Nat.le_of_ble_eq_true rfl) ⟨Nat.le_of_ble_eq_true rfl, Nat.le_of_ble_eq_true rfl⟩ dX6_otherOne_3 (fun r3 σ3 H locs eσ3 er3 br3 hE3 h => ?_)
  rw [eσ3] at h
  clear hE3
  clear eσ3
  refine lv_if_eq (tgt := 30) hx hb dX6_otherOne_6 (by decide) (fun c6 => ?_) (fun c6 => ?_)
  · have i6 := c_eq c6
    refine lv_aload_n hx hb dX6_otherOne_30 rfl (lv_at hl 0 rfl) ?_
    refine lv_iload_n hx hb dX6_otherOne_31 rfl (lv_at hl 1 rfl) ?_
    refine lv_iload_n hx hb dX6_otherOne_32 rfl (lv_at hl 2 rfl) ?_
    refine lv_iload hx hb dX6_otherOne_33 (lv_at hl 4 rfl) ?_
    refine M_callz (As := [.int p1, .int p2, .int p4]) (rest := []) 3 C h (k_X6_oldOne l g σ p1 p2 p4 (by first | assumption | omega) (by first | assumption | omega) (by first | assumption | omega) (by first | assumption | omega) (by first | assumption | omega) (by first | assumption | omega) (by first | assumption | omega)) (lw_V q1774 q1776 qs83 q152 q1777) rfl rfl (by decide +kernel) ⟨Nat.le_of_ble_eq_true rfl, Nat.le_of_ble_eq_true rfl⟩ rfl hl.1 rfl (Nat.le_of_ble_eq_true rfl) ⟨Nat.le_of_ble_eq_true rfl, Nat.le_of_ble_eq_true rfl⟩ dX6_otherOne_35 (fun r35 σ35 H locs eσ35 er35 br35 hE35 h => ?_)
    have hE35 : (∀ j : Int32, 0 ≤ j.toInt → ¬ j.toInt = p4.toInt → ga σ35 0 j = ga σ 0 j) ∧ ((gi σ35 11).toInt = (gi σ 11).toInt) ∧ ((gi σ 13).toInt ≤ (gi σ35 13).toInt) ∧ (PFr σ σ35) ∧ (0 ≤ (gi σ35 11).toInt ∧ (gi σ35 11).toInt ≤ 900) ∧ (0 ≤ (gi σ35 14).toInt ∧ (gi σ35 14).toInt ≤ (gi σ35 11).toInt) ∧ (0 ≤ (gi σ35 13).toInt ∧ (gi σ35 13).toInt ≤ (gi σ35 14).toInt) ∧ (Hd (¬ (gi σ35 12).toInt = 0 → (gi σ35 13).toInt < (gi σ35 14).toInt)) ∧ (Hd (¬ r35.toInt = 0 → 0 ≤ (ga σ35 0 p4).toInt ∧ (ga σ35 0 p4).toInt < p2.toInt)) ∧ (Hd (ga σ35 0 p4 = ga σ 0 p4 ∨ (-1 ≤ (ga σ35 0 p4).toInt ∧ (ga σ35 0 p4).toInt ≤ 5))) := hE35
    obtain ⟨hA2_35, hsm_35, hmo_35, hFR_35, hsz_35, hen_35, hfr_35, htk_35, fo_35, fw_35⟩ := hE35
    have hNEW : (0 ≤ (gi σ35 11).toInt ∧ (gi σ35 11).toInt ≤ 900) ∧ (0 ≤ (gi σ35 14).toInt ∧ (gi σ35 14).toInt ≤ (gi σ35 11).toInt) ∧ (0 ≤ (gi σ35 13).toInt ∧ (gi σ35 13).toInt ≤ (gi σ35 14).toInt) ∧ (Hd (¬ (gi σ35 12).toInt = 0 → (gi σ35 13).toInt < (gi σ35 14).toInt)) ∧ (∀ j : Int32, 0 ≤ j.toInt → ¬ j.toInt = p4.toInt → ga σ35 0 j = ga σ 0 j) ∧ ((gi σ35 11).toInt = (gi σ 11).toInt) ∧ ((gi σ 13).toInt ≤ (gi σ35 13).toInt) ∧ (PFr σ σ35) := ⟨(by first | assumption | omega), (by first | assumption | omega), (by first | assumption | omega), (by first | assumption | omega), (fun j h0 hj => (hA2_35 j h0 hj).trans (hA4 j h0 hj)), (by first | assumption | omega), (by first | assumption | omega), (Fr.tr hFR hFR_35)⟩
    obtain ⟨hsz, hen, hfr, htk, hA4, hsm, hmo, hFR⟩ := hNEW
    clear hsm_35 hmo_35 hsz_35 hen_35 hfr_35 htk_35
    have he : f_X6_otherOne σ p1 p2 p3 p4 = (σ35, r35) := (by have er3 := er3.symm; subst er3; have eσ35 := eσ35.symm; subst eσ35; have er35 := er35.symm; subst er35; exact ((if_pos c6).trans rfl))
    exact M_retz C h hr hlocks (congrArg Prod.fst he) (congrArg Prod.snd he) br35 ⟨hA4, hsm, hmo, hFR, (by first | assumption | omega | (unfold Hd; omega)), (by first | assumption | omega | (unfold Hd; omega)), (by first | assumption | omega | (unfold Hd; omega)), (by first | assumption | omega | (unfold Hd; omega)), (by first | assumption | omega | (unfold Hd; omega))⟩ dX6_otherOne_38
  · have i6 := c_ne c6
    refine lv_aload_n hx hb dX6_otherOne_9 rfl (lv_at hl 0 rfl) ?_
    refine lv_iload_n hx hb dX6_otherOne_10 rfl (lv_at hl 1 rfl) ?_
    refine lv_iload_n hx hb dX6_otherOne_11 rfl (lv_at hl 2 rfl) ?_
    refine M_calli (As := [.int p1, .int p2]) (rest := []) 2 C h (k_X6_findHere l g σ p1 p2 (by first | assumption | omega) (by first | assumption | omega) (by first | assumption | omega) (by first | assumption | omega) (by first | assumption | omega) (by first | assumption | omega)) (lw_V q1750 q1752 qs77 q152 q1753) rfl rfl (by decide +kernel) ⟨Nat.le_of_ble_eq_true rfl, Nat.le_of_ble_eq_true rfl⟩ rfl hl.1 rfl (Nat.le_of_ble_eq_true rfl) ⟨Nat.le_of_ble_eq_true rfl, Nat.le_of_ble_eq_true rfl⟩ dX6_otherOne_12 (fun r12 σ12 H locs eσ12 er12 hE12 h => ?_)
    rw [eσ12] at h
    have hE12 : (-1 ≤ r12.toInt ∧ (r12.toInt < p2.toInt ∨ r12.toInt = -1)) := hE12
    have fr_12 := hE12
    clear eσ12
    refine lv_aload_n hx hb dX6_otherOne_15 rfl (lv_at hl 0 rfl) ?_
    refine Mg_0 C h dX6_otherOne_16 ?_
    refine lv_iload_n hx hb dX6_otherOne_19 rfl (lv_at hl 3 rfl) ?_
    refine Ml_0 C h (ix_of (rfl : p3.toInt = p3.toInt) (by omega)) dX6_otherOne_20 ?_
    refine lv_icmp_ne (tgt := 30) hx hb dX6_otherOne_21 (by decide) (fun c21 => ?_) (fun c21 => ?_)
    · have i21 := c_ne c21
      refine lv_aload_n hx hb dX6_otherOne_30 rfl (lv_at hl 0 rfl) ?_
      refine lv_iload_n hx hb dX6_otherOne_31 rfl (lv_at hl 1 rfl) ?_
      refine lv_iload_n hx hb dX6_otherOne_32 rfl (lv_at hl 2 rfl) ?_
      refine lv_iload hx hb dX6_otherOne_33 (lv_at hl 4 rfl) ?_
      refine M_callz (As := [.int p1, .int p2, .int p4]) (rest := []) 3 C h (k_X6_oldOne l g σ p1 p2 p4 (by first | assumption | omega) (by first | assumption | omega) (by first | assumption | omega) (by first | assumption | omega) (by first | assumption | omega) (by first | assumption | omega) (by first | assumption | omega)) (lw_V q1774 q1776 qs83 q152 q1777) rfl rfl (by decide +kernel) ⟨Nat.le_of_ble_eq_true rfl, Nat.le_of_ble_eq_true rfl⟩ rfl hl.1 rfl (Nat.le_of_ble_eq_true rfl) ⟨Nat.le_of_ble_eq_true rfl, Nat.le_of_ble_eq_true rfl⟩ dX6_otherOne_35 (fun r35 σ35 H locs eσ35 er35 br35 hE35 h => ?_)
      have hE35 : (∀ j : Int32, 0 ≤ j.toInt → ¬ j.toInt = p4.toInt → ga σ35 0 j = ga σ 0 j) ∧ ((gi σ35 11).toInt = (gi σ 11).toInt) ∧ ((gi σ 13).toInt ≤ (gi σ35 13).toInt) ∧ (PFr σ σ35) ∧ (0 ≤ (gi σ35 11).toInt ∧ (gi σ35 11).toInt ≤ 900) ∧ (0 ≤ (gi σ35 14).toInt ∧ (gi σ35 14).toInt ≤ (gi σ35 11).toInt) ∧ (0 ≤ (gi σ35 13).toInt ∧ (gi σ35 13).toInt ≤ (gi σ35 14).toInt) ∧ (Hd (¬ (gi σ35 12).toInt = 0 → (gi σ35 13).toInt < (gi σ35 14).toInt)) ∧ (Hd (¬ r35.toInt = 0 → 0 ≤ (ga σ35 0 p4).toInt ∧ (ga σ35 0 p4).toInt < p2.toInt)) ∧ (Hd (ga σ35 0 p4 = ga σ 0 p4 ∨ (-1 ≤ (ga σ35 0 p4).toInt ∧ (ga σ35 0 p4).toInt ≤ 5))) := hE35
      obtain ⟨hA2_35, hsm_35, hmo_35, hFR_35, hsz_35, hen_35, hfr_35, htk_35, fo_35, fw_35⟩ := hE35
      have hNEW : (0 ≤ (gi σ35 11).toInt ∧ (gi σ35 11).toInt ≤ 900) ∧ (0 ≤ (gi σ35 14).toInt ∧ (gi σ35 14).toInt ≤ (gi σ35 11).toInt) ∧ (0 ≤ (gi σ35 13).toInt ∧ (gi σ35 13).toInt ≤ (gi σ35 14).toInt) ∧ (Hd (¬ (gi σ35 12).toInt = 0 → (gi σ35 13).toInt < (gi σ35 14).toInt)) ∧ (∀ j : Int32, 0 ≤ j.toInt → ¬ j.toInt = p4.toInt → ga σ35 0 j = ga σ 0 j) ∧ ((gi σ35 11).toInt = (gi σ 11).toInt) ∧ ((gi σ 13).toInt ≤ (gi σ35 13).toInt) ∧ (PFr σ σ35) := ⟨(by first | assumption | omega), (by first | assumption | omega), (by first | assumption | omega), (by first | assumption | omega), (fun j h0 hj => (hA2_35 j h0 hj).trans (hA4 j h0 hj)), (by first | assumption | omega), (by first | assumption | omega), (Fr.tr hFR hFR_35)⟩
      obtain ⟨hsz, hen, hfr, htk, hA4, hsm, hmo, hFR⟩ := hNEW
      clear hsm_35 hmo_35 hsz_35 hen_35 hfr_35 htk_35
      have he : f_X6_otherOne σ p1 p2 p3 p4 = (σ35, r35) := (by have er3 := er3.symm; subst er3; have er12 := er12.symm; subst er12; have eσ35 := eσ35.symm; subst eσ35; have er35 := er35.symm; subst er35; exact ((if_neg c6).trans ((if_neg c21).trans rfl)))
      exact M_retz C h hr hlocks (congrArg Prod.fst he) (congrArg Prod.snd he) br35 ⟨hA4, hsm, hmo, hFR, (by first | assumption | omega | (unfold Hd; omega)), (by first | assumption | omega | (unfold Hd; omega)), (by first | assumption | omega | (unfold Hd; omega)), (by first | assumption | omega | (unfold Hd; omega)), (by first | assumption | omega | (unfold Hd; omega))⟩ dX6_otherOne_38
    · have i21 := c_eq c21
      refine lv_aload_n hx hb dX6_otherOne_24 rfl (lv_at hl 0 rfl) ?_
      refine lv_iconst (v := 5) hx hb dX6_otherOne_25 (by decide) ?_
      refine M_callz (As := [.int (5 : Int32)]) (rest := []) 1 C h (k_X6_fails l g σ (5 : Int32) (by first | assumption | omega) (by first | assumption | omega) (by first | assumption | omega) (by first | assumption | omega)) (lw_V q1742 q1744 qs75 q152 q1745) rfl rfl (by decide +kernel) ⟨Nat.le_of_ble_eq_true rfl, Nat.le_of_ble_eq_true rfl⟩ rfl hl.1 rfl (Nat.le_of_ble_eq_true rfl) ⟨Nat.le_of_ble_eq_true rfl, Nat.le_of_ble_eq_true rfl⟩ dX6_otherOne_26 (fun r26 σ26 H locs eσ26 er26 br26 hE26 h => ?_)
      have hE26 : (∀ j : Int32, ga σ26 0 j = ga σ 0 j) ∧ ((gi σ26 11).toInt = (gi σ 11).toInt) ∧ ((gi σ 13).toInt ≤ (gi σ26 13).toInt) ∧ (PFr σ σ26) ∧ (0 ≤ (gi σ26 11).toInt ∧ (gi σ26 11).toInt ≤ 900) ∧ (0 ≤ (gi σ26 14).toInt ∧ (gi σ26 14).toInt ≤ (gi σ26 11).toInt) ∧ (0 ≤ (gi σ26 13).toInt ∧ (gi σ26 13).toInt ≤ (gi σ26 14).toInt) ∧ (Hd (¬ (gi σ26 12).toInt = 0 → (gi σ26 13).toInt < (gi σ26 14).toInt)) ∧ (r26.toInt = 0) := hE26
      obtain ⟨hA0_26, hsm_26, hmo_26, hFR_26, hsz_26, hen_26, hfr_26, htk_26, fz_26⟩ := hE26
      have hNEW : (0 ≤ (gi σ26 11).toInt ∧ (gi σ26 11).toInt ≤ 900) ∧ (0 ≤ (gi σ26 14).toInt ∧ (gi σ26 14).toInt ≤ (gi σ26 11).toInt) ∧ (0 ≤ (gi σ26 13).toInt ∧ (gi σ26 13).toInt ≤ (gi σ26 14).toInt) ∧ (Hd (¬ (gi σ26 12).toInt = 0 → (gi σ26 13).toInt < (gi σ26 14).toInt)) ∧ (∀ j : Int32, 0 ≤ j.toInt → ¬ j.toInt = p4.toInt → ga σ26 0 j = ga σ 0 j) ∧ ((gi σ26 11).toInt = (gi σ 11).toInt) ∧ ((gi σ 13).toInt ≤ (gi σ26 13).toInt) ∧ (PFr σ σ26) := ⟨(by first | assumption | omega), (by first | assumption | omega), (by first | assumption | omega), (by first | assumption | omega), (fun j h0 hj => (hA0_26 j).trans (hA4 j h0 hj)), (by first | assumption | omega), (by first | assumption | omega), (Fr.tr hFR hFR_26)⟩
      obtain ⟨hsz, hen, hfr, htk, hA4, hsm, hmo, hFR⟩ := hNEW
      clear hsm_26 hmo_26 hsz_26 hen_26 hfr_26 htk_26
      have he : f_X6_otherOne σ p1 p2 p3 p4 = (σ26, r26) := (by have er3 := er3.symm; subst er3; have er12 := er12.symm; subst er12; have eσ26 := eσ26.symm; subst eσ26; have er26 := er26.symm; subst er26; exact ((if_neg c6).trans ((if_pos c21).trans rfl)))
      exact M_retz C h hr hlocks (congrArg Prod.fst he) (congrArg Prod.snd he) br26 ⟨hA4, hsm, hmo, hFR, (by first | assumption | omega | (unfold Hd; omega)), (by first | assumption | omega | (unfold Hd; omega)), (by first | assumption | omega | (unfold Hd; omega)), (by first | assumption | omega | (unfold Hd; omega)), (by first | assumption | omega | (unfold Hd; omega))⟩ dX6_otherOne_29
def f_X6_mate (σ : MS) (p1 : Int32) (p2 : Int32) : MS × Int32 := (let r3 := (f_X6_isName σ); if r3 = (0 : Int32) then ((let z71 := (f_X6_oldOne σ (24 : Int32) (ga σ 0 (2000 : Int32)) p2); let σ71 := z71.1; let r71 := z71.2; (σ71, r71))) else ((let r20 := (f_X6_findHere σ (24 : Int32) (ga σ 0 (2000 : Int32))); if r20 = (-1 : Int32) then ((let z71 := (f_X6_oldOne σ (24 : Int32) (ga σ 0 (2000 : Int32)) p2); let σ71 := z71.1; let r71 := z71.2; (σ71, r71))) else (if r20 = p1 then ((let z55 := (f_X6_fails σ (5 : Int32)); let σ55 := z55.1; let r55 := z55.2; (σ55, r55))) else (if (ga σ 0 (((2012 : Int32) + ((8 : Int32) * r20)) + (4 : Int32))) = (-1 : Int32) then ((let z71 := (f_X6_oldOne σ (24 : Int32) (ga σ 0 (2000 : Int32)) p2); let σ71 := z71.1; let r71 := z71.2; (σ71, r71))) else ((let z55 := (f_X6_fails σ (5 : Int32)); let σ55 := z55.1; let r55 := z55.2; (σ55, r55))))))))
set_option maxHeartbeats 4000000 in
set_option maxRecDepth 100000 in
theorem k_X6_mate (l : Launch) (g : GE) (σ : MS) (p1 : Int32) (p2 : Int32) (hsz : 0 ≤ (gi σ 11).toInt ∧ (gi σ 11).toInt ≤ 900) (hen : 0 ≤ (gi σ 14).toInt ∧ (gi σ 14).toInt ≤ (gi σ 11).toInt) (hfr : 0 ≤ (gi σ 13).toInt ∧ (gi σ 13).toInt ≤ (gi σ 14).toInt) (htk : Hd (¬ (gi σ 12).toInt = 0 → (gi σ 13).toInt < (gi σ 14).toInt)) (hNP : 0 ≤ (ga σ 0 (2000 : Int32)).toInt ∧ (ga σ 0 (2000 : Int32)).toInt ≤ 6) (h2n : 2001 ≤ p2.toInt ∧ p2.toInt < 3000) : Met l yX6_mate (ws_ yX6_mate cX6_mate 4 (some .boolean)) ({ frames := 7, cells := 0, slots := 0, locals := 155 } : Room) (mPc g σ [.int p1, .int p2]) (mQz g (f_X6_mate σ p1 p2).1 (f_X6_mate σ p1 p2).2 (fun u r => (∀ j : Int32, 0 ≤ j.toInt → ¬ j.toInt = p2.toInt → ga u 0 j = ga σ 0 j) ∧ ((gi u 11).toInt = (gi σ 11).toInt) ∧ ((gi σ 13).toInt ≤ (gi u 13).toInt) ∧ (PFr σ u) ∧ (0 ≤ (gi u 11).toInt ∧ (gi u 11).toInt ≤ 900) ∧ (0 ≤ (gi u 14).toInt ∧ (gi u 14).toInt ≤ (gi u 11).toInt) ∧ (0 ≤ (gi u 13).toInt ∧ (gi u 13).toInt ≤ (gi u 14).toInt) ∧ (Hd (¬ (gi u 12).toInt = 0 → (gi u 13).toInt < (gi u 14).toInt)) ∧ (0 ≤ (ga u 0 (2000 : Int32)).toInt ∧ (ga u 0 (2000 : Int32)).toInt ≤ 6) ∧ (Hd (¬ r.toInt = 0 → 0 ≤ (ga u 0 p2).toInt ∧ (ga u 0 p2).toInt < (ga σ 0 (2000 : Int32)).toInt)))) 0 0 (mA g) := by
  refine met_M (by decide) rfl (Nat.le_of_ble_eq_true rfl) ?_
  intro p e s m args below meth c C hr hlocks h ls hl
  have hx := C.1.1
  have hb := C.1.2.1
  have hml := C.1.2.2.1
  have hown := C.1.2.2.2.1
  have hts := C.1.2.2.2.2
  have hl : lv_has ls 4 [(0, .ref (g.2.1 99)), (1, .int p1), (2, .int p2)] := hl
  have hM2 : ∀ j : Int32, 0 ≤ j.toInt → ¬ j.toInt = p2.toInt → ga σ 0 j = ga σ 0 j := fun _ _ _ => rfl
  have hsm : (gi σ 11).toInt = (gi σ 11).toInt := rfl
  have hmo : (gi σ 13).toInt ≤ (gi σ 13).toInt := Int.le_refl _
  have hFR : PFr σ σ := Fr.rf
  have zlm1 : (-1 : Int32).toInt = -1 := rfl
  have zl0 : (0 : Int32).toInt = 0 := rfl
  have zl4 : (4 : Int32).toInt = 4 := rfl
  have zl5 : (5 : Int32).toInt = 5 := rfl
  have zl8 : (8 : Int32).toInt = 8 := rfl
  have zl24 : (24 : Int32).toInt = 24 := rfl
  have zl2000 : (2000 : Int32).toInt = 2000 := rfl
  have zl2012 : (2012 : Int32).toInt = 2012 := rfl
  refine lv_aload_n hx hb dX6_mate_0 rfl (lv_at hl 0 rfl) ?_
  refine M_keys C dX6_mate_1 ?_
  refine M_callz (As := [.ref (g.2.1 97)]) (rest := []) 1 C h (k_X6_isName l g σ (by first | assumption | omega) (by first | assumption | omega) (by first | assumption | omega) (by first | assumption | omega)) (lw_V q1746 q1748 qs76 q152 q1749) rfl rfl (by decide +kernel) ⟨Nat.le_of_ble_eq_true rfl, Nat.le_of_ble_eq_true rfl⟩ rfl hl.1 rfl (Nat.le_of_ble_eq_true rfl) ⟨Nat.le_of_ble_eq_true rfl, Nat.le_of_ble_eq_true rfl⟩ dX6_mate_3 (fun r3 σ3 H locs eσ3 er3 br3 hE3 h => ?_)
  rw [eσ3] at h
  clear hE3
  clear eσ3
  refine lv_if_eq (tgt := 59) hx hb dX6_mate_6 (by decide) (fun c6 => ?_) (fun c6 => ?_)
  · have i6 := c_eq c6
    refine lv_aload_n hx hb dX6_mate_59 rfl (lv_at hl 0 rfl) ?_
    refine lv_bipush (v := 24) hx hb dX6_mate_60 (by decide) ?_
    refine lv_aload_n hx hb dX6_mate_62 rfl (lv_at hl 0 rfl) ?_
    refine Mg_0 C h dX6_mate_63 ?_
    refine lv_sipush (v := 2000) hx hb dX6_mate_66 (by decide) ?_
    refine Ml_0 C h (ix_of zl2000 (by omega)) dX6_mate_69 ?_
    refine lv_iload_n hx hb dX6_mate_70 rfl (lv_at hl 2 rfl) ?_
    refine M_callz (As := [.int (24 : Int32), .int (ga σ 0 (2000 : Int32)), .int p2]) (rest := []) 3 C h (k_X6_oldOne l g σ (24 : Int32) (ga σ 0 (2000 : Int32)) p2 (by first | assumption | omega) (by first | assumption | omega) (by first | assumption | omega) (by first | assumption | omega) (by first | assumption | omega) (by first | assumption | omega) (by first | assumption | omega)) (lw_V q1774 q1776 qs83 q152 q1777) rfl rfl (by decide +kernel) ⟨Nat.le_of_ble_eq_true rfl, Nat.le_of_ble_eq_true rfl⟩ rfl hl.1 rfl (Nat.le_of_ble_eq_true rfl) ⟨Nat.le_of_ble_eq_true rfl, Nat.le_of_ble_eq_true rfl⟩ dX6_mate_71 (fun r71 σ71 H locs eσ71 er71 br71 hE71 h => ?_)
    have hE71 : (∀ j : Int32, 0 ≤ j.toInt → ¬ j.toInt = p2.toInt → ga σ71 0 j = ga σ 0 j) ∧ ((gi σ71 11).toInt = (gi σ 11).toInt) ∧ ((gi σ 13).toInt ≤ (gi σ71 13).toInt) ∧ (PFr σ σ71) ∧ (0 ≤ (gi σ71 11).toInt ∧ (gi σ71 11).toInt ≤ 900) ∧ (0 ≤ (gi σ71 14).toInt ∧ (gi σ71 14).toInt ≤ (gi σ71 11).toInt) ∧ (0 ≤ (gi σ71 13).toInt ∧ (gi σ71 13).toInt ≤ (gi σ71 14).toInt) ∧ (Hd (¬ (gi σ71 12).toInt = 0 → (gi σ71 13).toInt < (gi σ71 14).toInt)) ∧ (Hd (¬ r71.toInt = 0 → 0 ≤ (ga σ71 0 p2).toInt ∧ (ga σ71 0 p2).toInt < (ga σ 0 (2000 : Int32)).toInt)) ∧ (Hd (ga σ71 0 p2 = ga σ 0 p2 ∨ (-1 ≤ (ga σ71 0 p2).toInt ∧ (ga σ71 0 p2).toInt ≤ 5))) := hE71
    obtain ⟨hA2_71, hsm_71, hmo_71, hFR_71, hsz_71, hen_71, hfr_71, htk_71, fo_71, fw_71⟩ := hE71
    have hNEW : (0 ≤ (gi σ71 11).toInt ∧ (gi σ71 11).toInt ≤ 900) ∧ (0 ≤ (gi σ71 14).toInt ∧ (gi σ71 14).toInt ≤ (gi σ71 11).toInt) ∧ (0 ≤ (gi σ71 13).toInt ∧ (gi σ71 13).toInt ≤ (gi σ71 14).toInt) ∧ (Hd (¬ (gi σ71 12).toInt = 0 → (gi σ71 13).toInt < (gi σ71 14).toInt)) ∧ (0 ≤ (ga σ71 0 (2000 : Int32)).toInt ∧ (ga σ71 0 (2000 : Int32)).toInt ≤ 6) ∧ (∀ j : Int32, 0 ≤ j.toInt → ¬ j.toInt = p2.toInt → ga σ71 0 j = ga σ 0 j) ∧ ((gi σ71 11).toInt = (gi σ 11).toInt) ∧ ((gi σ 13).toInt ≤ (gi σ71 13).toInt) ∧ (PFr σ σ71) := ⟨(by first | assumption | omega), (by first | assumption | omega), (by first | assumption | omega), (by first | assumption | omega), (by rw [hA2_71 2000 (by omega) (by omega)]; exact hNP), (fun j h0 hj => (hA2_71 j h0 hj).trans (hM2 j h0 hj)), (by first | assumption | omega), (by first | assumption | omega), (Fr.tr hFR hFR_71)⟩
    obtain ⟨hsz, hen, hfr, htk, hNP, hM2, hsm, hmo, hFR⟩ := hNEW
    clear hsm_71 hmo_71 hsz_71 hen_71 hfr_71 htk_71
    have he : f_X6_mate σ p1 p2 = (σ71, r71) := (by have er3 := er3.symm; subst er3; have eσ71 := eσ71.symm; subst eσ71; have er71 := er71.symm; subst er71; exact ((if_pos c6).trans rfl))
    exact M_retz C h hr hlocks (congrArg Prod.fst he) (congrArg Prod.snd he) br71 ⟨hM2, hsm, hmo, hFR, (by first | assumption | omega | (unfold Hd; omega)), (by first | assumption | omega | (unfold Hd; omega)), (by first | assumption | omega | (unfold Hd; omega)), (by first | assumption | omega | (unfold Hd; omega)), (by first | assumption | omega | (unfold Hd; omega)), (by first | assumption | omega | (unfold Hd; omega))⟩ dX6_mate_74
  · have i6 := c_ne c6
    refine lv_aload_n hx hb dX6_mate_9 rfl (lv_at hl 0 rfl) ?_
    refine lv_bipush (v := 24) hx hb dX6_mate_10 (by decide) ?_
    refine lv_aload_n hx hb dX6_mate_12 rfl (lv_at hl 0 rfl) ?_
    refine Mg_0 C h dX6_mate_13 ?_
    refine lv_sipush (v := 2000) hx hb dX6_mate_16 (by decide) ?_
    refine Ml_0 C h (ix_of zl2000 (by omega)) dX6_mate_19 ?_
    refine M_calli (As := [.int (24 : Int32), .int (ga σ 0 (2000 : Int32))]) (rest := []) 2 C h (k_X6_findHere l g σ (24 : Int32) (ga σ 0 (2000 : Int32)) (by first | assumption | omega) (by first | assumption | omega) (by first | assumption | omega) (by first | assumption | omega) (by first | assumption | omega) (by first | assumption | omega)) (lw_V q1750 q1752 qs77 q152 q1753) rfl rfl (by decide +kernel) ⟨Nat.le_of_ble_eq_true rfl, Nat.le_of_ble_eq_true rfl⟩ rfl hl.1 rfl (Nat.le_of_ble_eq_true rfl) ⟨Nat.le_of_ble_eq_true rfl, Nat.le_of_ble_eq_true rfl⟩ dX6_mate_20 (fun r20 σ20 H locs eσ20 er20 hE20 h => ?_)
    rw [eσ20] at h
    have hE20 : (-1 ≤ r20.toInt ∧ (r20.toInt < (ga σ 0 (2000 : Int32)).toInt ∨ r20.toInt = -1)) := hE20
    have fr_20 := hE20
    clear eσ20
    refine lv_istore_n (lv' := [(3, .int r20), (0, .ref (g.2.1 99)), (1, .int p1), (2, .int p2)]) hx hb dX6_mate_23 rfl hl (by decide) rfl (fun ls hl => ?_)
    refine lv_iload_n hx hb dX6_mate_24 rfl (lv_at hl 0 rfl) ?_
    refine lv_iconst (v := -1) hx hb dX6_mate_25 (by decide) ?_
    refine lv_icmp_eq (tgt := 59) hx hb dX6_mate_26 (by decide) (fun c26 => ?_) (fun c26 => ?_)
    · have i26 := c_eq c26
      refine lv_aload_n hx hb dX6_mate_59 rfl (lv_at hl 1 rfl) ?_
      refine lv_bipush (v := 24) hx hb dX6_mate_60 (by decide) ?_
      refine lv_aload_n hx hb dX6_mate_62 rfl (lv_at hl 1 rfl) ?_
      refine Mg_0 C h dX6_mate_63 ?_
      refine lv_sipush (v := 2000) hx hb dX6_mate_66 (by decide) ?_
      refine Ml_0 C h (ix_of zl2000 (by omega)) dX6_mate_69 ?_
      refine lv_iload_n hx hb dX6_mate_70 rfl (lv_at hl 3 rfl) ?_
      refine M_callz (As := [.int (24 : Int32), .int (ga σ 0 (2000 : Int32)), .int p2]) (rest := []) 3 C h (k_X6_oldOne l g σ (24 : Int32) (ga σ 0 (2000 : Int32)) p2 (by first | assumption | omega) (by first | assumption | omega) (by first | assumption | omega) (by first | assumption | omega) (by first | assumption | omega) (by first | assumption | omega) (by first | assumption | omega)) (lw_V q1774 q1776 qs83 q152 q1777) rfl rfl (by decide +kernel) ⟨Nat.le_of_ble_eq_true rfl, Nat.le_of_ble_eq_true rfl⟩ rfl hl.1 rfl (Nat.le_of_ble_eq_true rfl) ⟨Nat.le_of_ble_eq_true rfl, Nat.le_of_ble_eq_true rfl⟩ dX6_mate_71 (fun r71 σ71 H locs eσ71 er71 br71 hE71 h => ?_)
      have hE71 : (∀ j : Int32, 0 ≤ j.toInt → ¬ j.toInt = p2.toInt → ga σ71 0 j = ga σ 0 j) ∧ ((gi σ71 11).toInt = (gi σ 11).toInt) ∧ ((gi σ 13).toInt ≤ (gi σ71 13).toInt) ∧ (PFr σ σ71) ∧ (0 ≤ (gi σ71 11).toInt ∧ (gi σ71 11).toInt ≤ 900) ∧ (0 ≤ (gi σ71 14).toInt ∧ (gi σ71 14).toInt ≤ (gi σ71 11).toInt) ∧ (0 ≤ (gi σ71 13).toInt ∧ (gi σ71 13).toInt ≤ (gi σ71 14).toInt) ∧ (Hd (¬ (gi σ71 12).toInt = 0 → (gi σ71 13).toInt < (gi σ71 14).toInt)) ∧ (Hd (¬ r71.toInt = 0 → 0 ≤ (ga σ71 0 p2).toInt ∧ (ga σ71 0 p2).toInt < (ga σ 0 (2000 : Int32)).toInt)) ∧ (Hd (ga σ71 0 p2 = ga σ 0 p2 ∨ (-1 ≤ (ga σ71 0 p2).toInt ∧ (ga σ71 0 p2).toInt ≤ 5))) := hE71
      obtain ⟨hA2_71, hsm_71, hmo_71, hFR_71, hsz_71, hen_71, hfr_71, htk_71, fo_71, fw_71⟩ := hE71
      have hNEW : (0 ≤ (gi σ71 11).toInt ∧ (gi σ71 11).toInt ≤ 900) ∧ (0 ≤ (gi σ71 14).toInt ∧ (gi σ71 14).toInt ≤ (gi σ71 11).toInt) ∧ (0 ≤ (gi σ71 13).toInt ∧ (gi σ71 13).toInt ≤ (gi σ71 14).toInt) ∧ (Hd (¬ (gi σ71 12).toInt = 0 → (gi σ71 13).toInt < (gi σ71 14).toInt)) ∧ (0 ≤ (ga σ71 0 (2000 : Int32)).toInt ∧ (ga σ71 0 (2000 : Int32)).toInt ≤ 6) ∧ (∀ j : Int32, 0 ≤ j.toInt → ¬ j.toInt = p2.toInt → ga σ71 0 j = ga σ 0 j) ∧ ((gi σ71 11).toInt = (gi σ 11).toInt) ∧ ((gi σ 13).toInt ≤ (gi σ71 13).toInt) ∧ (PFr σ σ71) := ⟨(by first | assumption | omega), (by first | assumption | omega), (by first | assumption | omega), (by first | assumption | omega), (by rw [hA2_71 2000 (by omega) (by omega)]; exact hNP), (fun j h0 hj => (hA2_71 j h0 hj).trans (hM2 j h0 hj)), (by first | assumption | omega), (by first | assumption | omega), (Fr.tr hFR hFR_71)⟩
      obtain ⟨hsz, hen, hfr, htk, hNP, hM2, hsm, hmo, hFR⟩ := hNEW
      clear hsm_71 hmo_71 hsz_71 hen_71 hfr_71 htk_71
      have he : f_X6_mate σ p1 p2 = (σ71, r71) := (by have er3 := er3.symm; subst er3; have er20 := er20.symm; subst er20; have eσ71 := eσ71.symm; subst eσ71; have er71 := er71.symm; subst er71; exact ((if_neg c6).trans ((if_pos c26).trans rfl)))
      exact M_retz C h hr hlocks (congrArg Prod.fst he) (congrArg Prod.snd he) br71 ⟨hM2, hsm, hmo, hFR, (by first | assumption | omega | (unfold Hd; omega)), (by first | assumption | omega | (unfold Hd; omega)), (by first | assumption | omega | (unfold Hd; omega)), (by first | assumption | omega | (unfold Hd; omega)), (by first | assumption | omega | (unfold Hd; omega)), (by first | assumption | omega | (unfold Hd; omega))⟩ dX6_mate_74
    · have i26 := c_ne c26
      refine lv_iload_n hx hb dX6_mate_29 rfl (lv_at hl 0 rfl) ?_
      refine lv_iload_n hx hb dX6_mate_30 rfl (lv_at hl 2 rfl) ?_
      refine lv_icmp_eq (tgt := 53) hx hb dX6_mate_31 (by decide) (fun c31 => ?_) (fun c31 => ?_)
      · have i31 := c_eq c31
        refine lv_aload_n hx hb dX6_mate_53 rfl (lv_at hl 1 rfl) ?_
        refine lv_iconst (v := 5) hx hb dX6_mate_54 (by decide) ?_
        refine M_callz (As := [.int (5 : Int32)]) (rest := []) 1 C h (k_X6_fails l g σ (5 : Int32) (by first | assumption | omega) (by first | assumption | omega) (by first | assumption | omega) (by first | assumption | omega)) (lw_V q1742 q1744 qs75 q152 q1745) rfl rfl (by decide +kernel) ⟨Nat.le_of_ble_eq_true rfl, Nat.le_of_ble_eq_true rfl⟩ rfl hl.1 rfl (Nat.le_of_ble_eq_true rfl) ⟨Nat.le_of_ble_eq_true rfl, Nat.le_of_ble_eq_true rfl⟩ dX6_mate_55 (fun r55 σ55 H locs eσ55 er55 br55 hE55 h => ?_)
        have hE55 : (∀ j : Int32, ga σ55 0 j = ga σ 0 j) ∧ ((gi σ55 11).toInt = (gi σ 11).toInt) ∧ ((gi σ 13).toInt ≤ (gi σ55 13).toInt) ∧ (PFr σ σ55) ∧ (0 ≤ (gi σ55 11).toInt ∧ (gi σ55 11).toInt ≤ 900) ∧ (0 ≤ (gi σ55 14).toInt ∧ (gi σ55 14).toInt ≤ (gi σ55 11).toInt) ∧ (0 ≤ (gi σ55 13).toInt ∧ (gi σ55 13).toInt ≤ (gi σ55 14).toInt) ∧ (Hd (¬ (gi σ55 12).toInt = 0 → (gi σ55 13).toInt < (gi σ55 14).toInt)) ∧ (r55.toInt = 0) := hE55
        obtain ⟨hA0_55, hsm_55, hmo_55, hFR_55, hsz_55, hen_55, hfr_55, htk_55, fz_55⟩ := hE55
        have hNEW : (0 ≤ (gi σ55 11).toInt ∧ (gi σ55 11).toInt ≤ 900) ∧ (0 ≤ (gi σ55 14).toInt ∧ (gi σ55 14).toInt ≤ (gi σ55 11).toInt) ∧ (0 ≤ (gi σ55 13).toInt ∧ (gi σ55 13).toInt ≤ (gi σ55 14).toInt) ∧ (Hd (¬ (gi σ55 12).toInt = 0 → (gi σ55 13).toInt < (gi σ55 14).toInt)) ∧ (0 ≤ (ga σ55 0 (2000 : Int32)).toInt ∧ (ga σ55 0 (2000 : Int32)).toInt ≤ 6) ∧ (∀ j : Int32, 0 ≤ j.toInt → ¬ j.toInt = p2.toInt → ga σ55 0 j = ga σ 0 j) ∧ ((gi σ55 11).toInt = (gi σ 11).toInt) ∧ ((gi σ 13).toInt ≤ (gi σ55 13).toInt) ∧ (PFr σ σ55) := ⟨(by first | assumption | omega), (by first | assumption | omega), (by first | assumption | omega), (by first | assumption | omega), (by simp only [hA0_55] <;> exact hNP), (fun j h0 hj => (hA0_55 j).trans (hM2 j h0 hj)), (by first | assumption | omega), (by first | assumption | omega), (Fr.tr hFR hFR_55)⟩
        obtain ⟨hsz, hen, hfr, htk, hNP, hM2, hsm, hmo, hFR⟩ := hNEW
        clear hsm_55 hmo_55 hsz_55 hen_55 hfr_55 htk_55
        have he : f_X6_mate σ p1 p2 = (σ55, r55) := (by have er3 := er3.symm; subst er3; have er20 := er20.symm; subst er20; have eσ55 := eσ55.symm; subst eσ55; have er55 := er55.symm; subst er55; exact ((if_neg c6).trans ((if_neg c26).trans ((if_pos c31).trans rfl))))
        exact M_retz C h hr hlocks (congrArg Prod.fst he) (congrArg Prod.snd he) br55 ⟨hM2, hsm, hmo, hFR, (by first | assumption | omega | (unfold Hd; omega)), (by first | assumption | omega | (unfold Hd; omega)), (by first | assumption | omega | (unfold Hd; omega)), (by first | assumption | omega | (unfold Hd; omega)), (by first | assumption | omega | (unfold Hd; omega)), (by first | assumption | omega | (unfold Hd; omega))⟩ dX6_mate_58
      · have i31 := c_ne c31
        refine lv_aload_n hx hb dX6_mate_34 rfl (lv_at hl 1 rfl) ?_
        refine Mg_0 C h dX6_mate_35 ?_
        refine lv_sipush (v := 2012) hx hb dX6_mate_38 (by decide) ?_
        refine lv_bipush (v := 8) hx hb dX6_mate_41 (by decide) ?_
        refine lv_iload_n hx hb dX6_mate_43 rfl (lv_at hl 0 rfl) ?_
        refine lv_imul hx hb dX6_mate_44 ?_
        refine lv_iadd hx hb dX6_mate_45 ?_
        refine lv_iconst (v := 4) hx hb dX6_mate_46 (by decide) ?_
        refine lv_iadd hx hb dX6_mate_47 ?_
        refine Ml_0 C h (ix_of (i_add (i_add zl2012 (i_mul zl8 (rfl : r20.toInt = r20.toInt) (by omega)) (by omega)) zl4 (by omega)) (by omega)) dX6_mate_48 ?_
        refine lv_iconst (v := -1) hx hb dX6_mate_49 (by decide) ?_
        refine lv_icmp_eq (tgt := 59) hx hb dX6_mate_50 (by decide) (fun c50 => ?_) (fun c50 => ?_)
        · have i50 := c_eq c50
          refine lv_aload_n hx hb dX6_mate_59 rfl (lv_at hl 1 rfl) ?_
          refine lv_bipush (v := 24) hx hb dX6_mate_60 (by decide) ?_
          refine lv_aload_n hx hb dX6_mate_62 rfl (lv_at hl 1 rfl) ?_
          refine Mg_0 C h dX6_mate_63 ?_
          refine lv_sipush (v := 2000) hx hb dX6_mate_66 (by decide) ?_
          refine Ml_0 C h (ix_of zl2000 (by omega)) dX6_mate_69 ?_
          refine lv_iload_n hx hb dX6_mate_70 rfl (lv_at hl 3 rfl) ?_
          refine M_callz (As := [.int (24 : Int32), .int (ga σ 0 (2000 : Int32)), .int p2]) (rest := []) 3 C h (k_X6_oldOne l g σ (24 : Int32) (ga σ 0 (2000 : Int32)) p2 (by first | assumption | omega) (by first | assumption | omega) (by first | assumption | omega) (by first | assumption | omega) (by first | assumption | omega) (by first | assumption | omega) (by first | assumption | omega)) (lw_V q1774 q1776 qs83 q152 q1777) rfl rfl (by decide +kernel) ⟨Nat.le_of_ble_eq_true rfl, Nat.le_of_ble_eq_true rfl⟩ rfl hl.1 rfl (Nat.le_of_ble_eq_true rfl) ⟨Nat.le_of_ble_eq_true rfl, Nat.le_of_ble_eq_true rfl⟩ dX6_mate_71 (fun r71 σ71 H locs eσ71 er71 br71 hE71 h => ?_)
          have hE71 : (∀ j : Int32, 0 ≤ j.toInt → ¬ j.toInt = p2.toInt → ga σ71 0 j = ga σ 0 j) ∧ ((gi σ71 11).toInt = (gi σ 11).toInt) ∧ ((gi σ 13).toInt ≤ (gi σ71 13).toInt) ∧ (PFr σ σ71) ∧ (0 ≤ (gi σ71 11).toInt ∧ (gi σ71 11).toInt ≤ 900) ∧ (0 ≤ (gi σ71 14).toInt ∧ (gi σ71 14).toInt ≤ (gi σ71 11).toInt) ∧ (0 ≤ (gi σ71 13).toInt ∧ (gi σ71 13).toInt ≤ (gi σ71 14).toInt) ∧ (Hd (¬ (gi σ71 12).toInt = 0 → (gi σ71 13).toInt < (gi σ71 14).toInt)) ∧ (Hd (¬ r71.toInt = 0 → 0 ≤ (ga σ71 0 p2).toInt ∧ (ga σ71 0 p2).toInt < (ga σ 0 (2000 : Int32)).toInt)) ∧ (Hd (ga σ71 0 p2 = ga σ 0 p2 ∨ (-1 ≤ (ga σ71 0 p2).toInt ∧ (ga σ71 0 p2).toInt ≤ 5))) := hE71
          obtain ⟨hA2_71, hsm_71, hmo_71, hFR_71, hsz_71, hen_71, hfr_71, htk_71, fo_71, fw_71⟩ := hE71
          have hNEW : (0 ≤ (gi σ71 11).toInt ∧ (gi σ71 11).toInt ≤ 900) ∧ (0 ≤ (gi σ71 14).toInt ∧ (gi σ71 14).toInt ≤ (gi σ71 11).toInt) ∧ (0 ≤ (gi σ71 13).toInt ∧ (gi σ71 13).toInt ≤ (gi σ71 14).toInt) ∧ (Hd (¬ (gi σ71 12).toInt = 0 → (gi σ71 13).toInt < (gi σ71 14).toInt)) ∧ (0 ≤ (ga σ71 0 (2000 : Int32)).toInt ∧ (ga σ71 0 (2000 : Int32)).toInt ≤ 6) ∧ (∀ j : Int32, 0 ≤ j.toInt → ¬ j.toInt = p2.toInt → ga σ71 0 j = ga σ 0 j) ∧ ((gi σ71 11).toInt = (gi σ 11).toInt) ∧ ((gi σ 13).toInt ≤ (gi σ71 13).toInt) ∧ (PFr σ σ71) := ⟨(by first | assumption | omega), (by first | assumption | omega), (by first | assumption | omega), (by first | assumption | omega), (by rw [hA2_71 2000 (by omega) (by omega)]; exact hNP), (fun j h0 hj => (hA2_71 j h0 hj).trans (hM2 j h0 hj)), (by first | assumption | omega), (by first | assumption | omega), (Fr.tr hFR hFR_71)⟩
          obtain ⟨hsz, hen, hfr, htk, hNP, hM2, hsm, hmo, hFR⟩ := hNEW
          clear hsm_71 hmo_71 hsz_71 hen_71 hfr_71 htk_71
          have he : f_X6_mate σ p1 p2 = (σ71, r71) := (by have er3 := er3.symm; subst er3; have er20 := er20.symm; subst er20; have eσ71 := eσ71.symm; subst eσ71; have er71 := er71.symm; subst er71; exact ((if_neg c6).trans ((if_neg c26).trans ((if_neg c31).trans ((if_pos c50).trans rfl)))))
          exact M_retz C h hr hlocks (congrArg Prod.fst he) (congrArg Prod.snd he) br71 ⟨hM2, hsm, hmo, hFR, (by first | assumption | omega | (unfold Hd; omega)), (by first | assumption | omega | (unfold Hd; omega)), (by first | assumption | omega | (unfold Hd; omega)), (by first | assumption | omega | (unfold Hd; omega)), (by first | assumption | omega | (unfold Hd; omega)), (by first | assumption | omega | (unfold Hd; omega))⟩ dX6_mate_74
        · have i50 := c_ne c50
          refine lv_aload_n hx hb dX6_mate_53 rfl (lv_at hl 1 rfl) ?_
          refine lv_iconst (v := 5) hx hb dX6_mate_54 (by decide) ?_
          refine M_callz (As := [.int (5 : Int32)]) (rest := []) 1 C h (k_X6_fails l g σ (5 : Int32) (by first | assumption | omega) (by first | assumption | omega) (by first | assumption | omega) (by first | assumption | omega)) (lw_V q1742 q1744 qs75 q152 q1745) rfl rfl (by decide +kernel) ⟨Nat.le_of_ble_eq_true rfl, Nat.le_of_ble_eq_true rfl⟩ rfl hl.1 rfl (Nat.le_of_ble_eq_true rfl) ⟨Nat.le_of_ble_eq_true rfl, Nat.le_of_ble_eq_true rfl⟩ dX6_mate_55 (fun r55 σ55 H locs eσ55 er55 br55 hE55 h => ?_)
          have hE55 : (∀ j : Int32, ga σ55 0 j = ga σ 0 j) ∧ ((gi σ55 11).toInt = (gi σ 11).toInt) ∧ ((gi σ 13).toInt ≤ (gi σ55 13).toInt) ∧ (PFr σ σ55) ∧ (0 ≤ (gi σ55 11).toInt ∧ (gi σ55 11).toInt ≤ 900) ∧ (0 ≤ (gi σ55 14).toInt ∧ (gi σ55 14).toInt ≤ (gi σ55 11).toInt) ∧ (0 ≤ (gi σ55 13).toInt ∧ (gi σ55 13).toInt ≤ (gi σ55 14).toInt) ∧ (Hd (¬ (gi σ55 12).toInt = 0 → (gi σ55 13).toInt < (gi σ55 14).toInt)) ∧ (r55.toInt = 0) := hE55
          obtain ⟨hA0_55, hsm_55, hmo_55, hFR_55, hsz_55, hen_55, hfr_55, htk_55, fz_55⟩ := hE55
          have hNEW : (0 ≤ (gi σ55 11).toInt ∧ (gi σ55 11).toInt ≤ 900) ∧ (0 ≤ (gi σ55 14).toInt ∧ (gi σ55 14).toInt ≤ (gi σ55 11).toInt) ∧ (0 ≤ (gi σ55 13).toInt ∧ (gi σ55 13).toInt ≤ (gi σ55 14).toInt) ∧ (Hd (¬ (gi σ55 12).toInt = 0 → (gi σ55 13).toInt < (gi σ55 14).toInt)) ∧ (0 ≤ (ga σ55 0 (2000 : Int32)).toInt ∧ (ga σ55 0 (2000 : Int32)).toInt ≤ 6) ∧ (∀ j : Int32, 0 ≤ j.toInt → ¬ j.toInt = p2.toInt → ga σ55 0 j = ga σ 0 j) ∧ ((gi σ55 11).toInt = (gi σ 11).toInt) ∧ ((gi σ 13).toInt ≤ (gi σ55 13).toInt) ∧ (PFr σ σ55) := ⟨(by first | assumption | omega), (by first | assumption | omega), (by first | assumption | omega), (by first | assumption | omega), (by simp only [hA0_55] <;> exact hNP), (fun j h0 hj => (hA0_55 j).trans (hM2 j h0 hj)), (by first | assumption | omega), (by first | assumption | omega), (Fr.tr hFR hFR_55)⟩
          obtain ⟨hsz, hen, hfr, htk, hNP, hM2, hsm, hmo, hFR⟩ := hNEW
          clear hsm_55 hmo_55 hsz_55 hen_55 hfr_55 htk_55
          have he : f_X6_mate σ p1 p2 = (σ55, r55) := (by have er3 := er3.symm; subst er3; have er20 := er20.symm; subst er20; have eσ55 := eσ55.symm; subst eσ55; have er55 := er55.symm; subst er55; exact ((if_neg c6).trans ((if_neg c26).trans ((if_neg c31).trans ((if_neg c50).trans rfl)))))
          exact M_retz C h hr hlocks (congrArg Prod.fst he) (congrArg Prod.snd he) br55 ⟨hM2, hsm, hmo, hFR, (by first | assumption | omega | (unfold Hd; omega)), (by first | assumption | omega | (unfold Hd; omega)), (by first | assumption | omega | (unfold Hd; omega)), (by first | assumption | omega | (unfold Hd; omega)), (by first | assumption | omega | (unfold Hd; omega)), (by first | assumption | omega | (unfold Hd; omega))⟩ dX6_mate_58
def f_X6_aCouple (σ : MS) : MS × Int32 := if (ga σ 0 (2001 : Int32)) = (3 : Int32) then ((let z15 := (f_X6_fails σ (6 : Int32)); let σ15 := z15.1; let r15 := z15.2; (σ15, r15))) else ((let σ20 := (f_X6_ahead σ); let z28 := (f_X6_mate σ20 (-1 : Int32) (2495 : Int32)); let σ28 := z28.1; let r28 := z28.2; if r28 = (0 : Int32) then ((σ28, (0 : Int32))) else ((let z46 := (f_X6_mate σ28 (ga σ28 0 (2495 : Int32)) (2496 : Int32)); let σ46 := z46.1; let r46 := z46.2; if r46 = (0 : Int32) then ((σ46, (0 : Int32))) else ((let v62 := (ga σ46 0 (2495 : Int32)); let v71 := (ga σ46 0 (2496 : Int32)); let σ87 := sa σ46 0 (((2012 : Int32) + ((8 : Int32) * v62)) + (4 : Int32)) v71; let σ103 := sa σ87 0 (((2012 : Int32) + ((8 : Int32) * v71)) + (4 : Int32)) v62; let σ115 := sa σ103 0 (2001 : Int32) ((ga σ103 0 (2001 : Int32)) + (1 : Int32)); (σ115, (1 : Int32))))))))
set_option maxHeartbeats 4000000 in
set_option maxRecDepth 100000 in
theorem k_X6_aCouple (l : Launch) (g : GE) (σ : MS) (hsz : 0 ≤ (gi σ 11).toInt ∧ (gi σ 11).toInt ≤ 900) (hen : 0 ≤ (gi σ 14).toInt ∧ (gi σ 14).toInt ≤ (gi σ 11).toInt) (hfr : 0 ≤ (gi σ 13).toInt ∧ (gi σ 13).toInt ≤ (gi σ 14).toInt) (htk : Hd (¬ (gi σ 12).toInt = 0 → (gi σ 13).toInt < (gi σ 14).toInt)) (hNP : 0 ≤ (ga σ 0 (2000 : Int32)).toInt ∧ (ga σ 0 (2000 : Int32)).toInt ≤ 6) (hND : 0 ≤ (ga σ 0 (2002 : Int32)).toInt ∧ (ga σ 0 (2002 : Int32)).toInt ≤ 16) (hSN : SL σ 2000) (hDP : DP σ) : Met l yX6_aCouple (ws_ yX6_aCouple cX6_aCouple 3 (some .boolean)) ({ frames := 8, cells := 0, slots := 0, locals := 178 } : Room) (mPc g σ []) (mQz g (f_X6_aCouple σ).1 (f_X6_aCouple σ).2 (fun u r => ((gi u 11).toInt = (gi σ 11).toInt) ∧ ((gi σ 13).toInt ≤ (gi u 13).toInt) ∧ (PFr σ u) ∧ (0 ≤ (gi u 11).toInt ∧ (gi u 11).toInt ≤ 900) ∧ (0 ≤ (gi u 14).toInt ∧ (gi u 14).toInt ≤ (gi u 11).toInt) ∧ (0 ≤ (gi u 13).toInt ∧ (gi u 13).toInt ≤ (gi u 14).toInt) ∧ (Hd (¬ (gi u 12).toInt = 0 → (gi u 13).toInt < (gi u 14).toInt)) ∧ (0 ≤ (ga u 0 (2000 : Int32)).toInt ∧ (ga u 0 (2000 : Int32)).toInt ≤ 6) ∧ (0 ≤ (ga u 0 (2002 : Int32)).toInt ∧ (ga u 0 (2002 : Int32)).toInt ≤ 16) ∧ (SL u 2000) ∧ (DP u))) 0 0 (mA g) := by
  refine met_M (by decide) rfl (Nat.le_of_ble_eq_true rfl) ?_
  intro p e s m args below meth c C hr hlocks h ls hl
  have hx := C.1.1
  have hb := C.1.2.1
  have hml := C.1.2.2.1
  have hown := C.1.2.2.2.1
  have hts := C.1.2.2.2.2
  have hl : lv_has ls 3 [(0, .ref (g.2.1 99))] := hl
  have hsm : (gi σ 11).toInt = (gi σ 11).toInt := rfl
  have hmo : (gi σ 13).toInt ≤ (gi σ 13).toInt := Int.le_refl _
  have hFR : PFr σ σ := Fr.rf
  have zlm1 : (-1 : Int32).toInt = -1 := rfl
  have zl0 : (0 : Int32).toInt = 0 := rfl
  have zl1 : (1 : Int32).toInt = 1 := rfl
  have zl3 : (3 : Int32).toInt = 3 := rfl
  have zl4 : (4 : Int32).toInt = 4 := rfl
  have zl6 : (6 : Int32).toInt = 6 := rfl
  have zl8 : (8 : Int32).toInt = 8 := rfl
  have zl2000 : (2000 : Int32).toInt = 2000 := rfl
  have zl2001 : (2001 : Int32).toInt = 2001 := rfl
  have zl2002 : (2002 : Int32).toInt = 2002 := rfl
  have zl2012 : (2012 : Int32).toInt = 2012 := rfl
  have zl2495 : (2495 : Int32).toInt = 2495 := rfl
  have zl2496 : (2496 : Int32).toInt = 2496 := rfl
  have zl2000 : (2000 : Int32).toInt = 2000 := rfl
  have zl2002 : (2002 : Int32).toInt = 2002 := rfl
  have zl2001 : (2001 : Int32).toInt = 2001 := rfl
  refine lv_aload_n hx hb dX6_aCouple_0 rfl (lv_at hl 0 rfl) ?_
  refine Mg_0 C h dX6_aCouple_1 ?_
  refine lv_sipush (v := 2001) hx hb dX6_aCouple_4 (by decide) ?_
  refine Ml_0 C h (ix_of zl2001 (by omega)) dX6_aCouple_7 ?_
  refine lv_iconst (v := 3) hx hb dX6_aCouple_8 (by decide) ?_
  refine lv_icmp_ne (tgt := 19) hx hb dX6_aCouple_9 (by decide) (fun c9 => ?_) (fun c9 => ?_)
  · have i9 := c_ne c9
    have hN1 : (ga σ 0 (2001 : Int32)).toInt ≤ 2 := (by have q := (hSN (2001 : Int32) (by omega) (by omega)).2.1 (by omega); omega)
    refine lv_aload_n hx hb dX6_aCouple_19 rfl (lv_at hl 0 rfl) ?_
    refine M_callv (As := []) (rest := []) 0 C h (k_X6_ahead l g σ (by first | assumption | omega) (by first | assumption | omega)) (lw_V q1707 q1709 qs69 q152 q1710) rfl rfl (by decide +kernel) ⟨Nat.le_of_ble_eq_true rfl, Nat.le_of_ble_eq_true rfl⟩ rfl hl.1 rfl (Nat.le_of_ble_eq_true rfl) ⟨Nat.le_of_ble_eq_true rfl, Nat.le_of_ble_eq_true rfl⟩ dX6_aCouple_20 (fun σ20 H locs eσ20 hE20 h => ?_)
    have hE20 : (∀ j : Int32, ga σ20 0 j = ga σ 0 j) ∧ ((gi σ20 11).toInt = (gi σ 11).toInt) ∧ (PFr σ σ20) ∧ (0 ≤ (gi σ20 11).toInt ∧ (gi σ20 11).toInt ≤ 900) ∧ (0 ≤ (gi σ20 14).toInt ∧ (gi σ20 14).toInt ≤ (gi σ20 11).toInt) ∧ (0 ≤ (gi σ20 13).toInt ∧ (gi σ20 13).toInt ≤ (gi σ20 14).toInt) ∧ (Hd (¬ (gi σ20 12).toInt = 0 → (gi σ20 13).toInt < (gi σ20 14).toInt)) ∧ ((gi σ 14).toInt ≤ (gi σ20 13).toInt) := hE20
    obtain ⟨hA0_20, hsm_20, hFR_20, hsz_20, hen_20, hfr_20, htk_20, hmf_20⟩ := hE20
    have hNEW : (0 ≤ (gi σ20 11).toInt ∧ (gi σ20 11).toInt ≤ 900) ∧ (0 ≤ (gi σ20 14).toInt ∧ (gi σ20 14).toInt ≤ (gi σ20 11).toInt) ∧ (0 ≤ (gi σ20 13).toInt ∧ (gi σ20 13).toInt ≤ (gi σ20 14).toInt) ∧ (Hd (¬ (gi σ20 12).toInt = 0 → (gi σ20 13).toInt < (gi σ20 14).toInt)) ∧ (0 ≤ (ga σ20 0 (2000 : Int32)).toInt ∧ (ga σ20 0 (2000 : Int32)).toInt ≤ 6) ∧ (0 ≤ (ga σ20 0 (2002 : Int32)).toInt ∧ (ga σ20 0 (2002 : Int32)).toInt ≤ 16) ∧ (SL σ20 2000) ∧ (DP σ20) ∧ ((gi σ20 11).toInt = (gi σ 11).toInt) ∧ ((gi σ 13).toInt ≤ (gi σ20 13).toInt) ∧ (PFr σ σ20) ∧ ((ga σ20 0 (2001 : Int32)).toInt ≤ 2) := ⟨(by first | assumption | omega), (by first | assumption | omega), (by first | assumption | omega), (by first | assumption | omega), (by simp only [hA0_20] <;> exact hNP), (by simp only [hA0_20] <;> exact hND), (SL_A0 hA0_20 hSN), (DP_A0 hA0_20 hDP), (by first | assumption | omega), (by first | assumption | omega), (Fr.tr hFR hFR_20), (by simp only [hA0_20] <;> exact hN1)⟩
    obtain ⟨hsz, hen, hfr, htk, hNP, hND, hSN, hDP, hsm, hmo, hFR, hN1⟩ := hNEW
    clear hsm_20 hsz_20 hen_20 hfr_20 htk_20
    refine lv_aload_n hx hb dX6_aCouple_23 rfl (lv_at hl 0 rfl) ?_
    refine lv_iconst (v := -1) hx hb dX6_aCouple_24 (by decide) ?_
    refine lv_sipush (v := 2495) hx hb dX6_aCouple_25 (by decide) ?_
    have hNP20 := hNP
    refine M_callz (As := [.int (-1 : Int32), .int (2495 : Int32)]) (rest := []) 2 C h (k_X6_mate l g σ20 (-1 : Int32) (2495 : Int32) (by first | assumption | omega) (by first | assumption | omega) (by first | assumption | omega) (by first | assumption | omega) (by first | assumption | omega) (by first | assumption | omega)) (lw_V q1770 q1772 qs82 q152 q1773) rfl rfl (by decide +kernel) ⟨Nat.le_of_ble_eq_true rfl, Nat.le_of_ble_eq_true rfl⟩ rfl hl.1 rfl (Nat.le_of_ble_eq_true rfl) ⟨Nat.le_of_ble_eq_true rfl, Nat.le_of_ble_eq_true rfl⟩ dX6_aCouple_28 (fun r28 σ28 H locs eσ28 er28 br28 hE28 h => ?_)
    have hE28 : (∀ j : Int32, 0 ≤ j.toInt → ¬ j.toInt = (2495 : Int32).toInt → ga σ28 0 j = ga σ20 0 j) ∧ ((gi σ28 11).toInt = (gi σ20 11).toInt) ∧ ((gi σ20 13).toInt ≤ (gi σ28 13).toInt) ∧ (PFr σ20 σ28) ∧ (0 ≤ (gi σ28 11).toInt ∧ (gi σ28 11).toInt ≤ 900) ∧ (0 ≤ (gi σ28 14).toInt ∧ (gi σ28 14).toInt ≤ (gi σ28 11).toInt) ∧ (0 ≤ (gi σ28 13).toInt ∧ (gi σ28 13).toInt ≤ (gi σ28 14).toInt) ∧ (Hd (¬ (gi σ28 12).toInt = 0 → (gi σ28 13).toInt < (gi σ28 14).toInt)) ∧ (0 ≤ (ga σ28 0 (2000 : Int32)).toInt ∧ (ga σ28 0 (2000 : Int32)).toInt ≤ 6) ∧ (Hd (¬ r28.toInt = 0 → 0 ≤ (ga σ28 0 (2495 : Int32)).toInt ∧ (ga σ28 0 (2495 : Int32)).toInt < (ga σ20 0 (2000 : Int32)).toInt)) := hE28
    obtain ⟨hM2_28, hsm_28, hmo_28, hFR_28, hsz_28, hen_28, hfr_28, htk_28, hNP_28, fo_28⟩ := hE28
    have hNEW : (0 ≤ (gi σ28 11).toInt ∧ (gi σ28 11).toInt ≤ 900) ∧ (0 ≤ (gi σ28 14).toInt ∧ (gi σ28 14).toInt ≤ (gi σ28 11).toInt) ∧ (0 ≤ (gi σ28 13).toInt ∧ (gi σ28 13).toInt ≤ (gi σ28 14).toInt) ∧ (Hd (¬ (gi σ28 12).toInt = 0 → (gi σ28 13).toInt < (gi σ28 14).toInt)) ∧ (0 ≤ (ga σ28 0 (2000 : Int32)).toInt ∧ (ga σ28 0 (2000 : Int32)).toInt ≤ 6) ∧ (0 ≤ (ga σ28 0 (2002 : Int32)).toInt ∧ (ga σ28 0 (2002 : Int32)).toInt ≤ 16) ∧ (SL σ28 2000) ∧ (DP σ28) ∧ ((gi σ28 11).toInt = (gi σ 11).toInt) ∧ ((gi σ 13).toInt ≤ (gi σ28 13).toInt) ∧ (PFr σ σ28) ∧ ((ga σ28 0 (2001 : Int32)).toInt ≤ 2) := ⟨(by first | assumption | omega), (by first | assumption | omega), (by first | assumption | omega), (by first | assumption | omega), (by rw [hM2_28 2000 (by omega) (by omega)]; exact hNP), (by rw [hM2_28 2002 (by omega) (by omega)]; exact hND), (SL_A1 hM2_28 (by omega) (fun h1 h2 => absurd h2 (by omega)) hSN), (DP_A1 hM2_28 (by omega) (fun h1 h2 h3 => absurd h2 (by omega)) hDP), (by first | assumption | omega), (by first | assumption | omega), (Fr.tr hFR hFR_28), (by rw [hM2_28 2001 (by omega) (by omega)]; exact hN1)⟩
    clear hsz hen hfr htk hNP hND hSN hDP hsm hmo hFR hN1
    obtain ⟨hsz, hen, hfr, htk, hNP, hND, hSN, hDP, hsm, hmo, hFR, hN1⟩ := hNEW
    clear hsm_28 hmo_28 hsz_28 hen_28 hfr_28 htk_28
    refine lv_if_eq (tgt := 52) hx hb dX6_aCouple_31 (by decide) (fun c31 => ?_) (fun c31 => ?_)
    · have i31 := c_eq c31
      refine lv_iconst (v := 0) hx hb dX6_aCouple_52 (by decide) ?_
      have he : f_X6_aCouple σ = (σ28, (0 : Int32)) := (by have eσ20 := eσ20.symm; subst eσ20; have eσ28 := eσ28.symm; subst eσ28; have er28 := er28.symm; subst er28; exact ((if_neg c9).trans ((if_pos c31).trans rfl)))
      exact M_retz C h hr hlocks (congrArg Prod.fst he) (congrArg Prod.snd he) (Or.inl rfl) ⟨hsm, hmo, hFR, (by first | assumption | omega | (unfold Hd; omega)), (by first | assumption | omega | (unfold Hd; omega)), (by first | assumption | omega | (unfold Hd; omega)), (by first | assumption | omega | (unfold Hd; omega)), (by first | assumption | omega | (unfold Hd; omega)), (by first | assumption | omega | (unfold Hd; omega)), (by first | assumption | omega | (unfold Hd; omega)), (by first | assumption | omega | (unfold Hd; omega))⟩ dX6_aCouple_53
    · have i31 := c_ne c31
      refine lv_aload_n hx hb dX6_aCouple_34 rfl (lv_at hl 0 rfl) ?_
      refine lv_aload_n hx hb dX6_aCouple_35 rfl (lv_at hl 0 rfl) ?_
      refine Mg_0 C h dX6_aCouple_36 ?_
      refine lv_sipush (v := 2495) hx hb dX6_aCouple_39 (by decide) ?_
      refine Ml_0 C h (ix_of zl2495 (by omega)) dX6_aCouple_42 ?_
      refine lv_sipush (v := 2496) hx hb dX6_aCouple_43 (by decide) ?_
      have hNP46 := hNP
      refine M_callz (As := [.int (ga σ28 0 (2495 : Int32)), .int (2496 : Int32)]) (rest := []) 2 C h (k_X6_mate l g σ28 (ga σ28 0 (2495 : Int32)) (2496 : Int32) (by first | assumption | omega) (by first | assumption | omega) (by first | assumption | omega) (by first | assumption | omega) (by first | assumption | omega) (by first | assumption | omega)) (lw_V q1770 q1772 qs82 q152 q1773) rfl rfl (by decide +kernel) ⟨Nat.le_of_ble_eq_true rfl, Nat.le_of_ble_eq_true rfl⟩ rfl hl.1 rfl (Nat.le_of_ble_eq_true rfl) ⟨Nat.le_of_ble_eq_true rfl, Nat.le_of_ble_eq_true rfl⟩ dX6_aCouple_46 (fun r46 σ46 H locs eσ46 er46 br46 hE46 h => ?_)
      have hE46 : (∀ j : Int32, 0 ≤ j.toInt → ¬ j.toInt = (2496 : Int32).toInt → ga σ46 0 j = ga σ28 0 j) ∧ ((gi σ46 11).toInt = (gi σ28 11).toInt) ∧ ((gi σ28 13).toInt ≤ (gi σ46 13).toInt) ∧ (PFr σ28 σ46) ∧ (0 ≤ (gi σ46 11).toInt ∧ (gi σ46 11).toInt ≤ 900) ∧ (0 ≤ (gi σ46 14).toInt ∧ (gi σ46 14).toInt ≤ (gi σ46 11).toInt) ∧ (0 ≤ (gi σ46 13).toInt ∧ (gi σ46 13).toInt ≤ (gi σ46 14).toInt) ∧ (Hd (¬ (gi σ46 12).toInt = 0 → (gi σ46 13).toInt < (gi σ46 14).toInt)) ∧ (0 ≤ (ga σ46 0 (2000 : Int32)).toInt ∧ (ga σ46 0 (2000 : Int32)).toInt ≤ 6) ∧ (Hd (¬ r46.toInt = 0 → 0 ≤ (ga σ46 0 (2496 : Int32)).toInt ∧ (ga σ46 0 (2496 : Int32)).toInt < (ga σ28 0 (2000 : Int32)).toInt)) := hE46
      obtain ⟨hM2_46, hsm_46, hmo_46, hFR_46, hsz_46, hen_46, hfr_46, htk_46, hNP_46, fo_46⟩ := hE46
      have hNEW : (0 ≤ (gi σ46 11).toInt ∧ (gi σ46 11).toInt ≤ 900) ∧ (0 ≤ (gi σ46 14).toInt ∧ (gi σ46 14).toInt ≤ (gi σ46 11).toInt) ∧ (0 ≤ (gi σ46 13).toInt ∧ (gi σ46 13).toInt ≤ (gi σ46 14).toInt) ∧ (Hd (¬ (gi σ46 12).toInt = 0 → (gi σ46 13).toInt < (gi σ46 14).toInt)) ∧ (0 ≤ (ga σ46 0 (2000 : Int32)).toInt ∧ (ga σ46 0 (2000 : Int32)).toInt ≤ 6) ∧ (0 ≤ (ga σ46 0 (2002 : Int32)).toInt ∧ (ga σ46 0 (2002 : Int32)).toInt ≤ 16) ∧ (SL σ46 2000) ∧ (DP σ46) ∧ ((gi σ46 11).toInt = (gi σ 11).toInt) ∧ ((gi σ 13).toInt ≤ (gi σ46 13).toInt) ∧ (PFr σ σ46) ∧ ((ga σ46 0 (2001 : Int32)).toInt ≤ 2) := ⟨(by first | assumption | omega), (by first | assumption | omega), (by first | assumption | omega), (by first | assumption | omega), (by rw [hM2_46 2000 (by omega) (by omega)]; exact hNP), (by rw [hM2_46 2002 (by omega) (by omega)]; exact hND), (SL_A1 hM2_46 (by omega) (fun h1 h2 => absurd h2 (by omega)) hSN), (DP_A1 hM2_46 (by omega) (fun h1 h2 h3 => absurd h2 (by omega)) hDP), (by first | assumption | omega), (by first | assumption | omega), (Fr.tr hFR hFR_46), (by rw [hM2_46 2001 (by omega) (by omega)]; exact hN1)⟩
      clear hsz hen hfr htk hNP hND hSN hDP hsm hmo hFR hN1
      obtain ⟨hsz, hen, hfr, htk, hNP, hND, hSN, hDP, hsm, hmo, hFR, hN1⟩ := hNEW
      clear hsm_46 hmo_46 hsz_46 hen_46 hfr_46 htk_46
      refine lv_if_ne (tgt := 54) hx hb dX6_aCouple_49 (by decide) (fun c49 => ?_) (fun c49 => ?_)
      · have i49 := c_ne c49
        refine lv_aload_n hx hb dX6_aCouple_54 rfl (lv_at hl 0 rfl) ?_
        refine Mg_0 C h dX6_aCouple_55 ?_
        refine lv_sipush (v := 2495) hx hb dX6_aCouple_58 (by decide) ?_
        refine Ml_0 C h (ix_of zl2495 (by omega)) dX6_aCouple_61 ?_
        refine lv_topi (fun v62 ev62 => ?_)
        refine lv_istore_n (lv' := [(1, .int v62), (0, .ref (g.2.1 99))]) hx hb dX6_aCouple_62 rfl hl (by decide) rfl (fun ls hl => ?_)
        have w62 : 0 ≤ v62.toInt ∧ v62.toInt ≤ 5 := by rw [ev62, hM2_46 2495 (by omega) (by omega)]; have q9 := fo_28 (by omega); omega
        refine lv_aload_n hx hb dX6_aCouple_63 rfl (lv_at hl 1 rfl) ?_
        refine Mg_0 C h dX6_aCouple_64 ?_
        refine lv_sipush (v := 2496) hx hb dX6_aCouple_67 (by decide) ?_
        refine Ml_0 C h (ix_of zl2496 (by omega)) dX6_aCouple_70 ?_
        refine lv_topi (fun v71 ev71 => ?_)
        refine lv_istore_n (lv' := [(2, .int v71), (1, .int v62), (0, .ref (g.2.1 99))]) hx hb dX6_aCouple_71 rfl hl (by decide) rfl (fun ls hl => ?_)
        have w71 : 0 ≤ v71.toInt ∧ v71.toInt ≤ 5 := by rw [ev71]; have q9 := fo_46 (by omega); omega
        refine lv_aload_n hx hb dX6_aCouple_72 rfl (lv_at hl 2 rfl) ?_
        refine Mg_0 C h dX6_aCouple_73 ?_
        refine lv_sipush (v := 2012) hx hb dX6_aCouple_76 (by decide) ?_
        refine lv_bipush (v := 8) hx hb dX6_aCouple_79 (by decide) ?_
        refine lv_iload_n hx hb dX6_aCouple_81 rfl (lv_at hl 1 rfl) ?_
        refine lv_imul hx hb dX6_aCouple_82 ?_
        refine lv_iadd hx hb dX6_aCouple_83 ?_
        refine lv_iconst (v := 4) hx hb dX6_aCouple_84 (by decide) ?_
        refine lv_iadd hx hb dX6_aCouple_85 ?_
        refine lv_iload_n hx hb dX6_aCouple_86 rfl (lv_at hl 0 rfl) ?_
        refine Ms_0 C h (ix_of (i_add (i_add zl2012 (i_mul zl8 (rfl : v62.toInt = v62.toInt) (by omega)) (by omega)) zl4 (by omega)) (by omega)) dX6_aCouple_87 (fun σ87 H locs eσ87 h => ?_)
        have hNEW : (0 ≤ (gi σ87 11).toInt ∧ (gi σ87 11).toInt ≤ 900) ∧ (0 ≤ (gi σ87 14).toInt ∧ (gi σ87 14).toInt ≤ (gi σ87 11).toInt) ∧ (0 ≤ (gi σ87 13).toInt ∧ (gi σ87 13).toInt ≤ (gi σ87 14).toInt) ∧ (Hd (¬ (gi σ87 12).toInt = 0 → (gi σ87 13).toInt < (gi σ87 14).toInt)) ∧ (0 ≤ (ga σ87 0 (2000 : Int32)).toInt ∧ (ga σ87 0 (2000 : Int32)).toInt ≤ 6) ∧ (0 ≤ (ga σ87 0 (2002 : Int32)).toInt ∧ (ga σ87 0 (2002 : Int32)).toInt ≤ 16) ∧ (SL σ87 2000) ∧ (DP σ87) ∧ ((gi σ87 11).toInt = (gi σ 11).toInt) ∧ ((gi σ 13).toInt ≤ (gi σ87 13).toInt) ∧ (PFr σ σ87) ∧ ((ga σ87 0 (2001 : Int32)).toInt ≤ 2) := ⟨(by rw [eσ87, ] <;> exact hsz), (by rw [eσ87, ] <;> exact hen), (by rw [eσ87, ] <;> exact hfr), (by rw [eσ87, ] <;> exact htk), (by rw [eσ87, ga_sa_ne (j := (2000 : Int32)) (i_add (i_add zl2012 (i_mul zl8 (rfl : v62.toInt = v62.toInt) (by omega)) (by omega)) zl4 (by omega)) zl2000 (by omega)] <;> exact hNP), (by rw [eσ87, ga_sa_ne (j := (2002 : Int32)) (i_add (i_add zl2012 (i_mul zl8 (rfl : v62.toInt = v62.toInt) (by omega)) (by omega)) zl4 (by omega)) zl2002 (by omega)] <;> exact hND), (by rw [eσ87]; exact (SL_sa (i_add (i_add zl2012 (i_mul zl8 (rfl : v62.toInt = v62.toInt) (by omega)) (by omega)) zl4 (by omega)) (by omega) (by omega) (by unfold CV; omega) hSN)), (by rw [eσ87]; exact (DP_sa (i_add (i_add zl2012 (i_mul zl8 (rfl : v62.toInt = v62.toInt) (by omega)) (by omega)) zl4 (by omega)) (by omega) (by omega) (by omega) hDP)), (by rw [eσ87, ] <;> exact hsm), (by rw [eσ87, ] <;> exact hmo), (by rw [eσ87]; exact (Fr_sa (i_add (i_add zl2012 (i_mul zl8 (rfl : v62.toInt = v62.toInt) (by omega)) (by omega)) zl4 (by omega)) (by first | omega | (dsimp only; omega)) (by omega) hFR)), (by rw [eσ87, ga_sa_ne (j := (2001 : Int32)) (i_add (i_add zl2012 (i_mul zl8 (rfl : v62.toInt = v62.toInt) (by omega)) (by omega)) zl4 (by omega)) zl2001 (by omega)] <;> exact hN1)⟩
        clear hsz hen hfr htk hNP hND hSN hDP hsm hmo hFR hN1
        obtain ⟨hsz, hen, hfr, htk, hNP, hND, hSN, hDP, hsm, hmo, hFR, hN1⟩ := hNEW
        refine lv_aload_n hx hb dX6_aCouple_88 rfl (lv_at hl 2 rfl) ?_
        refine Mg_0 C h dX6_aCouple_89 ?_
        refine lv_sipush (v := 2012) hx hb dX6_aCouple_92 (by decide) ?_
        refine lv_bipush (v := 8) hx hb dX6_aCouple_95 (by decide) ?_
        refine lv_iload_n hx hb dX6_aCouple_97 rfl (lv_at hl 0 rfl) ?_
        refine lv_imul hx hb dX6_aCouple_98 ?_
        refine lv_iadd hx hb dX6_aCouple_99 ?_
        refine lv_iconst (v := 4) hx hb dX6_aCouple_100 (by decide) ?_
        refine lv_iadd hx hb dX6_aCouple_101 ?_
        refine lv_iload_n hx hb dX6_aCouple_102 rfl (lv_at hl 1 rfl) ?_
        refine Ms_0 C h (ix_of (i_add (i_add zl2012 (i_mul zl8 (rfl : v71.toInt = v71.toInt) (by omega)) (by omega)) zl4 (by omega)) (by omega)) dX6_aCouple_103 (fun σ103 H locs eσ103 h => ?_)
        have hNEW : (0 ≤ (gi σ103 11).toInt ∧ (gi σ103 11).toInt ≤ 900) ∧ (0 ≤ (gi σ103 14).toInt ∧ (gi σ103 14).toInt ≤ (gi σ103 11).toInt) ∧ (0 ≤ (gi σ103 13).toInt ∧ (gi σ103 13).toInt ≤ (gi σ103 14).toInt) ∧ (Hd (¬ (gi σ103 12).toInt = 0 → (gi σ103 13).toInt < (gi σ103 14).toInt)) ∧ (0 ≤ (ga σ103 0 (2000 : Int32)).toInt ∧ (ga σ103 0 (2000 : Int32)).toInt ≤ 6) ∧ (0 ≤ (ga σ103 0 (2002 : Int32)).toInt ∧ (ga σ103 0 (2002 : Int32)).toInt ≤ 16) ∧ (SL σ103 2000) ∧ (DP σ103) ∧ ((gi σ103 11).toInt = (gi σ 11).toInt) ∧ ((gi σ 13).toInt ≤ (gi σ103 13).toInt) ∧ (PFr σ σ103) ∧ ((ga σ103 0 (2001 : Int32)).toInt ≤ 2) := ⟨(by rw [eσ103, ] <;> exact hsz), (by rw [eσ103, ] <;> exact hen), (by rw [eσ103, ] <;> exact hfr), (by rw [eσ103, ] <;> exact htk), (by rw [eσ103, ga_sa_ne (j := (2000 : Int32)) (i_add (i_add zl2012 (i_mul zl8 (rfl : v71.toInt = v71.toInt) (by omega)) (by omega)) zl4 (by omega)) zl2000 (by omega)] <;> exact hNP), (by rw [eσ103, ga_sa_ne (j := (2002 : Int32)) (i_add (i_add zl2012 (i_mul zl8 (rfl : v71.toInt = v71.toInt) (by omega)) (by omega)) zl4 (by omega)) zl2002 (by omega)] <;> exact hND), (by rw [eσ103]; exact (SL_sa (i_add (i_add zl2012 (i_mul zl8 (rfl : v71.toInt = v71.toInt) (by omega)) (by omega)) zl4 (by omega)) (by omega) (by omega) (by unfold CV; omega) hSN)), (by rw [eσ103]; exact (DP_sa (i_add (i_add zl2012 (i_mul zl8 (rfl : v71.toInt = v71.toInt) (by omega)) (by omega)) zl4 (by omega)) (by omega) (by omega) (by omega) hDP)), (by rw [eσ103, ] <;> exact hsm), (by rw [eσ103, ] <;> exact hmo), (by rw [eσ103]; exact (Fr_sa (i_add (i_add zl2012 (i_mul zl8 (rfl : v71.toInt = v71.toInt) (by omega)) (by omega)) zl4 (by omega)) (by first | omega | (dsimp only; omega)) (by omega) hFR)), (by rw [eσ103, ga_sa_ne (j := (2001 : Int32)) (i_add (i_add zl2012 (i_mul zl8 (rfl : v71.toInt = v71.toInt) (by omega)) (by omega)) zl4 (by omega)) zl2001 (by omega)] <;> exact hN1)⟩
        clear hsz hen hfr htk hNP hND hSN hDP hsm hmo hFR hN1
        obtain ⟨hsz, hen, hfr, htk, hNP, hND, hSN, hDP, hsm, hmo, hFR, hN1⟩ := hNEW
        refine lv_aload_n hx hb dX6_aCouple_104 rfl (lv_at hl 2 rfl) ?_
        refine Mg_0 C h dX6_aCouple_105 ?_
        refine lv_sipush (v := 2001) hx hb dX6_aCouple_108 (by decide) ?_
        refine lv_dup2_11 hx hb dX6_aCouple_111 rfl rfl ?_
        refine Ml_0 C h (ix_of zl2001 (by omega)) dX6_aCouple_112 ?_
        refine lv_iconst (v := 1) hx hb dX6_aCouple_113 (by decide) ?_
        refine lv_iadd hx hb dX6_aCouple_114 ?_
        have w115b := hN1
        have w114 := (hSN (2001 : Int32) (by omega) (by omega)).2.1 (by omega)
        have w115 : ((ga σ103 0 (2001 : Int32)) + (1 : Int32)).toInt = (ga σ103 0 (2001 : Int32)).toInt + 1 := i_add rfl zl1 (by omega)
        refine Ms_0 C h (ix_of zl2001 (by omega)) dX6_aCouple_115 (fun σ115 H locs eσ115 h => ?_)
        have hNEW : (0 ≤ (gi σ115 11).toInt ∧ (gi σ115 11).toInt ≤ 900) ∧ (0 ≤ (gi σ115 14).toInt ∧ (gi σ115 14).toInt ≤ (gi σ115 11).toInt) ∧ (0 ≤ (gi σ115 13).toInt ∧ (gi σ115 13).toInt ≤ (gi σ115 14).toInt) ∧ (Hd (¬ (gi σ115 12).toInt = 0 → (gi σ115 13).toInt < (gi σ115 14).toInt)) ∧ (0 ≤ (ga σ115 0 (2000 : Int32)).toInt ∧ (ga σ115 0 (2000 : Int32)).toInt ≤ 6) ∧ (0 ≤ (ga σ115 0 (2002 : Int32)).toInt ∧ (ga σ115 0 (2002 : Int32)).toInt ≤ 16) ∧ (SL σ115 2000) ∧ (DP σ115) ∧ ((gi σ115 11).toInt = (gi σ 11).toInt) ∧ ((gi σ 13).toInt ≤ (gi σ115 13).toInt) ∧ (PFr σ σ115) := ⟨(by rw [eσ115, ] <;> exact hsz), (by rw [eσ115, ] <;> exact hen), (by rw [eσ115, ] <;> exact hfr), (by rw [eσ115, ] <;> exact htk), (by rw [eσ115, ga_sa_ne (j := (2000 : Int32)) zl2001 zl2000 (by omega)] <;> exact hNP), (by rw [eσ115, ga_sa_ne (j := (2002 : Int32)) zl2001 zl2002 (by omega)] <;> exact hND), (by rw [eσ115]; exact (SL_sa zl2001 (by omega) (by omega) (by unfold CV; omega) hSN)), (by rw [eσ115]; exact (DP_sa zl2001 (by omega) (by omega) (by omega) hDP)), (by rw [eσ115, ] <;> exact hsm), (by rw [eσ115, ] <;> exact hmo), (by rw [eσ115]; exact (Fr_sa zl2001 (by first | omega | (dsimp only; omega)) (by omega) hFR))⟩
        clear hsz hen hfr htk hNP hND hSN hDP hsm hmo hFR
        obtain ⟨hsz, hen, hfr, htk, hNP, hND, hSN, hDP, hsm, hmo, hFR⟩ := hNEW
        refine lv_iconst (v := 1) hx hb dX6_aCouple_116 (by decide) ?_
        have he : f_X6_aCouple σ = (σ115, (1 : Int32)) := (by have eσ20 := eσ20.symm; subst eσ20; have eσ28 := eσ28.symm; subst eσ28; have er28 := er28.symm; subst er28; have eσ46 := eσ46.symm; subst eσ46; have er46 := er46.symm; subst er46; have ev62 := ev62.symm; subst ev62; have ev71 := ev71.symm; subst ev71; have eσ87 := eσ87.symm; subst eσ87; have eσ103 := eσ103.symm; subst eσ103; have eσ115 := eσ115.symm; subst eσ115; exact ((if_neg c9).trans ((if_neg c31).trans ((if_neg c49).trans rfl))))
        exact M_retz C h hr hlocks (congrArg Prod.fst he) (congrArg Prod.snd he) (Or.inr rfl) ⟨hsm, hmo, hFR, (by first | assumption | omega | (unfold Hd; omega)), (by first | assumption | omega | (unfold Hd; omega)), (by first | assumption | omega | (unfold Hd; omega)), (by first | assumption | omega | (unfold Hd; omega)), (by first | assumption | omega | (unfold Hd; omega)), (by first | assumption | omega | (unfold Hd; omega)), (by first | assumption | omega | (unfold Hd; omega)), (by first | assumption | omega | (unfold Hd; omega))⟩ dX6_aCouple_117
      · have i49 := c_eq c49
        refine lv_iconst (v := 0) hx hb dX6_aCouple_52 (by decide) ?_
        have he : f_X6_aCouple σ = (σ46, (0 : Int32)) := (by have eσ20 := eσ20.symm; subst eσ20; have eσ28 := eσ28.symm; subst eσ28; have er28 := er28.symm; subst er28; have eσ46 := eσ46.symm; subst eσ46; have er46 := er46.symm; subst er46; exact ((if_neg c9).trans ((if_neg c31).trans ((if_pos c49).trans rfl))))
        exact M_retz C h hr hlocks (congrArg Prod.fst he) (congrArg Prod.snd he) (Or.inl rfl) ⟨hsm, hmo, hFR, (by first | assumption | omega | (unfold Hd; omega)), (by first | assumption | omega | (unfold Hd; omega)), (by first | assumption | omega | (unfold Hd; omega)), (by first | assumption | omega | (unfold Hd; omega)), (by first | assumption | omega | (unfold Hd; omega)), (by first | assumption | omega | (unfold Hd; omega)), (by first | assumption | omega | (unfold Hd; omega)), (by first | assumption | omega | (unfold Hd; omega))⟩ dX6_aCouple_53
  · have i9 := c_eq c9
    refine lv_aload_n hx hb dX6_aCouple_12 rfl (lv_at hl 0 rfl) ?_
    refine lv_bipush (v := 6) hx hb dX6_aCouple_13 (by decide) ?_
    refine M_callz (As := [.int (6 : Int32)]) (rest := []) 1 C h (k_X6_fails l g σ (6 : Int32) (by first | assumption | omega) (by first | assumption | omega) (by first | assumption | omega) (by first | assumption | omega)) (lw_V q1742 q1744 qs75 q152 q1745) rfl rfl (by decide +kernel) ⟨Nat.le_of_ble_eq_true rfl, Nat.le_of_ble_eq_true rfl⟩ rfl hl.1 rfl (Nat.le_of_ble_eq_true rfl) ⟨Nat.le_of_ble_eq_true rfl, Nat.le_of_ble_eq_true rfl⟩ dX6_aCouple_15 (fun r15 σ15 H locs eσ15 er15 br15 hE15 h => ?_)
    have hE15 : (∀ j : Int32, ga σ15 0 j = ga σ 0 j) ∧ ((gi σ15 11).toInt = (gi σ 11).toInt) ∧ ((gi σ 13).toInt ≤ (gi σ15 13).toInt) ∧ (PFr σ σ15) ∧ (0 ≤ (gi σ15 11).toInt ∧ (gi σ15 11).toInt ≤ 900) ∧ (0 ≤ (gi σ15 14).toInt ∧ (gi σ15 14).toInt ≤ (gi σ15 11).toInt) ∧ (0 ≤ (gi σ15 13).toInt ∧ (gi σ15 13).toInt ≤ (gi σ15 14).toInt) ∧ (Hd (¬ (gi σ15 12).toInt = 0 → (gi σ15 13).toInt < (gi σ15 14).toInt)) ∧ (r15.toInt = 0) := hE15
    obtain ⟨hA0_15, hsm_15, hmo_15, hFR_15, hsz_15, hen_15, hfr_15, htk_15, fz_15⟩ := hE15
    have hNEW : (0 ≤ (gi σ15 11).toInt ∧ (gi σ15 11).toInt ≤ 900) ∧ (0 ≤ (gi σ15 14).toInt ∧ (gi σ15 14).toInt ≤ (gi σ15 11).toInt) ∧ (0 ≤ (gi σ15 13).toInt ∧ (gi σ15 13).toInt ≤ (gi σ15 14).toInt) ∧ (Hd (¬ (gi σ15 12).toInt = 0 → (gi σ15 13).toInt < (gi σ15 14).toInt)) ∧ (0 ≤ (ga σ15 0 (2000 : Int32)).toInt ∧ (ga σ15 0 (2000 : Int32)).toInt ≤ 6) ∧ (0 ≤ (ga σ15 0 (2002 : Int32)).toInt ∧ (ga σ15 0 (2002 : Int32)).toInt ≤ 16) ∧ (SL σ15 2000) ∧ (DP σ15) ∧ ((gi σ15 11).toInt = (gi σ 11).toInt) ∧ ((gi σ 13).toInt ≤ (gi σ15 13).toInt) ∧ (PFr σ σ15) := ⟨(by first | assumption | omega), (by first | assumption | omega), (by first | assumption | omega), (by first | assumption | omega), (by simp only [hA0_15] <;> exact hNP), (by simp only [hA0_15] <;> exact hND), (SL_A0 hA0_15 hSN), (DP_A0 hA0_15 hDP), (by first | assumption | omega), (by first | assumption | omega), (Fr.tr hFR hFR_15)⟩
    obtain ⟨hsz, hen, hfr, htk, hNP, hND, hSN, hDP, hsm, hmo, hFR⟩ := hNEW
    clear hsm_15 hmo_15 hsz_15 hen_15 hfr_15 htk_15
    have he : f_X6_aCouple σ = (σ15, r15) := (by have eσ15 := eσ15.symm; subst eσ15; have er15 := er15.symm; subst er15; exact ((if_pos c9).trans rfl))
    exact M_retz C h hr hlocks (congrArg Prod.fst he) (congrArg Prod.snd he) br15 ⟨hsm, hmo, hFR, (by first | assumption | omega | (unfold Hd; omega)), (by first | assumption | omega | (unfold Hd; omega)), (by first | assumption | omega | (unfold Hd; omega)), (by first | assumption | omega | (unfold Hd; omega)), (by first | assumption | omega | (unfold Hd; omega)), (by first | assumption | omega | (unfold Hd; omega)), (by first | assumption | omega | (unfold Hd; omega)), (by first | assumption | omega | (unfold Hd; omega))⟩ dX6_aCouple_18
