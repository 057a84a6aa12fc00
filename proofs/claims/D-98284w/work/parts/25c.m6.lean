/-! walks of methods by contract, printed by gen/mkwalk.py -/
set_option maxRecDepth 100000
def f_X6_aDebt (σ : MS) : MS × Int32 := (let v8 := (ga σ 0 (2000 : Int32)); let σ10 := (f_X6_ahead σ); let z20 := (f_X6_oldOne σ10 (24 : Int32) v8 (2495 : Int32)); let σ20 := z20.1; let r20 := z20.2; if r20 = (0 : Int32) then ((σ20, (0 : Int32))) else ((let z36 := (f_X6_otherOne σ20 (24 : Int32) v8 (2495 : Int32) (2496 : Int32)); let σ36 := z36.1; let r36 := z36.2; if r36 = (0 : Int32) then ((σ36, (0 : Int32))) else ((let z73 := (f_X6_number σ36 (((2092 : Int32) + ((6 : Int32) * (ga σ36 0 (2495 : Int32)))) + (ga σ36 0 (2496 : Int32))) (0 : Int32) (9999 : Int32)); let σ73 := z73.1; let r73 := z73.2; (σ73, r73))))))
set_option maxHeartbeats 4000000 in
set_option maxRecDepth 100000 in
theorem k_X6_aDebt (l : Launch) (g : GE) (σ : MS) (hsz : 0 ≤ (gi σ 11).toInt ∧ (gi σ 11).toInt ≤ 900) (hen : 0 ≤ (gi σ 14).toInt ∧ (gi σ 14).toInt ≤ (gi σ 11).toInt) (hfr : 0 ≤ (gi σ 13).toInt ∧ (gi σ 13).toInt ≤ (gi σ 14).toInt) (htk : Hd (¬ (gi σ 12).toInt = 0 → (gi σ 13).toInt < (gi σ 14).toInt)) (hNP : 0 ≤ (ga σ 0 (2000 : Int32)).toInt ∧ (ga σ 0 (2000 : Int32)).toInt ≤ 6) (hND : 0 ≤ (ga σ 0 (2002 : Int32)).toInt ∧ (ga σ 0 (2002 : Int32)).toInt ≤ 16) (hSN : SL σ 2000) (hDP : DP σ) : Met l yX6_aDebt (ws_ yX6_aDebt cX6_aDebt 2 (some .boolean)) ({ frames := 8, cells := 0, slots := 0, locals := 179 } : Room) (mPc g σ []) (mQz g (f_X6_aDebt σ).1 (f_X6_aDebt σ).2 (fun u r => ((gi u 11).toInt = (gi σ 11).toInt) ∧ ((gi σ 13).toInt ≤ (gi u 13).toInt) ∧ (PFr σ u) ∧ (0 ≤ (gi u 11).toInt ∧ (gi u 11).toInt ≤ 900) ∧ (0 ≤ (gi u 14).toInt ∧ (gi u 14).toInt ≤ (gi u 11).toInt) ∧ (0 ≤ (gi u 13).toInt ∧ (gi u 13).toInt ≤ (gi u 14).toInt) ∧ (Hd (¬ (gi u 12).toInt = 0 → (gi u 13).toInt < (gi u 14).toInt)) ∧ (0 ≤ (ga u 0 (2000 : Int32)).toInt ∧ (ga u 0 (2000 : Int32)).toInt ≤ 6) ∧ (0 ≤ (ga u 0 (2002 : Int32)).toInt ∧ (ga u 0 (2002 : Int32)).toInt ≤ 16) ∧ (SL u 2000) ∧ (DP u))) 0 0 (mA g) := by
  refine met_M (by decide) rfl (Nat.le_of_ble_eq_true rfl) ?_
  intro p e s m args below meth c C hr hlocks h ls hl
  have hx := C.1.1
  have hb := C.1.2.1
  have hml := C.1.2.2.1
  have hown := C.1.2.2.2.1
  have hts := C.1.2.2.2.2
  have hl : lv_has ls 2 [(0, .ref (g.2.1 99))] := hl
  have hsm : (gi σ 11).toInt = (gi σ 11).toInt := rfl
  have hmo : (gi σ 13).toInt ≤ (gi σ 13).toInt := Int.le_refl _
  have hFR : PFr σ σ := Fr.rf
  have zl0 : (0 : Int32).toInt = 0 := rfl
  have zl6 : (6 : Int32).toInt = 6 := rfl
  have zl24 : (24 : Int32).toInt = 24 := rfl
  have zl2000 : (2000 : Int32).toInt = 2000 := rfl
  have zl2092 : (2092 : Int32).toInt = 2092 := rfl
  have zl2495 : (2495 : Int32).toInt = 2495 := rfl
  have zl2496 : (2496 : Int32).toInt = 2496 := rfl
  have zl9999 : (9999 : Int32).toInt = 9999 := rfl
  have zl2000 : (2000 : Int32).toInt = 2000 := rfl
  have zl2002 : (2002 : Int32).toInt = 2002 := rfl
  refine lv_aload_n hx hb dX6_aDebt_0 rfl (lv_at hl 0 rfl) ?_
  refine Mg_0 C h dX6_aDebt_1 ?_
  refine lv_sipush (v := 2000) hx hb dX6_aDebt_4 (by decide) ?_
  refine Ml_0 C h (ix_of zl2000 (by omega)) dX6_aDebt_7 ?_
  refine lv_topi (fun v8 ev8 => ?_)
  refine lv_istore_n (lv' := [(1, .int v8), (0, .ref (g.2.1 99))]) hx hb dX6_aDebt_8 rfl hl (by decide) rfl (fun ls hl => ?_)
  have w8 : v8.toInt = (ga σ 0 (2000 : Int32)).toInt := by rw [ev8]
  refine lv_aload_n hx hb dX6_aDebt_9 rfl (lv_at hl 1 rfl) ?_
  refine M_callv (As := []) (rest := []) 0 C h (k_X6_ahead l g σ (by first | assumption | omega) (by first | assumption | omega)) (lw_V q1707 q1709 qs69 q152 q1710) rfl rfl (by decide +kernel) ⟨Nat.le_of_ble_eq_true rfl, Nat.le_of_ble_eq_true rfl⟩ rfl hl.1 rfl (Nat.le_of_ble_eq_true rfl) ⟨Nat.le_of_ble_eq_true rfl, Nat.le_of_ble_eq_true rfl⟩ dX6_aDebt_10 (fun σ10 H locs eσ10 hE10 h => ?_)
  have hE10 : (∀ j : Int32, ga σ10 0 j = ga σ 0 j) ∧ ((gi σ10 11).toInt = (gi σ 11).toInt) ∧ (PFr σ σ10) ∧ (0 ≤ (gi σ10 11).toInt ∧ (gi σ10 11).toInt ≤ 900) ∧ (0 ≤ (gi σ10 14).toInt ∧ (gi σ10 14).toInt ≤ (gi σ10 11).toInt) ∧ (0 ≤ (gi σ10 13).toInt ∧ (gi σ10 13).toInt ≤ (gi σ10 14).toInt) ∧ (Hd (¬ (gi σ10 12).toInt = 0 → (gi σ10 13).toInt < (gi σ10 14).toInt)) ∧ ((gi σ 14).toInt ≤ (gi σ10 13).toInt) := hE10
  obtain ⟨hA0_10, hsm_10, hFR_10, hsz_10, hen_10, hfr_10, htk_10, hmf_10⟩ := hE10
  have hNEW : (0 ≤ (gi σ10 11).toInt ∧ (gi σ10 11).toInt ≤ 900) ∧ (0 ≤ (gi σ10 14).toInt ∧ (gi σ10 14).toInt ≤ (gi σ10 11).toInt) ∧ (0 ≤ (gi σ10 13).toInt ∧ (gi σ10 13).toInt ≤ (gi σ10 14).toInt) ∧ (Hd (¬ (gi σ10 12).toInt = 0 → (gi σ10 13).toInt < (gi σ10 14).toInt)) ∧ (0 ≤ (ga σ10 0 (2000 : Int32)).toInt ∧ (ga σ10 0 (2000 : Int32)).toInt ≤ 6) ∧ (0 ≤ (ga σ10 0 (2002 : Int32)).toInt ∧ (ga σ10 0 (2002 : Int32)).toInt ≤ 16) ∧ (SL σ10 2000) ∧ (DP σ10) ∧ ((gi σ10 11).toInt = (gi σ 11).toInt) ∧ ((gi σ 13).toInt ≤ (gi σ10 13).toInt) ∧ (PFr σ σ10) := ⟨(by first | assumption | omega), (by first | assumption | omega), (by first | assumption | omega), (by first | assumption | omega), (by simp only [hA0_10] <;> exact hNP), (by simp only [hA0_10] <;> exact hND), (SL_A0 hA0_10 hSN), (DP_A0 hA0_10 hDP), (by first | assumption | omega), (by first | assumption | omega), (Fr.tr hFR hFR_10)⟩
  obtain ⟨hsz, hen, hfr, htk, hNP, hND, hSN, hDP, hsm, hmo, hFR⟩ := hNEW
  clear hsm_10 hsz_10 hen_10 hfr_10 htk_10
  refine lv_aload_n hx hb dX6_aDebt_13 rfl (lv_at hl 1 rfl) ?_
  refine lv_bipush (v := 24) hx hb dX6_aDebt_14 (by decide) ?_
  refine lv_iload_n hx hb dX6_aDebt_16 rfl (lv_at hl 0 rfl) ?_
  refine lv_sipush (v := 2495) hx hb dX6_aDebt_17 (by decide) ?_
  refine M_callz (As := [.int (24 : Int32), .int v8, .int (2495 : Int32)]) (rest := []) 3 C h (k_X6_oldOne l g σ10 (24 : Int32) v8 (2495 : Int32) (by first | assumption | omega) (by first | assumption | omega) (by first | assumption | omega) (by first | assumption | omega) (by first | assumption | omega) (by first | assumption | omega) (by first | assumption | omega)) (lw_V q1774 q1776 qs83 q152 q1777) rfl rfl (by decide +kernel) ⟨Nat.le_of_ble_eq_true rfl, Nat.le_of_ble_eq_true rfl⟩ rfl hl.1 rfl (Nat.le_of_ble_eq_true rfl) ⟨Nat.le_of_ble_eq_true rfl, Nat.le_of_ble_eq_true rfl⟩ dX6_aDebt_20 (fun r20 σ20 H locs eσ20 er20 br20 hE20 h => ?_)
  have hE20 : (∀ j : Int32, 0 ≤ j.toInt → ¬ j.toInt = (2495 : Int32).toInt → ga σ20 0 j = ga σ10 0 j) ∧ ((gi σ20 11).toInt = (gi σ10 11).toInt) ∧ ((gi σ10 13).toInt ≤ (gi σ20 13).toInt) ∧ (PFr σ10 σ20) ∧ (0 ≤ (gi σ20 11).toInt ∧ (gi σ20 11).toInt ≤ 900) ∧ (0 ≤ (gi σ20 14).toInt ∧ (gi σ20 14).toInt ≤ (gi σ20 11).toInt) ∧ (0 ≤ (gi σ20 13).toInt ∧ (gi σ20 13).toInt ≤ (gi σ20 14).toInt) ∧ (Hd (¬ (gi σ20 12).toInt = 0 → (gi σ20 13).toInt < (gi σ20 14).toInt)) ∧ (Hd (¬ r20.toInt = 0 → 0 ≤ (ga σ20 0 (2495 : Int32)).toInt ∧ (ga σ20 0 (2495 : Int32)).toInt < v8.toInt)) ∧ (Hd (ga σ20 0 (2495 : Int32) = ga σ10 0 (2495 : Int32) ∨ (-1 ≤ (ga σ20 0 (2495 : Int32)).toInt ∧ (ga σ20 0 (2495 : Int32)).toInt ≤ 5))) := hE20
  obtain ⟨hA2_20, hsm_20, hmo_20, hFR_20, hsz_20, hen_20, hfr_20, htk_20, fo_20, fw_20⟩ := hE20
  have hNEW : (0 ≤ (gi σ20 11).toInt ∧ (gi σ20 11).toInt ≤ 900) ∧ (0 ≤ (gi σ20 14).toInt ∧ (gi σ20 14).toInt ≤ (gi σ20 11).toInt) ∧ (0 ≤ (gi σ20 13).toInt ∧ (gi σ20 13).toInt ≤ (gi σ20 14).toInt) ∧ (Hd (¬ (gi σ20 12).toInt = 0 → (gi σ20 13).toInt < (gi σ20 14).toInt)) ∧ (0 ≤ (ga σ20 0 (2000 : Int32)).toInt ∧ (ga σ20 0 (2000 : Int32)).toInt ≤ 6) ∧ (0 ≤ (ga σ20 0 (2002 : Int32)).toInt ∧ (ga σ20 0 (2002 : Int32)).toInt ≤ 16) ∧ (SL σ20 2000) ∧ (DP σ20) ∧ ((gi σ20 11).toInt = (gi σ 11).toInt) ∧ ((gi σ 13).toInt ≤ (gi σ20 13).toInt) ∧ (PFr σ σ20) := ⟨(by first | assumption | omega), (by first | assumption | omega), (by first | assumption | omega), (by first | assumption | omega), (by rw [hA2_20 2000 (by omega) (by omega)]; exact hNP), (by rw [hA2_20 2002 (by omega) (by omega)]; exact hND), (SL_A1 hA2_20 (by omega) (fun h1 h2 => Or.elim fw_20 Or.inl (fun q => Or.inr (by unfold CV; omega))) hSN), (DP_A1 hA2_20 (by omega) (fun h1 h2 h3 => absurd h2 (by omega)) hDP), (by first | assumption | omega), (by first | assumption | omega), (Fr.tr hFR hFR_20)⟩
  clear hsz hen hfr htk hNP hND hSN hDP hsm hmo hFR
  obtain ⟨hsz, hen, hfr, htk, hNP, hND, hSN, hDP, hsm, hmo, hFR⟩ := hNEW
  clear hsm_20 hmo_20 hsz_20 hen_20 hfr_20 htk_20
  refine lv_if_eq (tgt := 42) hx hb dX6_aDebt_23 (by decide) (fun c23 => ?_) (fun c23 => ?_)
  · have i23 := c_eq c23
    refine lv_iconst (v := 0) hx hb dX6_aDebt_42 (by decide) ?_
    have he : f_X6_aDebt σ = (σ20, (0 : Int32)) := (by have ev8 := ev8.symm; subst ev8; have eσ10 := eσ10.symm; subst eσ10; have eσ20 := eσ20.symm; subst eσ20; have er20 := er20.symm; subst er20; unfold f_X6_aDebt; dsimp only; rw [if_pos c23])
    exact M_retz C h hr hlocks (congrArg Prod.fst he) (congrArg Prod.snd he) (Or.inl rfl) ⟨hsm, hmo, hFR, (by first | assumption | omega | (unfold Hd; omega)), (by first | assumption | omega | (unfold Hd; omega)), (by first | assumption | omega | (unfold Hd; omega)), (by first | assumption | omega | (unfold Hd; omega)), (by first | assumption | omega | (unfold Hd; omega)), (by first | assumption | omega | (unfold Hd; omega)), (by first | assumption | omega | (unfold Hd; omega)), (by first | assumption | omega | (unfold Hd; omega))⟩ dX6_aDebt_43
  · have i23 := c_ne c23
    refine lv_aload_n hx hb dX6_aDebt_26 rfl (lv_at hl 1 rfl) ?_
    refine lv_bipush (v := 24) hx hb dX6_aDebt_27 (by decide) ?_
    refine lv_iload_n hx hb dX6_aDebt_29 rfl (lv_at hl 0 rfl) ?_
    refine lv_sipush (v := 2495) hx hb dX6_aDebt_30 (by decide) ?_
    refine lv_sipush (v := 2496) hx hb dX6_aDebt_33 (by decide) ?_
    refine M_callz (As := [.int (24 : Int32), .int v8, .int (2495 : Int32), .int (2496 : Int32)]) (rest := []) 4 C h (k_X6_otherOne l g σ20 (24 : Int32) v8 (2495 : Int32) (2496 : Int32) (by first | assumption | omega) (by first | assumption | omega) (by first | assumption | omega) (by first | assumption | omega) (by first | assumption | omega) (by first | assumption | omega) (by first | assumption | omega) (by first | assumption | omega)) (lw_V q1786 q1788 qs86 q152 q1789) rfl rfl (by decide +kernel) ⟨Nat.le_of_ble_eq_true rfl, Nat.le_of_ble_eq_true rfl⟩ rfl hl.1 rfl (Nat.le_of_ble_eq_true rfl) ⟨Nat.le_of_ble_eq_true rfl, Nat.le_of_ble_eq_true rfl⟩ dX6_aDebt_36 (fun r36 σ36 H locs eσ36 er36 br36 hE36 h => ?_)
    have hE36 : (∀ j : Int32, 0 ≤ j.toInt → ¬ j.toInt = (2496 : Int32).toInt → ga σ36 0 j = ga σ20 0 j) ∧ ((gi σ36 11).toInt = (gi σ20 11).toInt) ∧ ((gi σ20 13).toInt ≤ (gi σ36 13).toInt) ∧ (PFr σ20 σ36) ∧ (0 ≤ (gi σ36 11).toInt ∧ (gi σ36 11).toInt ≤ 900) ∧ (0 ≤ (gi σ36 14).toInt ∧ (gi σ36 14).toInt ≤ (gi σ36 11).toInt) ∧ (0 ≤ (gi σ36 13).toInt ∧ (gi σ36 13).toInt ≤ (gi σ36 14).toInt) ∧ (Hd (¬ (gi σ36 12).toInt = 0 → (gi σ36 13).toInt < (gi σ36 14).toInt)) ∧ (Hd (¬ r36.toInt = 0 → 0 ≤ (ga σ36 0 (2496 : Int32)).toInt ∧ (ga σ36 0 (2496 : Int32)).toInt < v8.toInt)) := hE36
    obtain ⟨hA4_36, hsm_36, hmo_36, hFR_36, hsz_36, hen_36, hfr_36, htk_36, fo_36⟩ := hE36
    have hNEW : (0 ≤ (gi σ36 11).toInt ∧ (gi σ36 11).toInt ≤ 900) ∧ (0 ≤ (gi σ36 14).toInt ∧ (gi σ36 14).toInt ≤ (gi σ36 11).toInt) ∧ (0 ≤ (gi σ36 13).toInt ∧ (gi σ36 13).toInt ≤ (gi σ36 14).toInt) ∧ (Hd (¬ (gi σ36 12).toInt = 0 → (gi σ36 13).toInt < (gi σ36 14).toInt)) ∧ (0 ≤ (ga σ36 0 (2000 : Int32)).toInt ∧ (ga σ36 0 (2000 : Int32)).toInt ≤ 6) ∧ (0 ≤ (ga σ36 0 (2002 : Int32)).toInt ∧ (ga σ36 0 (2002 : Int32)).toInt ≤ 16) ∧ (SL σ36 2000) ∧ (DP σ36) ∧ ((gi σ36 11).toInt = (gi σ 11).toInt) ∧ ((gi σ 13).toInt ≤ (gi σ36 13).toInt) ∧ (PFr σ σ36) := ⟨(by first | assumption | omega), (by first | assumption | omega), (by first | assumption | omega), (by first | assumption | omega), (by rw [hA4_36 2000 (by omega) (by omega)]; exact hNP), (by rw [hA4_36 2002 (by omega) (by omega)]; exact hND), (SL_A1 hA4_36 (by omega) (fun h1 h2 => absurd h2 (by omega)) hSN), (DP_A1 hA4_36 (by omega) (fun h1 h2 h3 => absurd h2 (by omega)) hDP), (by first | assumption | omega), (by first | assumption | omega), (Fr.tr hFR hFR_36)⟩
    clear hsz hen hfr htk hNP hND hSN hDP hsm hmo hFR
    obtain ⟨hsz, hen, hfr, htk, hNP, hND, hSN, hDP, hsm, hmo, hFR⟩ := hNEW
    clear hsm_36 hmo_36 hsz_36 hen_36 hfr_36 htk_36
    refine lv_if_ne (tgt := 44) hx hb dX6_aDebt_39 (by decide) (fun c39 => ?_) (fun c39 => ?_)
    · have i39 := c_ne c39
      refine lv_aload_n hx hb dX6_aDebt_44 rfl (lv_at hl 1 rfl) ?_
      have w54 : 0 ≤ (ga σ36 0 (2495 : Int32)).toInt ∧ (ga σ36 0 (2495 : Int32)).toInt ≤ 5 := by have q := fo_20 (by omega); rw [hA4_36 2495 (by omega) (by omega)]; omega
      have w64 : 0 ≤ (ga σ36 0 (2496 : Int32)).toInt ∧ (ga σ36 0 (2496 : Int32)).toInt ≤ 5 := by have q := fo_36 (by omega); omega
      refine lv_sipush (v := 2092) hx hb dX6_aDebt_45 (by decide) ?_
      refine lv_bipush (v := 6) hx hb dX6_aDebt_48 (by decide) ?_
      refine lv_aload_n hx hb dX6_aDebt_50 rfl (lv_at hl 1 rfl) ?_
      refine Mg_0 C h dX6_aDebt_51 ?_
      refine lv_sipush (v := 2495) hx hb dX6_aDebt_54 (by decide) ?_
      refine Ml_0 C h (ix_of zl2495 (by omega)) dX6_aDebt_57 ?_
      refine lv_imul hx hb dX6_aDebt_58 ?_
      refine lv_iadd hx hb dX6_aDebt_59 ?_
      refine lv_aload_n hx hb dX6_aDebt_60 rfl (lv_at hl 1 rfl) ?_
      refine Mg_0 C h dX6_aDebt_61 ?_
      refine lv_sipush (v := 2496) hx hb dX6_aDebt_64 (by decide) ?_
      refine Ml_0 C h (ix_of zl2496 (by omega)) dX6_aDebt_67 ?_
      refine lv_iadd hx hb dX6_aDebt_68 ?_
      refine lv_iconst (v := 0) hx hb dX6_aDebt_69 (by decide) ?_
      refine lv_sipush (v := 9999) hx hb dX6_aDebt_70 (by decide) ?_
      have ta73_0 : (((2092 : Int32) + ((6 : Int32) * (ga σ36 0 (2495 : Int32)))) + (ga σ36 0 (2496 : Int32))).toInt = (((2092) + ((6) * (ga σ36 0 (2495 : Int32)).toInt)) + (ga σ36 0 (2496 : Int32)).toInt) := (i_add (i_add zl2092 (i_mul zl6 (rfl : (ga σ36 0 (2495 : Int32)).toInt = (ga σ36 0 (2495 : Int32)).toInt) (by omega)) (by omega)) (rfl : (ga σ36 0 (2496 : Int32)).toInt = (ga σ36 0 (2496 : Int32)).toInt) (by omega))
      refine M_callz (As := [.int (((2092 : Int32) + ((6 : Int32) * (ga σ36 0 (2495 : Int32)))) + (ga σ36 0 (2496 : Int32))), .int (0 : Int32), .int (9999 : Int32)]) (rest := []) 3 C h (k_X6_number l g σ36 (((2092 : Int32) + ((6 : Int32) * (ga σ36 0 (2495 : Int32)))) + (ga σ36 0 (2496 : Int32))) (0 : Int32) (9999 : Int32) (by first | assumption | omega) (by first | assumption | omega) (by first | assumption | omega) (by first | assumption | omega) (by first | assumption | omega)) (lw_V q1762 q1764 qs80 q152 q1765) rfl rfl (by decide +kernel) ⟨Nat.le_of_ble_eq_true rfl, Nat.le_of_ble_eq_true rfl⟩ rfl hl.1 rfl (Nat.le_of_ble_eq_true rfl) ⟨Nat.le_of_ble_eq_true rfl, Nat.le_of_ble_eq_true rfl⟩ dX6_aDebt_73 (fun r73 σ73 H locs eσ73 er73 br73 hE73 h => ?_)
      have hE73 : (∀ j : Int32, 0 ≤ j.toInt → ¬ j.toInt = (((2092 : Int32) + ((6 : Int32) * (ga σ36 0 (2495 : Int32)))) + (ga σ36 0 (2496 : Int32))).toInt → ga σ73 0 j = ga σ36 0 j) ∧ ((gi σ73 11).toInt = (gi σ36 11).toInt) ∧ ((gi σ36 13).toInt ≤ (gi σ73 13).toInt) ∧ (PFr σ36 σ73) ∧ (0 ≤ (gi σ73 11).toInt ∧ (gi σ73 11).toInt ≤ 900) ∧ (0 ≤ (gi σ73 14).toInt ∧ (gi σ73 14).toInt ≤ (gi σ73 11).toInt) ∧ (0 ≤ (gi σ73 13).toInt ∧ (gi σ73 13).toInt ≤ (gi σ73 14).toInt) ∧ (Hd (¬ (gi σ73 12).toInt = 0 → (gi σ73 13).toInt < (gi σ73 14).toInt)) ∧ (Hd (¬ r73.toInt = 0 → (0 : Int32).toInt ≤ (ga σ73 0 (((2092 : Int32) + ((6 : Int32) * (ga σ36 0 (2495 : Int32)))) + (ga σ36 0 (2496 : Int32)))).toInt ∧ (ga σ73 0 (((2092 : Int32) + ((6 : Int32) * (ga σ36 0 (2495 : Int32)))) + (ga σ36 0 (2496 : Int32)))).toInt ≤ (9999 : Int32).toInt)) ∧ (Hd (ga σ73 0 (((2092 : Int32) + ((6 : Int32) * (ga σ36 0 (2495 : Int32)))) + (ga σ36 0 (2496 : Int32))) = ga σ36 0 (((2092 : Int32) + ((6 : Int32) * (ga σ36 0 (2495 : Int32)))) + (ga σ36 0 (2496 : Int32))) ∨ ((0 : Int32).toInt ≤ (ga σ73 0 (((2092 : Int32) + ((6 : Int32) * (ga σ36 0 (2495 : Int32)))) + (ga σ36 0 (2496 : Int32)))).toInt ∧ (ga σ73 0 (((2092 : Int32) + ((6 : Int32) * (ga σ36 0 (2495 : Int32)))) + (ga σ36 0 (2496 : Int32)))).toInt ≤ (9999 : Int32).toInt))) := hE73
      obtain ⟨hA1_73, hsm_73, hmo_73, hFR_73, hsz_73, hen_73, hfr_73, htk_73, nv_73, nw_73⟩ := hE73
      have hNEW : (0 ≤ (gi σ73 11).toInt ∧ (gi σ73 11).toInt ≤ 900) ∧ (0 ≤ (gi σ73 14).toInt ∧ (gi σ73 14).toInt ≤ (gi σ73 11).toInt) ∧ (0 ≤ (gi σ73 13).toInt ∧ (gi σ73 13).toInt ≤ (gi σ73 14).toInt) ∧ (Hd (¬ (gi σ73 12).toInt = 0 → (gi σ73 13).toInt < (gi σ73 14).toInt)) ∧ (0 ≤ (ga σ73 0 (2000 : Int32)).toInt ∧ (ga σ73 0 (2000 : Int32)).toInt ≤ 6) ∧ (0 ≤ (ga σ73 0 (2002 : Int32)).toInt ∧ (ga σ73 0 (2002 : Int32)).toInt ≤ 16) ∧ (SL σ73 2000) ∧ (DP σ73) ∧ ((gi σ73 11).toInt = (gi σ 11).toInt) ∧ ((gi σ 13).toInt ≤ (gi σ73 13).toInt) ∧ (PFr σ σ73) := ⟨(by first | assumption | omega), (by first | assumption | omega), (by first | assumption | omega), (by first | assumption | omega), (by rw [hA1_73 2000 (by omega) (by omega)]; exact hNP), (by rw [hA1_73 2002 (by omega) (by omega)]; exact hND), (SL_num hA1_73 nw_73 (by omega) (fun h1 h2 v h3 h4 => by unfold CV; omega) hSN), (DP_A1 hA1_73 (by omega) (fun h1 h2 h3 => absurd h2 (by omega)) hDP), (by first | assumption | omega), (by first | assumption | omega), (Fr.tr hFR hFR_73)⟩
      clear hsz hen hfr htk hNP hND hSN hDP hsm hmo hFR
      obtain ⟨hsz, hen, hfr, htk, hNP, hND, hSN, hDP, hsm, hmo, hFR⟩ := hNEW
      clear hsm_73 hmo_73 hsz_73 hen_73 hfr_73 htk_73
      have he : f_X6_aDebt σ = (σ73, r73) := (by have ev8 := ev8.symm; subst ev8; have eσ10 := eσ10.symm; subst eσ10; have eσ20 := eσ20.symm; subst eσ20; have er20 := er20.symm; subst er20; have eσ36 := eσ36.symm; subst eσ36; have er36 := er36.symm; subst er36; have eσ73 := eσ73.symm; subst eσ73; have er73 := er73.symm; subst er73; unfold f_X6_aDebt; dsimp only; rw [if_neg c23, if_neg c39])
      exact M_retz C h hr hlocks (congrArg Prod.fst he) (congrArg Prod.snd he) br73 ⟨hsm, hmo, hFR, (by first | assumption | omega | (unfold Hd; omega)), (by first | assumption | omega | (unfold Hd; omega)), (by first | assumption | omega | (unfold Hd; omega)), (by first | assumption | omega | (unfold Hd; omega)), (by first | assumption | omega | (unfold Hd; omega)), (by first | assumption | omega | (unfold Hd; omega)), (by first | assumption | omega | (unfold Hd; omega)), (by first | assumption | omega | (unfold Hd; omega))⟩ dX6_aDebt_76
    · have i39 := c_eq c39
      refine lv_iconst (v := 0) hx hb dX6_aDebt_42 (by decide) ?_
      have he : f_X6_aDebt σ = (σ36, (0 : Int32)) := (by have ev8 := ev8.symm; subst ev8; have eσ10 := eσ10.symm; subst eσ10; have eσ20 := eσ20.symm; subst eσ20; have er20 := er20.symm; subst er20; have eσ36 := eσ36.symm; subst eσ36; have er36 := er36.symm; subst er36; unfold f_X6_aDebt; dsimp only; rw [if_neg c23, if_pos c39])
      exact M_retz C h hr hlocks (congrArg Prod.fst he) (congrArg Prod.snd he) (Or.inl rfl) ⟨hsm, hmo, hFR, (by first | assumption | omega | (unfold Hd; omega)), (by first | assumption | omega | (unfold Hd; omega)), (by first | assumption | omega | (unfold Hd; omega)), (by first | assumption | omega | (unfold Hd; omega)), (by first | assumption | omega | (unfold Hd; omega)), (by first | assumption | omega | (unfold Hd; omega)), (by first | assumption | omega | (unfold Hd; omega)), (by first | assumption | omega | (unfold Hd; omega))⟩ dX6_aDebt_43
def f_X6_once (σ : MS) (p1 : Int32) : MS × Int32 := if (((gi σ 20) >>> (p1 &&& (31 : Int32))) &&& (1 : Int32)) = (1 : Int32) then ((let z14 := (f_X6_fails σ (5 : Int32)); let σ14 := z14.1; let r14 := z14.2; (σ14, r14))) else ((let σ27 := si σ 20 ((gi σ 20) ||| ((1 : Int32) <<< (p1 &&& (31 : Int32)))); let σ31 := (f_X6_ahead σ27); let r37 := (f_X6_inWords σ31); (let z121_ : Int32 := (if p1 = (4 : Int32) then (if r37 = (12 : Int32) then ((0 : Int32)) else (if r37 = (13 : Int32) then ((1 : Int32)) else (if r37 = (14 : Int32) then ((2 : Int32)) else ((-1 : Int32))))) else (if r37 = (15 : Int32) then ((0 : Int32)) else (if r37 = (16 : Int32) then ((1 : Int32)) else (if r37 = (7 : Int32) then ((2 : Int32)) else (if r37 = (6 : Int32) then ((3 : Int32)) else ((-1 : Int32))))))); let t0_121 := z121_; if t0_121 = (-1 : Int32) then ((let z129 := (f_X6_fails σ31 (2 : Int32)); let σ129 := z129.1; let r129 := z129.2; (σ129, r129))) else ((let z150_ : Int32 := (if p1 = (4 : Int32) then ((3 : Int32)) else ((4 : Int32))); let t0_150 := z150_; (let σ152 := sa σ31 0 ((2000 : Int32) + t0_150) t0_121; let σ154 := (f_X6_ahead σ152); (σ154, (1 : Int32))))))))
set_option maxHeartbeats 4000000 in
set_option maxRecDepth 100000 in
theorem k_X6_once (l : Launch) (g : GE) (σ : MS) (p1 : Int32) (hsz : 0 ≤ (gi σ 11).toInt ∧ (gi σ 11).toInt ≤ 900) (hen : 0 ≤ (gi σ 14).toInt ∧ (gi σ 14).toInt ≤ (gi σ 11).toInt) (hfr : 0 ≤ (gi σ 13).toInt ∧ (gi σ 13).toInt ≤ (gi σ 14).toInt) (htk : Hd (¬ (gi σ 12).toInt = 0 → (gi σ 13).toInt < (gi σ 14).toInt)) (hNP : 0 ≤ (ga σ 0 (2000 : Int32)).toInt ∧ (ga σ 0 (2000 : Int32)).toInt ≤ 6) (hND : 0 ≤ (ga σ 0 (2002 : Int32)).toInt ∧ (ga σ 0 (2002 : Int32)).toInt ≤ 16) (hSN : SL σ 2000) (hDP : DP σ) : Met l yX6_once (ws_ yX6_once cX6_once 4 (some .boolean)) ({ frames := 5, cells := 0, slots := 0, locals := 111 } : Room) (mPc g σ [.int p1]) (mQz g (f_X6_once σ p1).1 (f_X6_once σ p1).2 (fun u r => ((gi u 11).toInt = (gi σ 11).toInt) ∧ ((gi σ 13).toInt ≤ (gi u 13).toInt) ∧ (PFr σ u) ∧ (0 ≤ (gi u 11).toInt ∧ (gi u 11).toInt ≤ 900) ∧ (0 ≤ (gi u 14).toInt ∧ (gi u 14).toInt ≤ (gi u 11).toInt) ∧ (0 ≤ (gi u 13).toInt ∧ (gi u 13).toInt ≤ (gi u 14).toInt) ∧ (Hd (¬ (gi u 12).toInt = 0 → (gi u 13).toInt < (gi u 14).toInt)) ∧ (0 ≤ (ga u 0 (2000 : Int32)).toInt ∧ (ga u 0 (2000 : Int32)).toInt ≤ 6) ∧ (0 ≤ (ga u 0 (2002 : Int32)).toInt ∧ (ga u 0 (2002 : Int32)).toInt ≤ 16) ∧ (SL u 2000) ∧ (DP u))) 0 0 (mA g) := by
  refine met_M (by decide) rfl (Nat.le_of_ble_eq_true rfl) ?_
  intro p e s m args below meth c C hr hlocks h ls hl
  have hx := C.1.1
  have hb := C.1.2.1
  have hml := C.1.2.2.1
  have hown := C.1.2.2.2.1
  have hts := C.1.2.2.2.2
  have hl : lv_has ls 4 [(0, .ref (g.2.1 99)), (1, .int p1)] := hl
  have hsm : (gi σ 11).toInt = (gi σ 11).toInt := rfl
  have hmo : (gi σ 13).toInt ≤ (gi σ 13).toInt := Int.le_refl _
  have hFR : PFr σ σ := Fr.rf
  have zlm1 : (-1 : Int32).toInt = -1 := rfl
  have zl0 : (0 : Int32).toInt = 0 := rfl
  have zl1 : (1 : Int32).toInt = 1 := rfl
  have zl2 : (2 : Int32).toInt = 2 := rfl
  have zl3 : (3 : Int32).toInt = 3 := rfl
  have zl4 : (4 : Int32).toInt = 4 := rfl
  have zl5 : (5 : Int32).toInt = 5 := rfl
  have zl6 : (6 : Int32).toInt = 6 := rfl
  have zl7 : (7 : Int32).toInt = 7 := rfl
  have zl12 : (12 : Int32).toInt = 12 := rfl
  have zl13 : (13 : Int32).toInt = 13 := rfl
  have zl14 : (14 : Int32).toInt = 14 := rfl
  have zl15 : (15 : Int32).toInt = 15 := rfl
  have zl16 : (16 : Int32).toInt = 16 := rfl
  have zl2000 : (2000 : Int32).toInt = 2000 := rfl
  have zl2002 : (2002 : Int32).toInt = 2002 := rfl
  have zl2000 : (2000 : Int32).toInt = 2000 := rfl
  have zl2002 : (2002 : Int32).toInt = 2002 := rfl
  refine lv_aload_n hx hb dX6_once_0 rfl (lv_at hl 0 rfl) ?_
  refine Mg_20 C h dX6_once_1 ?_
  refine lv_iload_n hx hb dX6_once_4 rfl (lv_at hl 1 rfl) ?_
  refine lv_ishr hx hb dX6_once_5 ?_
  refine lv_iconst (v := 1) hx hb dX6_once_6 (by decide) ?_
  refine lv_iand hx hb dX6_once_7 ?_
  refine lv_iconst (v := 1) hx hb dX6_once_8 (by decide) ?_
  refine lv_icmp_ne (tgt := 18) hx hb dX6_once_9 (by decide) (fun c9 => ?_) (fun c9 => ?_)
  · have i9 := c_ne c9
    refine lv_aload_n hx hb dX6_once_18 rfl (lv_at hl 0 rfl) ?_
    refine lv_dup hx hb dX6_once_19 rfl ?_
    refine Mg_20 C h dX6_once_20 ?_
    refine lv_iconst (v := 1) hx hb dX6_once_23 (by decide) ?_
    refine lv_iload_n hx hb dX6_once_24 rfl (lv_at hl 1 rfl) ?_
    refine lv_ishl hx hb dX6_once_25 ?_
    refine lv_ior hx hb dX6_once_26 ?_
    refine Mp_20 C h dX6_once_27 (fun σ27 H locs eσ27 h => ?_)
    have hNEW : (0 ≤ (gi σ27 11).toInt ∧ (gi σ27 11).toInt ≤ 900) ∧ (0 ≤ (gi σ27 14).toInt ∧ (gi σ27 14).toInt ≤ (gi σ27 11).toInt) ∧ (0 ≤ (gi σ27 13).toInt ∧ (gi σ27 13).toInt ≤ (gi σ27 14).toInt) ∧ (Hd (¬ (gi σ27 12).toInt = 0 → (gi σ27 13).toInt < (gi σ27 14).toInt)) ∧ (0 ≤ (ga σ27 0 (2000 : Int32)).toInt ∧ (ga σ27 0 (2000 : Int32)).toInt ≤ 6) ∧ (0 ≤ (ga σ27 0 (2002 : Int32)).toInt ∧ (ga σ27 0 (2002 : Int32)).toInt ≤ 16) ∧ (SL σ27 2000) ∧ (DP σ27) ∧ ((gi σ27 11).toInt = (gi σ 11).toInt) ∧ ((gi σ 13).toInt ≤ (gi σ27 13).toInt) ∧ (PFr σ σ27) := ⟨(by rw [eσ27] <;> exact hsz), (by rw [eσ27] <;> exact hen), (by rw [eσ27] <;> exact hfr), (by rw [eσ27] <;> exact htk), (by rw [eσ27] <;> exact hNP), (by rw [eσ27] <;> exact hND), (by rw [eσ27] <;> exact hSN), (by rw [eσ27] <;> exact hDP), (by rw [eσ27] <;> exact hsm), (by rw [eσ27] <;> exact hmo), (by rw [eσ27]; exact (Fr_si (by decide) hFR))⟩
    obtain ⟨hsz, hen, hfr, htk, hNP, hND, hSN, hDP, hsm, hmo, hFR⟩ := hNEW
    refine lv_aload_n hx hb dX6_once_30 rfl (lv_at hl 0 rfl) ?_
    refine M_callv (As := []) (rest := []) 0 C h (k_X6_ahead l g σ27 (by first | assumption | omega) (by first | assumption | omega)) (lw_V q1707 q1709 qs69 q152 q1710) rfl rfl (by decide +kernel) ⟨Nat.le_of_ble_eq_true rfl, Nat.le_of_ble_eq_true rfl⟩ rfl hl.1 rfl (Nat.le_of_ble_eq_true rfl) ⟨Nat.le_of_ble_eq_true rfl, Nat.le_of_ble_eq_true rfl⟩ dX6_once_31 (fun σ31 H locs eσ31 hE31 h => ?_)
    have hE31 : (∀ j : Int32, ga σ31 0 j = ga σ27 0 j) ∧ ((gi σ31 11).toInt = (gi σ27 11).toInt) ∧ (PFr σ27 σ31) ∧ (0 ≤ (gi σ31 11).toInt ∧ (gi σ31 11).toInt ≤ 900) ∧ (0 ≤ (gi σ31 14).toInt ∧ (gi σ31 14).toInt ≤ (gi σ31 11).toInt) ∧ (0 ≤ (gi σ31 13).toInt ∧ (gi σ31 13).toInt ≤ (gi σ31 14).toInt) ∧ (Hd (¬ (gi σ31 12).toInt = 0 → (gi σ31 13).toInt < (gi σ31 14).toInt)) ∧ ((gi σ27 14).toInt ≤ (gi σ31 13).toInt) := hE31
    obtain ⟨hA0_31, hsm_31, hFR_31, hsz_31, hen_31, hfr_31, htk_31, hmf_31⟩ := hE31
    have hNEW : (0 ≤ (gi σ31 11).toInt ∧ (gi σ31 11).toInt ≤ 900) ∧ (0 ≤ (gi σ31 14).toInt ∧ (gi σ31 14).toInt ≤ (gi σ31 11).toInt) ∧ (0 ≤ (gi σ31 13).toInt ∧ (gi σ31 13).toInt ≤ (gi σ31 14).toInt) ∧ (Hd (¬ (gi σ31 12).toInt = 0 → (gi σ31 13).toInt < (gi σ31 14).toInt)) ∧ (0 ≤ (ga σ31 0 (2000 : Int32)).toInt ∧ (ga σ31 0 (2000 : Int32)).toInt ≤ 6) ∧ (0 ≤ (ga σ31 0 (2002 : Int32)).toInt ∧ (ga σ31 0 (2002 : Int32)).toInt ≤ 16) ∧ (SL σ31 2000) ∧ (DP σ31) ∧ ((gi σ31 11).toInt = (gi σ 11).toInt) ∧ ((gi σ 13).toInt ≤ (gi σ31 13).toInt) ∧ (PFr σ σ31) := ⟨(by first | assumption | omega), (by first | assumption | omega), (by first | assumption | omega), (by first | assumption | omega), (by simp only [hA0_31] <;> exact hNP), (by simp only [hA0_31] <;> exact hND), (SL_A0 hA0_31 hSN), (DP_A0 hA0_31 hDP), (by first | assumption | omega), (by first | assumption | omega), (Fr.tr hFR hFR_31)⟩
    clear hsz hen hfr htk hNP hND hSN hDP hsm hmo hFR
    obtain ⟨hsz, hen, hfr, htk, hNP, hND, hSN, hDP, hsm, hmo, hFR⟩ := hNEW
    clear hsm_31 hsz_31 hen_31 hfr_31 htk_31
    refine lv_aload_n hx hb dX6_once_34 rfl (lv_at hl 0 rfl) ?_
    refine M_keys C dX6_once_35 ?_
    refine M_calli (As := [.ref (g.2.1 97)]) (rest := []) 1 C h (k_X6_inWords l g σ31 (by first | assumption | omega) (by first | assumption | omega) (by first | assumption | omega)) (lw_V q1732 q1734 qs73 q152 q1735) rfl rfl (by decide +kernel) ⟨Nat.le_of_ble_eq_true rfl, Nat.le_of_ble_eq_true rfl⟩ rfl hl.1 rfl (Nat.le_of_ble_eq_true rfl) ⟨Nat.le_of_ble_eq_true rfl, Nat.le_of_ble_eq_true rfl⟩ dX6_once_37 (fun r37 σ37 H locs eσ37 er37 hE37 h => ?_)
    rw [eσ37] at h
    clear hE37
    clear eσ37
    refine lv_istore_n (lv' := [(2, .int r37), (0, .ref (g.2.1 99)), (1, .int p1)]) hx hb dX6_once_40 rfl hl (by decide) rfl (fun ls hl => ?_)
    refine lv_iload_n hx hb dX6_once_41 rfl (lv_at hl 2 rfl) ?_
    refine lv_iconst (v := 4) hx hb dX6_once_42 (by decide) ?_
    have j121 : ∀ (t0_121 : Int32) (H : Heap) (locs : List Loc) (ls : Array Slot) (ej121 : (if p1 = (4 : Int32) then (if r37 = (12 : Int32) then ((0 : Int32)) else (if r37 = (13 : Int32) then ((1 : Int32)) else (if r37 = (14 : Int32) then ((2 : Int32)) else ((-1 : Int32))))) else (if r37 = (15 : Int32) then ((0 : Int32)) else (if r37 = (16 : Int32) then ((1 : Int32)) else (if r37 = (7 : Int32) then ((2 : Int32)) else (if r37 = (6 : Int32) then ((3 : Int32)) else ((-1 : Int32))))))) = t0_121) (hI121 : (-1 ≤ t0_121.toInt ∧ t0_121.toInt ≤ 3) ∧ (p1.toInt = 4 → t0_121.toInt ≤ 2)) (h : MH g σ31 s H locs) (hl : lv_has ls 4 [(0, .ref (g.2.1 99)), (1, .int p1)]), W p l e ({ frames := 5, cells := 0, slots := 0, locals := 111 } : Room) s m args below meth c H locs 0 0 (MQ below (mQz g (f_X6_once σ p1).1 (f_X6_once σ p1).2 (fun u r => ((gi u 11).toInt = (gi σ 11).toInt) ∧ ((gi σ 13).toInt ≤ (gi u 13).toInt) ∧ (PFr σ u) ∧ (0 ≤ (gi u 11).toInt ∧ (gi u 11).toInt ≤ 900) ∧ (0 ≤ (gi u 14).toInt ∧ (gi u 14).toInt ≤ (gi u 11).toInt) ∧ (0 ≤ (gi u 13).toInt ∧ (gi u 13).toInt ≤ (gi u 14).toInt) ∧ (Hd (¬ (gi u 12).toInt = 0 → (gi u 13).toInt < (gi u 14).toInt)) ∧ (0 ≤ (ga u 0 (2000 : Int32)).toInt ∧ (ga u 0 (2000 : Int32)).toInt ≤ 6) ∧ (0 ≤ (ga u 0 (2002 : Int32)).toInt ∧ (ga u 0 (2002 : Int32)).toInt ≤ 16) ∧ (SL u 2000) ∧ (DP u))) args s 0 0 (mA g)) (F0 m 121 ls [.int t0_121]) := by
      intro t0_121 H locs ls ej121 hI121 h hl
      have et0_121 := ej121.symm
      refine lv_istore_n (lv' := [(3, .int t0_121), (0, .ref (g.2.1 99)), (1, .int p1)]) hx hb dX6_once_121 rfl hl (by decide) rfl (fun ls hl => ?_)
      refine lv_iload_n hx hb dX6_once_122 rfl (lv_at hl 0 rfl) ?_
      refine lv_iconst (v := -1) hx hb dX6_once_123 (by decide) ?_
      refine lv_icmp_ne (tgt := 133) hx hb dX6_once_124 (by decide) (fun c124 => ?_) (fun c124 => ?_)
      · have i124 := c_ne c124
        refine lv_aload_n hx hb dX6_once_133 rfl (lv_at hl 1 rfl) ?_
        refine Mg_0 C h dX6_once_134 ?_
        refine lv_sipush (v := 2000) hx hb dX6_once_137 (by decide) ?_
        refine lv_iload_n hx hb dX6_once_140 rfl (lv_at hl 2 rfl) ?_
        refine lv_iconst (v := 4) hx hb dX6_once_141 (by decide) ?_
        have j150 : ∀ (t0_150 : Int32) (H : Heap) (locs : List Loc) (ls : Array Slot) (ej150 : (if p1 = (4 : Int32) then ((3 : Int32)) else ((4 : Int32))) = t0_150) (hI150 : (p1.toInt = 4 ∧ t0_150.toInt = 3) ∨ (¬ p1.toInt = 4 ∧ t0_150.toInt = 4)) (h : MH g σ31 s H locs) (hl : lv_has ls 4 [(0, .ref (g.2.1 99)), (3, .int t0_121)]), W p l e ({ frames := 5, cells := 0, slots := 0, locals := 111 } : Room) s m args below meth c H locs 0 0 (MQ below (mQz g (f_X6_once σ p1).1 (f_X6_once σ p1).2 (fun u r => ((gi u 11).toInt = (gi σ 11).toInt) ∧ ((gi σ 13).toInt ≤ (gi u 13).toInt) ∧ (PFr σ u) ∧ (0 ≤ (gi u 11).toInt ∧ (gi u 11).toInt ≤ 900) ∧ (0 ≤ (gi u 14).toInt ∧ (gi u 14).toInt ≤ (gi u 11).toInt) ∧ (0 ≤ (gi u 13).toInt ∧ (gi u 13).toInt ≤ (gi u 14).toInt) ∧ (Hd (¬ (gi u 12).toInt = 0 → (gi u 13).toInt < (gi u 14).toInt)) ∧ (0 ≤ (ga u 0 (2000 : Int32)).toInt ∧ (ga u 0 (2000 : Int32)).toInt ≤ 6) ∧ (0 ≤ (ga u 0 (2002 : Int32)).toInt ∧ (ga u 0 (2002 : Int32)).toInt ≤ 16) ∧ (SL u 2000) ∧ (DP u))) args s 0 0 (mA g)) (F0 m 150 ls [.int t0_150, .int (2000 : Int32), .ref (g.2.1 0)]) := by
          intro t0_150 H locs ls ej150 hI150 h hl
          have et0_150 := ej150.symm
          refine lv_iadd hx hb dX6_once_150 ?_
          refine lv_iload_n hx hb dX6_once_151 rfl (lv_at hl 1 rfl) ?_
          refine Ms_0 C h (ix_of (i_add zl2000 (rfl : t0_150.toInt = t0_150.toInt) (by omega)) (by omega)) dX6_once_152 (fun σ152 H locs eσ152 h => ?_)
          have hNEW : (0 ≤ (gi σ152 11).toInt ∧ (gi σ152 11).toInt ≤ 900) ∧ (0 ≤ (gi σ152 14).toInt ∧ (gi σ152 14).toInt ≤ (gi σ152 11).toInt) ∧ (0 ≤ (gi σ152 13).toInt ∧ (gi σ152 13).toInt ≤ (gi σ152 14).toInt) ∧ (Hd (¬ (gi σ152 12).toInt = 0 → (gi σ152 13).toInt < (gi σ152 14).toInt)) ∧ (0 ≤ (ga σ152 0 (2000 : Int32)).toInt ∧ (ga σ152 0 (2000 : Int32)).toInt ≤ 6) ∧ (0 ≤ (ga σ152 0 (2002 : Int32)).toInt ∧ (ga σ152 0 (2002 : Int32)).toInt ≤ 16) ∧ (SL σ152 2000) ∧ (DP σ152) ∧ ((gi σ152 11).toInt = (gi σ 11).toInt) ∧ ((gi σ 13).toInt ≤ (gi σ152 13).toInt) ∧ (PFr σ σ152) := ⟨(by rw [eσ152, ] <;> exact hsz), (by rw [eσ152, ] <;> exact hen), (by rw [eσ152, ] <;> exact hfr), (by rw [eσ152, ] <;> exact htk), (by rw [eσ152, ga_sa_ne (j := (2000 : Int32)) (i_add zl2000 (rfl : t0_150.toInt = t0_150.toInt) (by omega)) zl2000 (by omega)] <;> exact hNP), (by rw [eσ152, ga_sa_ne (j := (2002 : Int32)) (i_add zl2000 (rfl : t0_150.toInt = t0_150.toInt) (by omega)) zl2002 (by omega)] <;> exact hND), (by rw [eσ152]; exact (SL_sa (i_add zl2000 (rfl : t0_150.toInt = t0_150.toInt) (by omega)) (by omega) (by omega) (by unfold CV; omega) hSN)), (by rw [eσ152]; exact (DP_sa (i_add zl2000 (rfl : t0_150.toInt = t0_150.toInt) (by omega)) (by omega) (by omega) (by omega) hDP)), (by rw [eσ152, ] <;> exact hsm), (by rw [eσ152, ] <;> exact hmo), (by rw [eσ152]; exact (Fr_sa (i_add zl2000 (rfl : t0_150.toInt = t0_150.toInt) (by omega)) (by first | omega | (dsimp only; omega)) (by omega) hFR))⟩
          obtain ⟨hsz, hen, hfr, htk, hNP, hND, hSN, hDP, hsm, hmo, hFR⟩ := hNEW
          refine lv_aload_n hx hb dX6_once_153 rfl (lv_at hl 0 rfl) ?_
          refine M_callv (As := []) (rest := []) 0 C h (k_X6_ahead l g σ152 (by first | assumption | omega) (by first | assumption | omega)) (lw_V q1707 q1709 qs69 q152 q1710) rfl rfl (by decide +kernel) ⟨Nat.le_of_ble_eq_true rfl, Nat.le_of_ble_eq_true rfl⟩ rfl hl.1 rfl (Nat.le_of_ble_eq_true rfl) ⟨Nat.le_of_ble_eq_true rfl, Nat.le_of_ble_eq_true rfl⟩ dX6_once_154 (fun σ154 H locs eσ154 hE154 h => ?_)
          have hE154 : (∀ j : Int32, ga σ154 0 j = ga σ152 0 j) ∧ ((gi σ154 11).toInt = (gi σ152 11).toInt) ∧ (PFr σ152 σ154) ∧ (0 ≤ (gi σ154 11).toInt ∧ (gi σ154 11).toInt ≤ 900) ∧ (0 ≤ (gi σ154 14).toInt ∧ (gi σ154 14).toInt ≤ (gi σ154 11).toInt) ∧ (0 ≤ (gi σ154 13).toInt ∧ (gi σ154 13).toInt ≤ (gi σ154 14).toInt) ∧ (Hd (¬ (gi σ154 12).toInt = 0 → (gi σ154 13).toInt < (gi σ154 14).toInt)) ∧ ((gi σ152 14).toInt ≤ (gi σ154 13).toInt) := hE154
          obtain ⟨hA0_154, hsm_154, hFR_154, hsz_154, hen_154, hfr_154, htk_154, hmf_154⟩ := hE154
          have hNEW : (0 ≤ (gi σ154 11).toInt ∧ (gi σ154 11).toInt ≤ 900) ∧ (0 ≤ (gi σ154 14).toInt ∧ (gi σ154 14).toInt ≤ (gi σ154 11).toInt) ∧ (0 ≤ (gi σ154 13).toInt ∧ (gi σ154 13).toInt ≤ (gi σ154 14).toInt) ∧ (Hd (¬ (gi σ154 12).toInt = 0 → (gi σ154 13).toInt < (gi σ154 14).toInt)) ∧ (0 ≤ (ga σ154 0 (2000 : Int32)).toInt ∧ (ga σ154 0 (2000 : Int32)).toInt ≤ 6) ∧ (0 ≤ (ga σ154 0 (2002 : Int32)).toInt ∧ (ga σ154 0 (2002 : Int32)).toInt ≤ 16) ∧ (SL σ154 2000) ∧ (DP σ154) ∧ ((gi σ154 11).toInt = (gi σ 11).toInt) ∧ ((gi σ 13).toInt ≤ (gi σ154 13).toInt) ∧ (PFr σ σ154) := ⟨(by first | assumption | omega), (by first | assumption | omega), (by first | assumption | omega), (by first | assumption | omega), (by simp only [hA0_154] <;> exact hNP), (by simp only [hA0_154] <;> exact hND), (SL_A0 hA0_154 hSN), (DP_A0 hA0_154 hDP), (by first | assumption | omega), (by first | assumption | omega), (Fr.tr hFR hFR_154)⟩
          clear hsz hen hfr htk hNP hND hSN hDP hsm hmo hFR
          obtain ⟨hsz, hen, hfr, htk, hNP, hND, hSN, hDP, hsm, hmo, hFR⟩ := hNEW
          clear hsm_154 hsz_154 hen_154 hfr_154 htk_154
          refine lv_iconst (v := 1) hx hb dX6_once_157 (by decide) ?_
          have he : f_X6_once σ p1 = (σ154, (1 : Int32)) := (by have eσ27 := eσ27.symm; subst eσ27; have eσ31 := eσ31.symm; subst eσ31; have er37 := er37.symm; subst er37; have et0_121 := et0_121.symm; subst et0_121; have et0_150 := et0_150.symm; subst et0_150; have eσ152 := eσ152.symm; subst eσ152; have eσ154 := eσ154.symm; subst eσ154; exact ((if_neg c9).trans ((if_neg c124).trans rfl)))
          exact M_retz C h hr hlocks (congrArg Prod.fst he) (congrArg Prod.snd he) (Or.inr rfl) ⟨hsm, hmo, hFR, (by first | assumption | omega | (unfold Hd; omega)), (by first | assumption | omega | (unfold Hd; omega)), (by first | assumption | omega | (unfold Hd; omega)), (by first | assumption | omega | (unfold Hd; omega)), (by first | assumption | omega | (unfold Hd; omega)), (by first | assumption | omega | (unfold Hd; omega)), (by first | assumption | omega | (unfold Hd; omega)), (by first | assumption | omega | (unfold Hd; omega))⟩ dX6_once_158
        refine lv_icmp_ne (tgt := 149) hx hb dX6_once_142 (by decide) (fun c142 => ?_) (fun c142 => ?_)
        · have i142 := c_ne c142
          refine lv_iconst (v := 4) hx hb dX6_once_149 (by decide) ?_
          exact j150 _ _ _ _ (by exact ((if_neg c142).trans rfl)) (by first | assumption | omega) h (lv_sub hl [1, 0] rfl)
        · have i142 := c_eq c142
          refine lv_iconst (v := 3) hx hb dX6_once_145 (by decide) ?_
          refine lv_goto (tgt := 150) hx hb dX6_once_146 (by decide) ?_
          exact j150 _ _ _ _ (by exact ((if_pos c142).trans rfl)) (by first | assumption | omega) h (lv_sub hl [1, 0] rfl)
      · have i124 := c_eq c124
        refine lv_aload_n hx hb dX6_once_127 rfl (lv_at hl 1 rfl) ?_
        refine lv_iconst (v := 2) hx hb dX6_once_128 (by decide) ?_
        refine M_callz (As := [.int (2 : Int32)]) (rest := []) 1 C h (k_X6_fails l g σ31 (2 : Int32) (by first | assumption | omega) (by first | assumption | omega) (by first | assumption | omega) (by first | assumption | omega)) (lw_V q1742 q1744 qs75 q152 q1745) rfl rfl (by decide +kernel) ⟨Nat.le_of_ble_eq_true rfl, Nat.le_of_ble_eq_true rfl⟩ rfl hl.1 rfl (Nat.le_of_ble_eq_true rfl) ⟨Nat.le_of_ble_eq_true rfl, Nat.le_of_ble_eq_true rfl⟩ dX6_once_129 (fun r129 σ129 H locs eσ129 er129 br129 hE129 h => ?_)
        have hE129 : (∀ j : Int32, ga σ129 0 j = ga σ31 0 j) ∧ ((gi σ129 11).toInt = (gi σ31 11).toInt) ∧ ((gi σ31 13).toInt ≤ (gi σ129 13).toInt) ∧ (PFr σ31 σ129) ∧ (0 ≤ (gi σ129 11).toInt ∧ (gi σ129 11).toInt ≤ 900) ∧ (0 ≤ (gi σ129 14).toInt ∧ (gi σ129 14).toInt ≤ (gi σ129 11).toInt) ∧ (0 ≤ (gi σ129 13).toInt ∧ (gi σ129 13).toInt ≤ (gi σ129 14).toInt) ∧ (Hd (¬ (gi σ129 12).toInt = 0 → (gi σ129 13).toInt < (gi σ129 14).toInt)) ∧ (r129.toInt = 0) := hE129
        obtain ⟨hA0_129, hsm_129, hmo_129, hFR_129, hsz_129, hen_129, hfr_129, htk_129, fz_129⟩ := hE129
        have hNEW : (0 ≤ (gi σ129 11).toInt ∧ (gi σ129 11).toInt ≤ 900) ∧ (0 ≤ (gi σ129 14).toInt ∧ (gi σ129 14).toInt ≤ (gi σ129 11).toInt) ∧ (0 ≤ (gi σ129 13).toInt ∧ (gi σ129 13).toInt ≤ (gi σ129 14).toInt) ∧ (Hd (¬ (gi σ129 12).toInt = 0 → (gi σ129 13).toInt < (gi σ129 14).toInt)) ∧ (0 ≤ (ga σ129 0 (2000 : Int32)).toInt ∧ (ga σ129 0 (2000 : Int32)).toInt ≤ 6) ∧ (0 ≤ (ga σ129 0 (2002 : Int32)).toInt ∧ (ga σ129 0 (2002 : Int32)).toInt ≤ 16) ∧ (SL σ129 2000) ∧ (DP σ129) ∧ ((gi σ129 11).toInt = (gi σ 11).toInt) ∧ ((gi σ 13).toInt ≤ (gi σ129 13).toInt) ∧ (PFr σ σ129) := ⟨(by first | assumption | omega), (by first | assumption | omega), (by first | assumption | omega), (by first | assumption | omega), (by simp only [hA0_129] <;> exact hNP), (by simp only [hA0_129] <;> exact hND), (SL_A0 hA0_129 hSN), (DP_A0 hA0_129 hDP), (by first | assumption | omega), (by first | assumption | omega), (Fr.tr hFR hFR_129)⟩
        obtain ⟨hsz, hen, hfr, htk, hNP, hND, hSN, hDP, hsm, hmo, hFR⟩ := hNEW
        clear hsm_129 hmo_129 hsz_129 hen_129 hfr_129 htk_129
        have he : f_X6_once σ p1 = (σ129, r129) := (by have eσ27 := eσ27.symm; subst eσ27; have eσ31 := eσ31.symm; subst eσ31; have er37 := er37.symm; subst er37; have et0_121 := et0_121.symm; subst et0_121; have eσ129 := eσ129.symm; subst eσ129; have er129 := er129.symm; subst er129; exact ((if_neg c9).trans ((if_pos c124).trans rfl)))
        exact M_retz C h hr hlocks (congrArg Prod.fst he) (congrArg Prod.snd he) br129 ⟨hsm, hmo, hFR, (by first | assumption | omega | (unfold Hd; omega)), (by first | assumption | omega | (unfold Hd; omega)), (by first | assumption | omega | (unfold Hd; omega)), (by first | assumption | omega | (unfold Hd; omega)), (by first | assumption | omega | (unfold Hd; omega)), (by first | assumption | omega | (unfold Hd; omega)), (by first | assumption | omega | (unfold Hd; omega)), (by first | assumption | omega | (unfold Hd; omega))⟩ dX6_once_132
    refine lv_icmp_ne (tgt := 80) hx hb dX6_once_43 (by decide) (fun c43 => ?_) (fun c43 => ?_)
    · have i43 := c_ne c43
      refine lv_iload_n hx hb dX6_once_80 rfl (lv_at hl 0 rfl) ?_
      refine lv_bipush (v := 15) hx hb dX6_once_81 (by decide) ?_
      refine lv_icmp_ne (tgt := 90) hx hb dX6_once_83 (by decide) (fun c83 => ?_) (fun c83 => ?_)
      · have i83 := c_ne c83
        refine lv_iload_n hx hb dX6_once_90 rfl (lv_at hl 0 rfl) ?_
        refine lv_bipush (v := 16) hx hb dX6_once_91 (by decide) ?_
        refine lv_icmp_ne (tgt := 100) hx hb dX6_once_93 (by decide) (fun c93 => ?_) (fun c93 => ?_)
        · have i93 := c_ne c93
          refine lv_iload_n hx hb dX6_once_100 rfl (lv_at hl 0 rfl) ?_
          refine lv_bipush (v := 7) hx hb dX6_once_101 (by decide) ?_
          refine lv_icmp_ne (tgt := 110) hx hb dX6_once_103 (by decide) (fun c103 => ?_) (fun c103 => ?_)
          · have i103 := c_ne c103
            refine lv_iload_n hx hb dX6_once_110 rfl (lv_at hl 0 rfl) ?_
            refine lv_bipush (v := 6) hx hb dX6_once_111 (by decide) ?_
            refine lv_icmp_ne (tgt := 120) hx hb dX6_once_113 (by decide) (fun c113 => ?_) (fun c113 => ?_)
            · have i113 := c_ne c113
              refine lv_iconst (v := -1) hx hb dX6_once_120 (by decide) ?_
              exact j121 _ _ _ _ (by exact ((if_neg c43).trans ((if_neg c83).trans ((if_neg c93).trans ((if_neg c103).trans ((if_neg c113).trans rfl)))))) (by first | assumption | omega) h (lv_sub hl [1, 2] rfl)
            · have i113 := c_eq c113
              refine lv_iconst (v := 3) hx hb dX6_once_116 (by decide) ?_
              refine lv_goto (tgt := 121) hx hb dX6_once_117 (by decide) ?_
              exact j121 _ _ _ _ (by exact ((if_neg c43).trans ((if_neg c83).trans ((if_neg c93).trans ((if_neg c103).trans ((if_pos c113).trans rfl)))))) (by first | assumption | omega) h (lv_sub hl [1, 2] rfl)
          · have i103 := c_eq c103
            refine lv_iconst (v := 2) hx hb dX6_once_106 (by decide) ?_
            refine lv_goto (tgt := 121) hx hb dX6_once_107 (by decide) ?_
            exact j121 _ _ _ _ (by exact ((if_neg c43).trans ((if_neg c83).trans ((if_neg c93).trans ((if_pos c103).trans rfl))))) (by first | assumption | omega) h (lv_sub hl [1, 2] rfl)
        · have i93 := c_eq c93
          refine lv_iconst (v := 1) hx hb dX6_once_96 (by decide) ?_
          refine lv_goto (tgt := 121) hx hb dX6_once_97 (by decide) ?_
          exact j121 _ _ _ _ (by exact ((if_neg c43).trans ((if_neg c83).trans ((if_pos c93).trans rfl)))) (by first | assumption | omega) h (lv_sub hl [1, 2] rfl)
      · have i83 := c_eq c83
        refine lv_iconst (v := 0) hx hb dX6_once_86 (by decide) ?_
        refine lv_goto (tgt := 121) hx hb dX6_once_87 (by decide) ?_
        exact j121 _ _ _ _ (by exact ((if_neg c43).trans ((if_pos c83).trans rfl))) (by first | assumption | omega) h (lv_sub hl [1, 2] rfl)
    · have i43 := c_eq c43
      refine lv_iload_n hx hb dX6_once_46 rfl (lv_at hl 0 rfl) ?_
      refine lv_bipush (v := 12) hx hb dX6_once_47 (by decide) ?_
      refine lv_icmp_ne (tgt := 56) hx hb dX6_once_49 (by decide) (fun c49 => ?_) (fun c49 => ?_)
      · have i49 := c_ne c49
        refine lv_iload_n hx hb dX6_once_56 rfl (lv_at hl 0 rfl) ?_
        refine lv_bipush (v := 13) hx hb dX6_once_57 (by decide) ?_
        refine lv_icmp_ne (tgt := 66) hx hb dX6_once_59 (by decide) (fun c59 => ?_) (fun c59 => ?_)
        · have i59 := c_ne c59
          refine lv_iload_n hx hb dX6_once_66 rfl (lv_at hl 0 rfl) ?_
          refine lv_bipush (v := 14) hx hb dX6_once_67 (by decide) ?_
          refine lv_icmp_ne (tgt := 76) hx hb dX6_once_69 (by decide) (fun c69 => ?_) (fun c69 => ?_)
          · have i69 := c_ne c69
            refine lv_iconst (v := -1) hx hb dX6_once_76 (by decide) ?_
            refine lv_goto (tgt := 121) hx hb dX6_once_77 (by decide) ?_
            exact j121 _ _ _ _ (by exact ((if_pos c43).trans ((if_neg c49).trans ((if_neg c59).trans ((if_neg c69).trans rfl))))) (by first | assumption | omega) h (lv_sub hl [1, 2] rfl)
          · have i69 := c_eq c69
            refine lv_iconst (v := 2) hx hb dX6_once_72 (by decide) ?_
            refine lv_goto (tgt := 121) hx hb dX6_once_73 (by decide) ?_
            exact j121 _ _ _ _ (by exact ((if_pos c43).trans ((if_neg c49).trans ((if_neg c59).trans ((if_pos c69).trans rfl))))) (by first | assumption | omega) h (lv_sub hl [1, 2] rfl)
        · have i59 := c_eq c59
          refine lv_iconst (v := 1) hx hb dX6_once_62 (by decide) ?_
          refine lv_goto (tgt := 121) hx hb dX6_once_63 (by decide) ?_
          exact j121 _ _ _ _ (by exact ((if_pos c43).trans ((if_neg c49).trans ((if_pos c59).trans rfl)))) (by first | assumption | omega) h (lv_sub hl [1, 2] rfl)
      · have i49 := c_eq c49
        refine lv_iconst (v := 0) hx hb dX6_once_52 (by decide) ?_
        refine lv_goto (tgt := 121) hx hb dX6_once_53 (by decide) ?_
        exact j121 _ _ _ _ (by exact ((if_pos c43).trans ((if_pos c49).trans rfl))) (by first | assumption | omega) h (lv_sub hl [1, 2] rfl)
  · have i9 := c_eq c9
    refine lv_aload_n hx hb dX6_once_12 rfl (lv_at hl 0 rfl) ?_
    refine lv_iconst (v := 5) hx hb dX6_once_13 (by decide) ?_
    refine M_callz (As := [.int (5 : Int32)]) (rest := []) 1 C h (k_X6_fails l g σ (5 : Int32) (by first | assumption | omega) (by first | assumption | omega) (by first | assumption | omega) (by first | assumption | omega)) (lw_V q1742 q1744 qs75 q152 q1745) rfl rfl (by decide +kernel) ⟨Nat.le_of_ble_eq_true rfl, Nat.le_of_ble_eq_true rfl⟩ rfl hl.1 rfl (Nat.le_of_ble_eq_true rfl) ⟨Nat.le_of_ble_eq_true rfl, Nat.le_of_ble_eq_true rfl⟩ dX6_once_14 (fun r14 σ14 H locs eσ14 er14 br14 hE14 h => ?_)
    have hE14 : (∀ j : Int32, ga σ14 0 j = ga σ 0 j) ∧ ((gi σ14 11).toInt = (gi σ 11).toInt) ∧ ((gi σ 13).toInt ≤ (gi σ14 13).toInt) ∧ (PFr σ σ14) ∧ (0 ≤ (gi σ14 11).toInt ∧ (gi σ14 11).toInt ≤ 900) ∧ (0 ≤ (gi σ14 14).toInt ∧ (gi σ14 14).toInt ≤ (gi σ14 11).toInt) ∧ (0 ≤ (gi σ14 13).toInt ∧ (gi σ14 13).toInt ≤ (gi σ14 14).toInt) ∧ (Hd (¬ (gi σ14 12).toInt = 0 → (gi σ14 13).toInt < (gi σ14 14).toInt)) ∧ (r14.toInt = 0) := hE14
    obtain ⟨hA0_14, hsm_14, hmo_14, hFR_14, hsz_14, hen_14, hfr_14, htk_14, fz_14⟩ := hE14
    have hNEW : (0 ≤ (gi σ14 11).toInt ∧ (gi σ14 11).toInt ≤ 900) ∧ (0 ≤ (gi σ14 14).toInt ∧ (gi σ14 14).toInt ≤ (gi σ14 11).toInt) ∧ (0 ≤ (gi σ14 13).toInt ∧ (gi σ14 13).toInt ≤ (gi σ14 14).toInt) ∧ (Hd (¬ (gi σ14 12).toInt = 0 → (gi σ14 13).toInt < (gi σ14 14).toInt)) ∧ (0 ≤ (ga σ14 0 (2000 : Int32)).toInt ∧ (ga σ14 0 (2000 : Int32)).toInt ≤ 6) ∧ (0 ≤ (ga σ14 0 (2002 : Int32)).toInt ∧ (ga σ14 0 (2002 : Int32)).toInt ≤ 16) ∧ (SL σ14 2000) ∧ (DP σ14) ∧ ((gi σ14 11).toInt = (gi σ 11).toInt) ∧ ((gi σ 13).toInt ≤ (gi σ14 13).toInt) ∧ (PFr σ σ14) := ⟨(by first | assumption | omega), (by first | assumption | omega), (by first | assumption | omega), (by first | assumption | omega), (by simp only [hA0_14] <;> exact hNP), (by simp only [hA0_14] <;> exact hND), (SL_A0 hA0_14 hSN), (DP_A0 hA0_14 hDP), (by first | assumption | omega), (by first | assumption | omega), (Fr.tr hFR hFR_14)⟩
    obtain ⟨hsz, hen, hfr, htk, hNP, hND, hSN, hDP, hsm, hmo, hFR⟩ := hNEW
    clear hsm_14 hmo_14 hsz_14 hen_14 hfr_14 htk_14
    have he : f_X6_once σ p1 = (σ14, r14) := (by have eσ14 := eσ14.symm; subst eσ14; have er14 := er14.symm; subst er14; exact ((if_pos c9).trans rfl))
    exact M_retz C h hr hlocks (congrArg Prod.fst he) (congrArg Prod.snd he) br14 ⟨hsm, hmo, hFR, (by first | assumption | omega | (unfold Hd; omega)), (by first | assumption | omega | (unfold Hd; omega)), (by first | assumption | omega | (unfold Hd; omega)), (by first | assumption | omega | (unfold Hd; omega)), (by first | assumption | omega | (unfold Hd; omega)), (by first | assumption | omega | (unfold Hd; omega)), (by first | assumption | omega | (unfold Hd; omega)), (by first | assumption | omega | (unfold Hd; omega))⟩ dX6_once_17
def f_X6_tablePart (σ : MS) : MS × Int32 := (let r3 := (f_X6_inWords σ); if r3 = (0 : Int32) then ((let z45 := (f_X6_aPerson σ); let σ45 := z45.1; let r45 := z45.2; if r45 = (0 : Int32) then ((σ45, (0 : Int32))) else ((let z107 := (f_X6_wantSign σ45 (59 : Int32)); let σ107 := z107.1; let r107 := z107.2; if r107 = (0 : Int32) then ((σ107, (0 : Int32))) else ((σ107, (1 : Int32))))))) else (if r3 = (1 : Int32) then ((let z53 := (f_X6_aCouple σ); let σ53 := z53.1; let r53 := z53.2; if r53 = (0 : Int32) then ((σ53, (0 : Int32))) else ((let z107 := (f_X6_wantSign σ53 (59 : Int32)); let σ107 := z107.1; let r107 := z107.2; if r107 = (0 : Int32) then ((σ107, (0 : Int32))) else ((σ107, (1 : Int32))))))) else (if r3 = (2 : Int32) then ((let z61 := (f_X6_aDish σ); let σ61 := z61.1; let r61 := z61.2; if r61 = (0 : Int32) then ((σ61, (0 : Int32))) else ((let z107 := (f_X6_wantSign σ61 (59 : Int32)); let σ107 := z107.1; let r107 := z107.2; if r107 = (0 : Int32) then ((σ107, (0 : Int32))) else ((σ107, (1 : Int32))))))) else (if r3 = (3 : Int32) then ((let z69 := (f_X6_aDebt σ); let σ69 := z69.1; let r69 := z69.2; if r69 = (0 : Int32) then ((σ69, (0 : Int32))) else ((let z107 := (f_X6_wantSign σ69 (59 : Int32)); let σ107 := z107.1; let r107 := z107.2; if r107 = (0 : Int32) then ((σ107, (0 : Int32))) else ((σ107, (1 : Int32))))))) else (if r3 = (4 : Int32) then ((let z78 := (f_X6_once σ (4 : Int32)); let σ78 := z78.1; let r78 := z78.2; if r78 = (0 : Int32) then ((σ78, (0 : Int32))) else ((let z107 := (f_X6_wantSign σ78 (59 : Int32)); let σ107 := z107.1; let r107 := z107.2; if r107 = (0 : Int32) then ((σ107, (0 : Int32))) else ((σ107, (1 : Int32))))))) else (if r3 = (5 : Int32) then ((let z87 := (f_X6_once σ (5 : Int32)); let σ87 := z87.1; let r87 := z87.2; if r87 = (0 : Int32) then ((σ87, (0 : Int32))) else ((let z107 := (f_X6_wantSign σ87 (59 : Int32)); let σ107 := z107.1; let r107 := z107.2; if r107 = (0 : Int32) then ((σ107, (0 : Int32))) else ((σ107, (1 : Int32))))))) else ((let z96 := (f_X6_fails σ (2 : Int32)); let σ96 := z96.1; let r96 := z96.2; (σ96, r96)))))))))
set_option maxHeartbeats 4000000 in
set_option maxRecDepth 100000 in
theorem k_X6_tablePart (l : Launch) (g : GE) (σ : MS) (hsz : 0 ≤ (gi σ 11).toInt ∧ (gi σ 11).toInt ≤ 900) (hen : 0 ≤ (gi σ 14).toInt ∧ (gi σ 14).toInt ≤ (gi σ 11).toInt) (hfr : 0 ≤ (gi σ 13).toInt ∧ (gi σ 13).toInt ≤ (gi σ 14).toInt) (htk : Hd (¬ (gi σ 12).toInt = 0 → (gi σ 13).toInt < (gi σ 14).toInt)) (hNP : 0 ≤ (ga σ 0 (2000 : Int32)).toInt ∧ (ga σ 0 (2000 : Int32)).toInt ≤ 6) (hND : 0 ≤ (ga σ 0 (2002 : Int32)).toInt ∧ (ga σ 0 (2002 : Int32)).toInt ≤ 16) (hSN : SL σ 2000) (hDP : DP σ) : Met l yX6_tablePart (ws_ yX6_tablePart cX6_tablePart 2 (some .boolean)) ({ frames := 9, cells := 0, slots := 0, locals := 200 } : Room) (mPc g σ []) (mQz g (f_X6_tablePart σ).1 (f_X6_tablePart σ).2 (fun u r => ((gi u 11).toInt = (gi σ 11).toInt) ∧ ((gi σ 13).toInt ≤ (gi u 13).toInt) ∧ (PFr σ u) ∧ (0 ≤ (gi u 11).toInt ∧ (gi u 11).toInt ≤ 900) ∧ (0 ≤ (gi u 14).toInt ∧ (gi u 14).toInt ≤ (gi u 11).toInt) ∧ (0 ≤ (gi u 13).toInt ∧ (gi u 13).toInt ≤ (gi u 14).toInt) ∧ (Hd (¬ (gi u 12).toInt = 0 → (gi u 13).toInt < (gi u 14).toInt)) ∧ (0 ≤ (ga u 0 (2000 : Int32)).toInt ∧ (ga u 0 (2000 : Int32)).toInt ≤ 6) ∧ (0 ≤ (ga u 0 (2002 : Int32)).toInt ∧ (ga u 0 (2002 : Int32)).toInt ≤ 16) ∧ (SL u 2000) ∧ (DP u) ∧ (Hd (¬ r.toInt = 0 → (gi σ 13).toInt < (gi u 13).toInt)))) 0 0 (mA g) := by
  refine met_M (by decide) rfl (Nat.le_of_ble_eq_true rfl) ?_
  intro p e s m args below meth c C hr hlocks h ls hl
  have hx := C.1.1
  have hb := C.1.2.1
  have hml := C.1.2.2.1
  have hown := C.1.2.2.2.1
  have hts := C.1.2.2.2.2
  have hl : lv_has ls 2 [(0, .ref (g.2.1 99))] := hl
  have hsm : (gi σ 11).toInt = (gi σ 11).toInt := rfl
  have hmo : (gi σ 13).toInt ≤ (gi σ 13).toInt := Int.le_refl _
  have hFR : PFr σ σ := Fr.rf
  have zl0 : (0 : Int32).toInt = 0 := rfl
  have zl1 : (1 : Int32).toInt = 1 := rfl
  have zl2 : (2 : Int32).toInt = 2 := rfl
  have zl3 : (3 : Int32).toInt = 3 := rfl
  have zl4 : (4 : Int32).toInt = 4 := rfl
  have zl5 : (5 : Int32).toInt = 5 := rfl
  have zl59 : (59 : Int32).toInt = 59 := rfl
  have zl2000 : (2000 : Int32).toInt = 2000 := rfl
  have zl2002 : (2002 : Int32).toInt = 2002 := rfl
  refine lv_aload_n hx hb dX6_tablePart_0 rfl (lv_at hl 0 rfl) ?_
  refine M_keys C dX6_tablePart_1 ?_
  refine M_calli (As := [.ref (g.2.1 97)]) (rest := []) 1 C h (k_X6_inWords l g σ (by first | assumption | omega) (by first | assumption | omega) (by first | assumption | omega)) (lw_V q1732 q1734 qs73 q152 q1735) rfl rfl (by decide +kernel) ⟨Nat.le_of_ble_eq_true rfl, Nat.le_of_ble_eq_true rfl⟩ rfl hl.1 rfl (Nat.le_of_ble_eq_true rfl) ⟨Nat.le_of_ble_eq_true rfl, Nat.le_of_ble_eq_true rfl⟩ dX6_tablePart_3 (fun r3 σ3 H locs eσ3 er3 hE3 h => ?_)
  rw [eσ3] at h
  clear hE3
  clear eσ3
  by_cases c6_0 : r3 = (0 : Int32)
  · refine lv_tableIn (off := 38) (tgt := 44) hx hb dX6_tablePart_6 (by rw [c6_0]; decide) (by rw [c6_0]; decide) (by rw [c6_0]; rfl) (by decide) ?_
    have i6_0 := c_eq c6_0
    refine lv_aload_n hx hb dX6_tablePart_44 rfl (lv_at hl 0 rfl) ?_
    refine M_callz (As := []) (rest := []) 0 C h (k_X6_aPerson l g σ (by first | assumption | omega) (by first | assumption | omega) (by first | assumption | omega) (by first | assumption | omega) (by first | assumption | omega) (by first | assumption | omega) (by first | assumption | omega) (by first | assumption | omega)) (lw_V q1738 q1740 qs74 q152 q1741) rfl rfl (by decide +kernel) ⟨Nat.le_of_ble_eq_true rfl, Nat.le_of_ble_eq_true rfl⟩ rfl hl.1 rfl (Nat.le_of_ble_eq_true rfl) ⟨Nat.le_of_ble_eq_true rfl, Nat.le_of_ble_eq_true rfl⟩ dX6_tablePart_45 (fun r45 σ45 H locs eσ45 er45 br45 hE45 h => ?_)
    have hE45 : ((gi σ45 11).toInt = (gi σ 11).toInt) ∧ ((gi σ 13).toInt ≤ (gi σ45 13).toInt) ∧ (PFr σ σ45) ∧ (0 ≤ (gi σ45 11).toInt ∧ (gi σ45 11).toInt ≤ 900) ∧ (0 ≤ (gi σ45 14).toInt ∧ (gi σ45 14).toInt ≤ (gi σ45 11).toInt) ∧ (0 ≤ (gi σ45 13).toInt ∧ (gi σ45 13).toInt ≤ (gi σ45 14).toInt) ∧ (Hd (¬ (gi σ45 12).toInt = 0 → (gi σ45 13).toInt < (gi σ45 14).toInt)) ∧ (0 ≤ (ga σ45 0 (2000 : Int32)).toInt ∧ (ga σ45 0 (2000 : Int32)).toInt ≤ 6) ∧ (0 ≤ (ga σ45 0 (2002 : Int32)).toInt ∧ (ga σ45 0 (2002 : Int32)).toInt ≤ 16) ∧ (SL σ45 2000) ∧ (DP σ45) := hE45
    obtain ⟨hsm_45, hmo_45, hFR_45, hsz_45, hen_45, hfr_45, htk_45, hNP_45, hND_45, hSN_45, hDP_45⟩ := hE45
    have hNEW : (0 ≤ (gi σ45 11).toInt ∧ (gi σ45 11).toInt ≤ 900) ∧ (0 ≤ (gi σ45 14).toInt ∧ (gi σ45 14).toInt ≤ (gi σ45 11).toInt) ∧ (0 ≤ (gi σ45 13).toInt ∧ (gi σ45 13).toInt ≤ (gi σ45 14).toInt) ∧ (Hd (¬ (gi σ45 12).toInt = 0 → (gi σ45 13).toInt < (gi σ45 14).toInt)) ∧ (0 ≤ (ga σ45 0 (2000 : Int32)).toInt ∧ (ga σ45 0 (2000 : Int32)).toInt ≤ 6) ∧ (0 ≤ (ga σ45 0 (2002 : Int32)).toInt ∧ (ga σ45 0 (2002 : Int32)).toInt ≤ 16) ∧ (SL σ45 2000) ∧ (DP σ45) ∧ ((gi σ45 11).toInt = (gi σ 11).toInt) ∧ ((gi σ 13).toInt ≤ (gi σ45 13).toInt) ∧ (PFr σ σ45) := ⟨(by first | assumption | omega), (by first | assumption | omega), (by first | assumption | omega), (by first | assumption | omega), (hNP_45), (hND_45), (hSN_45), (hDP_45), (by first | assumption | omega), (by first | assumption | omega), (Fr.tr hFR hFR_45)⟩
    obtain ⟨hsz, hen, hfr, htk, hNP, hND, hSN, hDP, hsm, hmo, hFR⟩ := hNEW
    clear hsm_45 hmo_45 hsz_45 hen_45 hfr_45 htk_45
    refine lv_istore_n (lv' := [(1, .int r45), (0, .ref (g.2.1 99))]) hx hb dX6_tablePart_48 rfl hl (by decide) rfl (fun ls hl => ?_)
    refine lv_goto (tgt := 100) hx hb dX6_tablePart_49 (by decide) ?_
    refine lv_iload_n hx hb dX6_tablePart_100 rfl (lv_at hl 0 rfl) ?_
    refine lv_if_eq (tgt := 117) hx hb dX6_tablePart_101 (by decide) (fun c101 => ?_) (fun c101 => ?_)
    · have i101 := c_eq c101
      refine lv_iconst (v := 0) hx hb dX6_tablePart_117 (by decide) ?_
      have he : f_X6_tablePart σ = (σ45, (0 : Int32)) := (by have er3 := er3.symm; subst er3; have eσ45 := eσ45.symm; subst eσ45; have er45 := er45.symm; subst er45; exact ((if_pos c6_0).trans ((if_pos c101).trans rfl)))
      exact M_retz C h hr hlocks (congrArg Prod.fst he) (congrArg Prod.snd he) (Or.inl rfl) ⟨hsm, hmo, hFR, (by first | assumption | omega | (unfold Hd; omega)), (by first | assumption | omega | (unfold Hd; omega)), (by first | assumption | omega | (unfold Hd; omega)), (by first | assumption | omega | (unfold Hd; omega)), (by first | assumption | omega | (unfold Hd; omega)), (by first | assumption | omega | (unfold Hd; omega)), (by first | assumption | omega | (unfold Hd; omega)), (by first | assumption | omega | (unfold Hd; omega)), (by first | exact (fun q => absurd zl0 q) | exact (fun q => absurd fz_96 q) | exact (fun _ => by have q := wp_107 (by omega); omega))⟩ dX6_tablePart_118
    · have i101 := c_ne c101
      refine lv_aload_n hx hb dX6_tablePart_104 rfl (lv_at hl 1 rfl) ?_
      refine lv_bipush (v := 59) hx hb dX6_tablePart_105 (by decide) ?_
      refine M_callz (As := [.int (59 : Int32)]) (rest := []) 1 C h (k_X6_wantSign l g σ45 (59 : Int32) (by first | assumption | omega) (by first | assumption | omega) (by first | assumption | omega) (by first | assumption | omega)) (lw_V q1794 q1796 qs88 q152 q1797) rfl rfl (by decide +kernel) ⟨Nat.le_of_ble_eq_true rfl, Nat.le_of_ble_eq_true rfl⟩ rfl hl.1 rfl (Nat.le_of_ble_eq_true rfl) ⟨Nat.le_of_ble_eq_true rfl, Nat.le_of_ble_eq_true rfl⟩ dX6_tablePart_107 (fun r107 σ107 H locs eσ107 er107 br107 hE107 h => ?_)
      have hE107 : (∀ j : Int32, ga σ107 0 j = ga σ45 0 j) ∧ ((gi σ107 11).toInt = (gi σ45 11).toInt) ∧ ((gi σ45 13).toInt ≤ (gi σ107 13).toInt) ∧ (PFr σ45 σ107) ∧ (0 ≤ (gi σ107 11).toInt ∧ (gi σ107 11).toInt ≤ 900) ∧ (0 ≤ (gi σ107 14).toInt ∧ (gi σ107 14).toInt ≤ (gi σ107 11).toInt) ∧ (0 ≤ (gi σ107 13).toInt ∧ (gi σ107 13).toInt ≤ (gi σ107 14).toInt) ∧ (Hd (¬ (gi σ107 12).toInt = 0 → (gi σ107 13).toInt < (gi σ107 14).toInt)) ∧ (Hd (¬ r107.toInt = 0 → (gi σ45 13).toInt < (gi σ107 13).toInt)) := hE107
      obtain ⟨hA0_107, hsm_107, hmo_107, hFR_107, hsz_107, hen_107, hfr_107, htk_107, wp_107⟩ := hE107
      have hNEW : (0 ≤ (gi σ107 11).toInt ∧ (gi σ107 11).toInt ≤ 900) ∧ (0 ≤ (gi σ107 14).toInt ∧ (gi σ107 14).toInt ≤ (gi σ107 11).toInt) ∧ (0 ≤ (gi σ107 13).toInt ∧ (gi σ107 13).toInt ≤ (gi σ107 14).toInt) ∧ (Hd (¬ (gi σ107 12).toInt = 0 → (gi σ107 13).toInt < (gi σ107 14).toInt)) ∧ (0 ≤ (ga σ107 0 (2000 : Int32)).toInt ∧ (ga σ107 0 (2000 : Int32)).toInt ≤ 6) ∧ (0 ≤ (ga σ107 0 (2002 : Int32)).toInt ∧ (ga σ107 0 (2002 : Int32)).toInt ≤ 16) ∧ (SL σ107 2000) ∧ (DP σ107) ∧ ((gi σ107 11).toInt = (gi σ 11).toInt) ∧ ((gi σ 13).toInt ≤ (gi σ107 13).toInt) ∧ (PFr σ σ107) := ⟨(by first | assumption | omega), (by first | assumption | omega), (by first | assumption | omega), (by first | assumption | omega), (by simp only [hA0_107] <;> exact hNP), (by simp only [hA0_107] <;> exact hND), (SL_A0 hA0_107 hSN), (DP_A0 hA0_107 hDP), (by first | assumption | omega), (by first | assumption | omega), (Fr.tr hFR hFR_107)⟩
      clear hsz hen hfr htk hNP hND hSN hDP hsm hmo hFR
      obtain ⟨hsz, hen, hfr, htk, hNP, hND, hSN, hDP, hsm, hmo, hFR⟩ := hNEW
      clear hsm_107 hmo_107 hsz_107 hen_107 hfr_107 htk_107
      refine lv_if_eq (tgt := 117) hx hb dX6_tablePart_110 (by decide) (fun c110 => ?_) (fun c110 => ?_)
      · have i110 := c_eq c110
        refine lv_iconst (v := 0) hx hb dX6_tablePart_117 (by decide) ?_
        have he : f_X6_tablePart σ = (σ107, (0 : Int32)) := (by have er3 := er3.symm; subst er3; have eσ45 := eσ45.symm; subst eσ45; have er45 := er45.symm; subst er45; have eσ107 := eσ107.symm; subst eσ107; have er107 := er107.symm; subst er107; exact ((if_pos c6_0).trans ((if_neg c101).trans ((if_pos c110).trans rfl))))
        exact M_retz C h hr hlocks (congrArg Prod.fst he) (congrArg Prod.snd he) (Or.inl rfl) ⟨hsm, hmo, hFR, (by first | assumption | omega | (unfold Hd; omega)), (by first | assumption | omega | (unfold Hd; omega)), (by first | assumption | omega | (unfold Hd; omega)), (by first | assumption | omega | (unfold Hd; omega)), (by first | assumption | omega | (unfold Hd; omega)), (by first | assumption | omega | (unfold Hd; omega)), (by first | assumption | omega | (unfold Hd; omega)), (by first | assumption | omega | (unfold Hd; omega)), (by first | exact (fun q => absurd zl0 q) | exact (fun q => absurd fz_96 q) | exact (fun _ => by have q := wp_107 (by omega); omega))⟩ dX6_tablePart_118
      · have i110 := c_ne c110
        refine lv_iconst (v := 1) hx hb dX6_tablePart_113 (by decide) ?_
        refine lv_goto (tgt := 118) hx hb dX6_tablePart_114 (by decide) ?_
        have he : f_X6_tablePart σ = (σ107, (1 : Int32)) := (by have er3 := er3.symm; subst er3; have eσ45 := eσ45.symm; subst eσ45; have er45 := er45.symm; subst er45; have eσ107 := eσ107.symm; subst eσ107; have er107 := er107.symm; subst er107; exact ((if_pos c6_0).trans ((if_neg c101).trans ((if_neg c110).trans rfl))))
        exact M_retz C h hr hlocks (congrArg Prod.fst he) (congrArg Prod.snd he) (Or.inr rfl) ⟨hsm, hmo, hFR, (by first | assumption | omega | (unfold Hd; omega)), (by first | assumption | omega | (unfold Hd; omega)), (by first | assumption | omega | (unfold Hd; omega)), (by first | assumption | omega | (unfold Hd; omega)), (by first | assumption | omega | (unfold Hd; omega)), (by first | assumption | omega | (unfold Hd; omega)), (by first | assumption | omega | (unfold Hd; omega)), (by first | assumption | omega | (unfold Hd; omega)), (by first | exact (fun q => absurd zl0 q) | exact (fun q => absurd fz_96 q) | exact (fun _ => by have q := wp_107 (by omega); omega))⟩ dX6_tablePart_118
  · have i6_0 := c_ne c6_0
    by_cases c6_1 : r3 = (1 : Int32)
    · refine lv_tableIn (off := 46) (tgt := 52) hx hb dX6_tablePart_6 (by rw [c6_1]; decide) (by rw [c6_1]; decide) (by rw [c6_1]; rfl) (by decide) ?_
      have i6_1 := c_eq c6_1
      refine lv_aload_n hx hb dX6_tablePart_52 rfl (lv_at hl 0 rfl) ?_
      refine M_callz (As := []) (rest := []) 0 C h (k_X6_aCouple l g σ (by first | assumption | omega) (by first | assumption | omega) (by first | assumption | omega) (by first | assumption | omega) (by first | assumption | omega) (by first | assumption | omega) (by first | assumption | omega) (by first | assumption | omega)) (lw_V q1766 q1768 qs81 q152 q1769) rfl rfl (by decide +kernel) ⟨Nat.le_of_ble_eq_true rfl, Nat.le_of_ble_eq_true rfl⟩ rfl hl.1 rfl (Nat.le_of_ble_eq_true rfl) ⟨Nat.le_of_ble_eq_true rfl, Nat.le_of_ble_eq_true rfl⟩ dX6_tablePart_53 (fun r53 σ53 H locs eσ53 er53 br53 hE53 h => ?_)
      have hE53 : ((gi σ53 11).toInt = (gi σ 11).toInt) ∧ ((gi σ 13).toInt ≤ (gi σ53 13).toInt) ∧ (PFr σ σ53) ∧ (0 ≤ (gi σ53 11).toInt ∧ (gi σ53 11).toInt ≤ 900) ∧ (0 ≤ (gi σ53 14).toInt ∧ (gi σ53 14).toInt ≤ (gi σ53 11).toInt) ∧ (0 ≤ (gi σ53 13).toInt ∧ (gi σ53 13).toInt ≤ (gi σ53 14).toInt) ∧ (Hd (¬ (gi σ53 12).toInt = 0 → (gi σ53 13).toInt < (gi σ53 14).toInt)) ∧ (0 ≤ (ga σ53 0 (2000 : Int32)).toInt ∧ (ga σ53 0 (2000 : Int32)).toInt ≤ 6) ∧ (0 ≤ (ga σ53 0 (2002 : Int32)).toInt ∧ (ga σ53 0 (2002 : Int32)).toInt ≤ 16) ∧ (SL σ53 2000) ∧ (DP σ53) := hE53
      obtain ⟨hsm_53, hmo_53, hFR_53, hsz_53, hen_53, hfr_53, htk_53, hNP_53, hND_53, hSN_53, hDP_53⟩ := hE53
      have hNEW : (0 ≤ (gi σ53 11).toInt ∧ (gi σ53 11).toInt ≤ 900) ∧ (0 ≤ (gi σ53 14).toInt ∧ (gi σ53 14).toInt ≤ (gi σ53 11).toInt) ∧ (0 ≤ (gi σ53 13).toInt ∧ (gi σ53 13).toInt ≤ (gi σ53 14).toInt) ∧ (Hd (¬ (gi σ53 12).toInt = 0 → (gi σ53 13).toInt < (gi σ53 14).toInt)) ∧ (0 ≤ (ga σ53 0 (2000 : Int32)).toInt ∧ (ga σ53 0 (2000 : Int32)).toInt ≤ 6) ∧ (0 ≤ (ga σ53 0 (2002 : Int32)).toInt ∧ (ga σ53 0 (2002 : Int32)).toInt ≤ 16) ∧ (SL σ53 2000) ∧ (DP σ53) ∧ ((gi σ53 11).toInt = (gi σ 11).toInt) ∧ ((gi σ 13).toInt ≤ (gi σ53 13).toInt) ∧ (PFr σ σ53) := ⟨(by first | assumption | omega), (by first | assumption | omega), (by first | assumption | omega), (by first | assumption | omega), (hNP_53), (hND_53), (hSN_53), (hDP_53), (by first | assumption | omega), (by first | assumption | omega), (Fr.tr hFR hFR_53)⟩
      obtain ⟨hsz, hen, hfr, htk, hNP, hND, hSN, hDP, hsm, hmo, hFR⟩ := hNEW
      clear hsm_53 hmo_53 hsz_53 hen_53 hfr_53 htk_53
      refine lv_istore_n (lv' := [(1, .int r53), (0, .ref (g.2.1 99))]) hx hb dX6_tablePart_56 rfl hl (by decide) rfl (fun ls hl => ?_)
      refine lv_goto (tgt := 100) hx hb dX6_tablePart_57 (by decide) ?_
      refine lv_iload_n hx hb dX6_tablePart_100 rfl (lv_at hl 0 rfl) ?_
      refine lv_if_eq (tgt := 117) hx hb dX6_tablePart_101 (by decide) (fun c101 => ?_) (fun c101 => ?_)
      · have i101 := c_eq c101
        refine lv_iconst (v := 0) hx hb dX6_tablePart_117 (by decide) ?_
        have he : f_X6_tablePart σ = (σ53, (0 : Int32)) := (by have er3 := er3.symm; subst er3; have eσ53 := eσ53.symm; subst eσ53; have er53 := er53.symm; subst er53; exact ((if_neg c6_0).trans ((if_pos c6_1).trans ((if_pos c101).trans rfl))))
        exact M_retz C h hr hlocks (congrArg Prod.fst he) (congrArg Prod.snd he) (Or.inl rfl) ⟨hsm, hmo, hFR, (by first | assumption | omega | (unfold Hd; omega)), (by first | assumption | omega | (unfold Hd; omega)), (by first | assumption | omega | (unfold Hd; omega)), (by first | assumption | omega | (unfold Hd; omega)), (by first | assumption | omega | (unfold Hd; omega)), (by first | assumption | omega | (unfold Hd; omega)), (by first | assumption | omega | (unfold Hd; omega)), (by first | assumption | omega | (unfold Hd; omega)), (by first | exact (fun q => absurd zl0 q) | exact (fun q => absurd fz_96 q) | exact (fun _ => by have q := wp_107 (by omega); omega))⟩ dX6_tablePart_118
      · have i101 := c_ne c101
        refine lv_aload_n hx hb dX6_tablePart_104 rfl (lv_at hl 1 rfl) ?_
        refine lv_bipush (v := 59) hx hb dX6_tablePart_105 (by decide) ?_
        refine M_callz (As := [.int (59 : Int32)]) (rest := []) 1 C h (k_X6_wantSign l g σ53 (59 : Int32) (by first | assumption | omega) (by first | assumption | omega) (by first | assumption | omega) (by first | assumption | omega)) (lw_V q1794 q1796 qs88 q152 q1797) rfl rfl (by decide +kernel) ⟨Nat.le_of_ble_eq_true rfl, Nat.le_of_ble_eq_true rfl⟩ rfl hl.1 rfl (Nat.le_of_ble_eq_true rfl) ⟨Nat.le_of_ble_eq_true rfl, Nat.le_of_ble_eq_true rfl⟩ dX6_tablePart_107 (fun r107 σ107 H locs eσ107 er107 br107 hE107 h => ?_)
        have hE107 : (∀ j : Int32, ga σ107 0 j = ga σ53 0 j) ∧ ((gi σ107 11).toInt = (gi σ53 11).toInt) ∧ ((gi σ53 13).toInt ≤ (gi σ107 13).toInt) ∧ (PFr σ53 σ107) ∧ (0 ≤ (gi σ107 11).toInt ∧ (gi σ107 11).toInt ≤ 900) ∧ (0 ≤ (gi σ107 14).toInt ∧ (gi σ107 14).toInt ≤ (gi σ107 11).toInt) ∧ (0 ≤ (gi σ107 13).toInt ∧ (gi σ107 13).toInt ≤ (gi σ107 14).toInt) ∧ (Hd (¬ (gi σ107 12).toInt = 0 → (gi σ107 13).toInt < (gi σ107 14).toInt)) ∧ (Hd (¬ r107.toInt = 0 → (gi σ53 13).toInt < (gi σ107 13).toInt)) := hE107
        obtain ⟨hA0_107, hsm_107, hmo_107, hFR_107, hsz_107, hen_107, hfr_107, htk_107, wp_107⟩ := hE107
        have hNEW : (0 ≤ (gi σ107 11).toInt ∧ (gi σ107 11).toInt ≤ 900) ∧ (0 ≤ (gi σ107 14).toInt ∧ (gi σ107 14).toInt ≤ (gi σ107 11).toInt) ∧ (0 ≤ (gi σ107 13).toInt ∧ (gi σ107 13).toInt ≤ (gi σ107 14).toInt) ∧ (Hd (¬ (gi σ107 12).toInt = 0 → (gi σ107 13).toInt < (gi σ107 14).toInt)) ∧ (0 ≤ (ga σ107 0 (2000 : Int32)).toInt ∧ (ga σ107 0 (2000 : Int32)).toInt ≤ 6) ∧ (0 ≤ (ga σ107 0 (2002 : Int32)).toInt ∧ (ga σ107 0 (2002 : Int32)).toInt ≤ 16) ∧ (SL σ107 2000) ∧ (DP σ107) ∧ ((gi σ107 11).toInt = (gi σ 11).toInt) ∧ ((gi σ 13).toInt ≤ (gi σ107 13).toInt) ∧ (PFr σ σ107) := ⟨(by first | assumption | omega), (by first | assumption | omega), (by first | assumption | omega), (by first | assumption | omega), (by simp only [hA0_107] <;> exact hNP), (by simp only [hA0_107] <;> exact hND), (SL_A0 hA0_107 hSN), (DP_A0 hA0_107 hDP), (by first | assumption | omega), (by first | assumption | omega), (Fr.tr hFR hFR_107)⟩
        clear hsz hen hfr htk hNP hND hSN hDP hsm hmo hFR
        obtain ⟨hsz, hen, hfr, htk, hNP, hND, hSN, hDP, hsm, hmo, hFR⟩ := hNEW
        clear hsm_107 hmo_107 hsz_107 hen_107 hfr_107 htk_107
        refine lv_if_eq (tgt := 117) hx hb dX6_tablePart_110 (by decide) (fun c110 => ?_) (fun c110 => ?_)
        · have i110 := c_eq c110
          refine lv_iconst (v := 0) hx hb dX6_tablePart_117 (by decide) ?_
          have he : f_X6_tablePart σ = (σ107, (0 : Int32)) := (by have er3 := er3.symm; subst er3; have eσ53 := eσ53.symm; subst eσ53; have er53 := er53.symm; subst er53; have eσ107 := eσ107.symm; subst eσ107; have er107 := er107.symm; subst er107; exact ((if_neg c6_0).trans ((if_pos c6_1).trans ((if_neg c101).trans ((if_pos c110).trans rfl)))))
          exact M_retz C h hr hlocks (congrArg Prod.fst he) (congrArg Prod.snd he) (Or.inl rfl) ⟨hsm, hmo, hFR, (by first | assumption | omega | (unfold Hd; omega)), (by first | assumption | omega | (unfold Hd; omega)), (by first | assumption | omega | (unfold Hd; omega)), (by first | assumption | omega | (unfold Hd; omega)), (by first | assumption | omega | (unfold Hd; omega)), (by first | assumption | omega | (unfold Hd; omega)), (by first | assumption | omega | (unfold Hd; omega)), (by first | assumption | omega | (unfold Hd; omega)), (by first | exact (fun q => absurd zl0 q) | exact (fun q => absurd fz_96 q) | exact (fun _ => by have q := wp_107 (by omega); omega))⟩ dX6_tablePart_118
        · have i110 := c_ne c110
          refine lv_iconst (v := 1) hx hb dX6_tablePart_113 (by decide) ?_
          refine lv_goto (tgt := 118) hx hb dX6_tablePart_114 (by decide) ?_
          have he : f_X6_tablePart σ = (σ107, (1 : Int32)) := (by have er3 := er3.symm; subst er3; have eσ53 := eσ53.symm; subst eσ53; have er53 := er53.symm; subst er53; have eσ107 := eσ107.symm; subst eσ107; have er107 := er107.symm; subst er107; exact ((if_neg c6_0).trans ((if_pos c6_1).trans ((if_neg c101).trans ((if_neg c110).trans rfl)))))
          exact M_retz C h hr hlocks (congrArg Prod.fst he) (congrArg Prod.snd he) (Or.inr rfl) ⟨hsm, hmo, hFR, (by first | assumption | omega | (unfold Hd; omega)), (by first | assumption | omega | (unfold Hd; omega)), (by first | assumption | omega | (unfold Hd; omega)), (by first | assumption | omega | (unfold Hd; omega)), (by first | assumption | omega | (unfold Hd; omega)), (by first | assumption | omega | (unfold Hd; omega)), (by first | assumption | omega | (unfold Hd; omega)), (by first | assumption | omega | (unfold Hd; omega)), (by first | exact (fun q => absurd zl0 q) | exact (fun q => absurd fz_96 q) | exact (fun _ => by have q := wp_107 (by omega); omega))⟩ dX6_tablePart_118
    · have i6_1 := c_ne c6_1
      by_cases c6_2 : r3 = (2 : Int32)
      · refine lv_tableIn (off := 54) (tgt := 60) hx hb dX6_tablePart_6 (by rw [c6_2]; decide) (by rw [c6_2]; decide) (by rw [c6_2]; rfl) (by decide) ?_
        have i6_2 := c_eq c6_2
        refine lv_aload_n hx hb dX6_tablePart_60 rfl (lv_at hl 0 rfl) ?_
        refine M_callz (As := []) (rest := []) 0 C h (k_X6_aDish l g σ (by first | assumption | omega) (by first | assumption | omega) (by first | assumption | omega) (by first | assumption | omega) (by first | assumption | omega) (by first | assumption | omega) (by first | assumption | omega) (by first | assumption | omega)) (lw_V q1778 q1780 qs84 q152 q1781) rfl rfl (by decide +kernel) ⟨Nat.le_of_ble_eq_true rfl, Nat.le_of_ble_eq_true rfl⟩ rfl hl.1 rfl (Nat.le_of_ble_eq_true rfl) ⟨Nat.le_of_ble_eq_true rfl, Nat.le_of_ble_eq_true rfl⟩ dX6_tablePart_61 (fun r61 σ61 H locs eσ61 er61 br61 hE61 h => ?_)
        have hE61 : ((gi σ61 11).toInt = (gi σ 11).toInt) ∧ ((gi σ 13).toInt ≤ (gi σ61 13).toInt) ∧ (PFr σ σ61) ∧ (0 ≤ (gi σ61 11).toInt ∧ (gi σ61 11).toInt ≤ 900) ∧ (0 ≤ (gi σ61 14).toInt ∧ (gi σ61 14).toInt ≤ (gi σ61 11).toInt) ∧ (0 ≤ (gi σ61 13).toInt ∧ (gi σ61 13).toInt ≤ (gi σ61 14).toInt) ∧ (Hd (¬ (gi σ61 12).toInt = 0 → (gi σ61 13).toInt < (gi σ61 14).toInt)) ∧ (0 ≤ (ga σ61 0 (2000 : Int32)).toInt ∧ (ga σ61 0 (2000 : Int32)).toInt ≤ 6) ∧ (0 ≤ (ga σ61 0 (2002 : Int32)).toInt ∧ (ga σ61 0 (2002 : Int32)).toInt ≤ 16) ∧ (SL σ61 2000) ∧ (DP σ61) := hE61
        obtain ⟨hsm_61, hmo_61, hFR_61, hsz_61, hen_61, hfr_61, htk_61, hNP_61, hND_61, hSN_61, hDP_61⟩ := hE61
        have hNEW : (0 ≤ (gi σ61 11).toInt ∧ (gi σ61 11).toInt ≤ 900) ∧ (0 ≤ (gi σ61 14).toInt ∧ (gi σ61 14).toInt ≤ (gi σ61 11).toInt) ∧ (0 ≤ (gi σ61 13).toInt ∧ (gi σ61 13).toInt ≤ (gi σ61 14).toInt) ∧ (Hd (¬ (gi σ61 12).toInt = 0 → (gi σ61 13).toInt < (gi σ61 14).toInt)) ∧ (0 ≤ (ga σ61 0 (2000 : Int32)).toInt ∧ (ga σ61 0 (2000 : Int32)).toInt ≤ 6) ∧ (0 ≤ (ga σ61 0 (2002 : Int32)).toInt ∧ (ga σ61 0 (2002 : Int32)).toInt ≤ 16) ∧ (SL σ61 2000) ∧ (DP σ61) ∧ ((gi σ61 11).toInt = (gi σ 11).toInt) ∧ ((gi σ 13).toInt ≤ (gi σ61 13).toInt) ∧ (PFr σ σ61) := ⟨(by first | assumption | omega), (by first | assumption | omega), (by first | assumption | omega), (by first | assumption | omega), (hNP_61), (hND_61), (hSN_61), (hDP_61), (by first | assumption | omega), (by first | assumption | omega), (Fr.tr hFR hFR_61)⟩
        obtain ⟨hsz, hen, hfr, htk, hNP, hND, hSN, hDP, hsm, hmo, hFR⟩ := hNEW
        clear hsm_61 hmo_61 hsz_61 hen_61 hfr_61 htk_61
        refine lv_istore_n (lv' := [(1, .int r61), (0, .ref (g.2.1 99))]) hx hb dX6_tablePart_64 rfl hl (by decide) rfl (fun ls hl => ?_)
        refine lv_goto (tgt := 100) hx hb dX6_tablePart_65 (by decide) ?_
        refine lv_iload_n hx hb dX6_tablePart_100 rfl (lv_at hl 0 rfl) ?_
        refine lv_if_eq (tgt := 117) hx hb dX6_tablePart_101 (by decide) (fun c101 => ?_) (fun c101 => ?_)
        · have i101 := c_eq c101
          refine lv_iconst (v := 0) hx hb dX6_tablePart_117 (by decide) ?_
          have he : f_X6_tablePart σ = (σ61, (0 : Int32)) := (by have er3 := er3.symm; subst er3; have eσ61 := eσ61.symm; subst eσ61; have er61 := er61.symm; subst er61; exact ((if_neg c6_0).trans ((if_neg c6_1).trans ((if_pos c6_2).trans ((if_pos c101).trans rfl)))))
          exact M_retz C h hr hlocks (congrArg Prod.fst he) (congrArg Prod.snd he) (Or.inl rfl) ⟨hsm, hmo, hFR, (by first | assumption | omega | (unfold Hd; omega)), (by first | assumption | omega | (unfold Hd; omega)), (by first | assumption | omega | (unfold Hd; omega)), (by first | assumption | omega | (unfold Hd; omega)), (by first | assumption | omega | (unfold Hd; omega)), (by first | assumption | omega | (unfold Hd; omega)), (by first | assumption | omega | (unfold Hd; omega)), (by first | assumption | omega | (unfold Hd; omega)), (by first | exact (fun q => absurd zl0 q) | exact (fun q => absurd fz_96 q) | exact (fun _ => by have q := wp_107 (by omega); omega))⟩ dX6_tablePart_118
        · have i101 := c_ne c101
          refine lv_aload_n hx hb dX6_tablePart_104 rfl (lv_at hl 1 rfl) ?_
          refine lv_bipush (v := 59) hx hb dX6_tablePart_105 (by decide) ?_
          refine M_callz (As := [.int (59 : Int32)]) (rest := []) 1 C h (k_X6_wantSign l g σ61 (59 : Int32) (by first | assumption | omega) (by first | assumption | omega) (by first | assumption | omega) (by first | assumption | omega)) (lw_V q1794 q1796 qs88 q152 q1797) rfl rfl (by decide +kernel) ⟨Nat.le_of_ble_eq_true rfl, Nat.le_of_ble_eq_true rfl⟩ rfl hl.1 rfl (Nat.le_of_ble_eq_true rfl) ⟨Nat.le_of_ble_eq_true rfl, Nat.le_of_ble_eq_true rfl⟩ dX6_tablePart_107 (fun r107 σ107 H locs eσ107 er107 br107 hE107 h => ?_)
          have hE107 : (∀ j : Int32, ga σ107 0 j = ga σ61 0 j) ∧ ((gi σ107 11).toInt = (gi σ61 11).toInt) ∧ ((gi σ61 13).toInt ≤ (gi σ107 13).toInt) ∧ (PFr σ61 σ107) ∧ (0 ≤ (gi σ107 11).toInt ∧ (gi σ107 11).toInt ≤ 900) ∧ (0 ≤ (gi σ107 14).toInt ∧ (gi σ107 14).toInt ≤ (gi σ107 11).toInt) ∧ (0 ≤ (gi σ107 13).toInt ∧ (gi σ107 13).toInt ≤ (gi σ107 14).toInt) ∧ (Hd (¬ (gi σ107 12).toInt = 0 → (gi σ107 13).toInt < (gi σ107 14).toInt)) ∧ (Hd (¬ r107.toInt = 0 → (gi σ61 13).toInt < (gi σ107 13).toInt)) := hE107
          obtain ⟨hA0_107, hsm_107, hmo_107, hFR_107, hsz_107, hen_107, hfr_107, htk_107, wp_107⟩ := hE107
          have hNEW : (0 ≤ (gi σ107 11).toInt ∧ (gi σ107 11).toInt ≤ 900) ∧ (0 ≤ (gi σ107 14).toInt ∧ (gi σ107 14).toInt ≤ (gi σ107 11).toInt) ∧ (0 ≤ (gi σ107 13).toInt ∧ (gi σ107 13).toInt ≤ (gi σ107 14).toInt) ∧ (Hd (¬ (gi σ107 12).toInt = 0 → (gi σ107 13).toInt < (gi σ107 14).toInt)) ∧ (0 ≤ (ga σ107 0 (2000 : Int32)).toInt ∧ (ga σ107 0 (2000 : Int32)).toInt ≤ 6) ∧ (0 ≤ (ga σ107 0 (2002 : Int32)).toInt ∧ (ga σ107 0 (2002 : Int32)).toInt ≤ 16) ∧ (SL σ107 2000) ∧ (DP σ107) ∧ ((gi σ107 11).toInt = (gi σ 11).toInt) ∧ ((gi σ 13).toInt ≤ (gi σ107 13).toInt) ∧ (PFr σ σ107) := ⟨(by first | assumption | omega), (by first | assumption | omega), (by first | assumption | omega), (by first | assumption | omega), (by simp only [hA0_107] <;> exact hNP), (by simp only [hA0_107] <;> exact hND), (SL_A0 hA0_107 hSN), (DP_A0 hA0_107 hDP), (by first | assumption | omega), (by first | assumption | omega), (Fr.tr hFR hFR_107)⟩
          clear hsz hen hfr htk hNP hND hSN hDP hsm hmo hFR
          obtain ⟨hsz, hen, hfr, htk, hNP, hND, hSN, hDP, hsm, hmo, hFR⟩ := hNEW
          clear hsm_107 hmo_107 hsz_107 hen_107 hfr_107 htk_107
          refine lv_if_eq (tgt := 117) hx hb dX6_tablePart_110 (by decide) (fun c110 => ?_) (fun c110 => ?_)
          · have i110 := c_eq c110
            refine lv_iconst (v := 0) hx hb dX6_tablePart_117 (by decide) ?_
            have he : f_X6_tablePart σ = (σ107, (0 : Int32)) := (by have er3 := er3.symm; subst er3; have eσ61 := eσ61.symm; subst eσ61; have er61 := er61.symm; subst er61; have eσ107 := eσ107.symm; subst eσ107; have er107 := er107.symm; subst er107; exact ((if_neg c6_0).trans ((if_neg c6_1).trans ((if_pos c6_2).trans ((if_neg c101).trans ((if_pos c110).trans rfl))))))
            exact M_retz C h hr hlocks (congrArg Prod.fst he) (congrArg Prod.snd he) (Or.inl rfl) ⟨hsm, hmo, hFR, (by first | assumption | omega | (unfold Hd; omega)), (by first | assumption | omega | (unfold Hd; omega)), (by first | assumption | omega | (unfold Hd; omega)), (by first | assumption | omega | (unfold Hd; omega)), (by first | assumption | omega | (unfold Hd; omega)), (by first | assumption | omega | (unfold Hd; omega)), (by first | assumption | omega | (unfold Hd; omega)), (by first | assumption | omega | (unfold Hd; omega)), (by first | exact (fun q => absurd zl0 q) | exact (fun q => absurd fz_96 q) | exact (fun _ => by have q := wp_107 (by omega); omega))⟩ dX6_tablePart_118
          · have i110 := c_ne c110
            refine lv_iconst (v := 1) hx hb dX6_tablePart_113 (by decide) ?_
            refine lv_goto (tgt := 118) hx hb dX6_tablePart_114 (by decide) ?_
            have he : f_X6_tablePart σ = (σ107, (1 : Int32)) := (by have er3 := er3.symm; subst er3; have eσ61 := eσ61.symm; subst eσ61; have er61 := er61.symm; subst er61; have eσ107 := eσ107.symm; subst eσ107; have er107 := er107.symm; subst er107; exact ((if_neg c6_0).trans ((if_neg c6_1).trans ((if_pos c6_2).trans ((if_neg c101).trans ((if_neg c110).trans rfl))))))
            exact M_retz C h hr hlocks (congrArg Prod.fst he) (congrArg Prod.snd he) (Or.inr rfl) ⟨hsm, hmo, hFR, (by first | assumption | omega | (unfold Hd; omega)), (by first | assumption | omega | (unfold Hd; omega)), (by first | assumption | omega | (unfold Hd; omega)), (by first | assumption | omega | (unfold Hd; omega)), (by first | assumption | omega | (unfold Hd; omega)), (by first | assumption | omega | (unfold Hd; omega)), (by first | assumption | omega | (unfold Hd; omega)), (by first | assumption | omega | (unfold Hd; omega)), (by first | exact (fun q => absurd zl0 q) | exact (fun q => absurd fz_96 q) | exact (fun _ => by have q := wp_107 (by omega); omega))⟩ dX6_tablePart_118
      · have i6_2 := c_ne c6_2
        by_cases c6_3 : r3 = (3 : Int32)
        · refine lv_tableIn (off := 62) (tgt := 68) hx hb dX6_tablePart_6 (by rw [c6_3]; decide) (by rw [c6_3]; decide) (by rw [c6_3]; rfl) (by decide) ?_
          have i6_3 := c_eq c6_3
          refine lv_aload_n hx hb dX6_tablePart_68 rfl (lv_at hl 0 rfl) ?_
          refine M_callz (As := []) (rest := []) 0 C h (k_X6_aDebt l g σ (by first | assumption | omega) (by first | assumption | omega) (by first | assumption | omega) (by first | assumption | omega) (by first | assumption | omega) (by first | assumption | omega) (by first | assumption | omega) (by first | assumption | omega)) (lw_V q1782 q1784 qs85 q152 q1785) rfl rfl (by decide +kernel) ⟨Nat.le_of_ble_eq_true rfl, Nat.le_of_ble_eq_true rfl⟩ rfl hl.1 rfl (Nat.le_of_ble_eq_true rfl) ⟨Nat.le_of_ble_eq_true rfl, Nat.le_of_ble_eq_true rfl⟩ dX6_tablePart_69 (fun r69 σ69 H locs eσ69 er69 br69 hE69 h => ?_)
          have hE69 : ((gi σ69 11).toInt = (gi σ 11).toInt) ∧ ((gi σ 13).toInt ≤ (gi σ69 13).toInt) ∧ (PFr σ σ69) ∧ (0 ≤ (gi σ69 11).toInt ∧ (gi σ69 11).toInt ≤ 900) ∧ (0 ≤ (gi σ69 14).toInt ∧ (gi σ69 14).toInt ≤ (gi σ69 11).toInt) ∧ (0 ≤ (gi σ69 13).toInt ∧ (gi σ69 13).toInt ≤ (gi σ69 14).toInt) ∧ (Hd (¬ (gi σ69 12).toInt = 0 → (gi σ69 13).toInt < (gi σ69 14).toInt)) ∧ (0 ≤ (ga σ69 0 (2000 : Int32)).toInt ∧ (ga σ69 0 (2000 : Int32)).toInt ≤ 6) ∧ (0 ≤ (ga σ69 0 (2002 : Int32)).toInt ∧ (ga σ69 0 (2002 : Int32)).toInt ≤ 16) ∧ (SL σ69 2000) ∧ (DP σ69) := hE69
          obtain ⟨hsm_69, hmo_69, hFR_69, hsz_69, hen_69, hfr_69, htk_69, hNP_69, hND_69, hSN_69, hDP_69⟩ := hE69
          have hNEW : (0 ≤ (gi σ69 11).toInt ∧ (gi σ69 11).toInt ≤ 900) ∧ (0 ≤ (gi σ69 14).toInt ∧ (gi σ69 14).toInt ≤ (gi σ69 11).toInt) ∧ (0 ≤ (gi σ69 13).toInt ∧ (gi σ69 13).toInt ≤ (gi σ69 14).toInt) ∧ (Hd (¬ (gi σ69 12).toInt = 0 → (gi σ69 13).toInt < (gi σ69 14).toInt)) ∧ (0 ≤ (ga σ69 0 (2000 : Int32)).toInt ∧ (ga σ69 0 (2000 : Int32)).toInt ≤ 6) ∧ (0 ≤ (ga σ69 0 (2002 : Int32)).toInt ∧ (ga σ69 0 (2002 : Int32)).toInt ≤ 16) ∧ (SL σ69 2000) ∧ (DP σ69) ∧ ((gi σ69 11).toInt = (gi σ 11).toInt) ∧ ((gi σ 13).toInt ≤ (gi σ69 13).toInt) ∧ (PFr σ σ69) := ⟨(by first | assumption | omega), (by first | assumption | omega), (by first | assumption | omega), (by first | assumption | omega), (hNP_69), (hND_69), (hSN_69), (hDP_69), (by first | assumption | omega), (by first | assumption | omega), (Fr.tr hFR hFR_69)⟩
          obtain ⟨hsz, hen, hfr, htk, hNP, hND, hSN, hDP, hsm, hmo, hFR⟩ := hNEW
          clear hsm_69 hmo_69 hsz_69 hen_69 hfr_69 htk_69
          refine lv_istore_n (lv' := [(1, .int r69), (0, .ref (g.2.1 99))]) hx hb dX6_tablePart_72 rfl hl (by decide) rfl (fun ls hl => ?_)
          refine lv_goto (tgt := 100) hx hb dX6_tablePart_73 (by decide) ?_
          refine lv_iload_n hx hb dX6_tablePart_100 rfl (lv_at hl 0 rfl) ?_
          refine lv_if_eq (tgt := 117) hx hb dX6_tablePart_101 (by decide) (fun c101 => ?_) (fun c101 => ?_)
          · have i101 := c_eq c101
            refine lv_iconst (v := 0) hx hb dX6_tablePart_117 (by decide) ?_
            have he : f_X6_tablePart σ = (σ69, (0 : Int32)) := (by have er3 := er3.symm; subst er3; have eσ69 := eσ69.symm; subst eσ69; have er69 := er69.symm; subst er69; exact ((if_neg c6_0).trans ((if_neg c6_1).trans ((if_neg c6_2).trans ((if_pos c6_3).trans ((if_pos c101).trans rfl))))))
            exact M_retz C h hr hlocks (congrArg Prod.fst he) (congrArg Prod.snd he) (Or.inl rfl) ⟨hsm, hmo, hFR, (by first | assumption | omega | (unfold Hd; omega)), (by first | assumption | omega | (unfold Hd; omega)), (by first | assumption | omega | (unfold Hd; omega)), (by first | assumption | omega | (unfold Hd; omega)), (by first | assumption | omega | (unfold Hd; omega)), (by first | assumption | omega | (unfold Hd; omega)), (by first | assumption | omega | (unfold Hd; omega)), (by first | assumption | omega | (unfold Hd; omega)), (by first | exact (fun q => absurd zl0 q) | exact (fun q => absurd fz_96 q) | exact (fun _ => by have q := wp_107 (by omega); omega))⟩ dX6_tablePart_118
          · have i101 := c_ne c101
            refine lv_aload_n hx hb dX6_tablePart_104 rfl (lv_at hl 1 rfl) ?_
            refine lv_bipush (v := 59) hx hb dX6_tablePart_105 (by decide) ?_
            refine M_callz (As := [.int (59 : Int32)]) (rest := []) 1 C h (k_X6_wantSign l g σ69 (59 : Int32) (by first | assumption | omega) (by first | assumption | omega) (by first | assumption | omega) (by first | assumption | omega)) (lw_V q1794 q1796 qs88 q152 q1797) rfl rfl (by decide +kernel) ⟨Nat.le_of_ble_eq_true rfl, Nat.le_of_ble_eq_true rfl⟩ rfl hl.1 rfl (Nat.le_of_ble_eq_true rfl) ⟨Nat.le_of_ble_eq_true rfl, Nat.le_of_ble_eq_true rfl⟩ dX6_tablePart_107 (fun r107 σ107 H locs eσ107 er107 br107 hE107 h => ?_)
            have hE107 : (∀ j : Int32, ga σ107 0 j = ga σ69 0 j) ∧ ((gi σ107 11).toInt = (gi σ69 11).toInt) ∧ ((gi σ69 13).toInt ≤ (gi σ107 13).toInt) ∧ (PFr σ69 σ107) ∧ (0 ≤ (gi σ107 11).toInt ∧ (gi σ107 11).toInt ≤ 900) ∧ (0 ≤ (gi σ107 14).toInt ∧ (gi σ107 14).toInt ≤ (gi σ107 11).toInt) ∧ (0 ≤ (gi σ107 13).toInt ∧ (gi σ107 13).toInt ≤ (gi σ107 14).toInt) ∧ (Hd (¬ (gi σ107 12).toInt = 0 → (gi σ107 13).toInt < (gi σ107 14).toInt)) ∧ (Hd (¬ r107.toInt = 0 → (gi σ69 13).toInt < (gi σ107 13).toInt)) := hE107
            obtain ⟨hA0_107, hsm_107, hmo_107, hFR_107, hsz_107, hen_107, hfr_107, htk_107, wp_107⟩ := hE107
            have hNEW : (0 ≤ (gi σ107 11).toInt ∧ (gi σ107 11).toInt ≤ 900) ∧ (0 ≤ (gi σ107 14).toInt ∧ (gi σ107 14).toInt ≤ (gi σ107 11).toInt) ∧ (0 ≤ (gi σ107 13).toInt ∧ (gi σ107 13).toInt ≤ (gi σ107 14).toInt) ∧ (Hd (¬ (gi σ107 12).toInt = 0 → (gi σ107 13).toInt < (gi σ107 14).toInt)) ∧ (0 ≤ (ga σ107 0 (2000 : Int32)).toInt ∧ (ga σ107 0 (2000 : Int32)).toInt ≤ 6) ∧ (0 ≤ (ga σ107 0 (2002 : Int32)).toInt ∧ (ga σ107 0 (2002 : Int32)).toInt ≤ 16) ∧ (SL σ107 2000) ∧ (DP σ107) ∧ ((gi σ107 11).toInt = (gi σ 11).toInt) ∧ ((gi σ 13).toInt ≤ (gi σ107 13).toInt) ∧ (PFr σ σ107) := ⟨(by first | assumption | omega), (by first | assumption | omega), (by first | assumption | omega), (by first | assumption | omega), (by simp only [hA0_107] <;> exact hNP), (by simp only [hA0_107] <;> exact hND), (SL_A0 hA0_107 hSN), (DP_A0 hA0_107 hDP), (by first | assumption | omega), (by first | assumption | omega), (Fr.tr hFR hFR_107)⟩
            clear hsz hen hfr htk hNP hND hSN hDP hsm hmo hFR
            obtain ⟨hsz, hen, hfr, htk, hNP, hND, hSN, hDP, hsm, hmo, hFR⟩ := hNEW
            clear hsm_107 hmo_107 hsz_107 hen_107 hfr_107 htk_107
            refine lv_if_eq (tgt := 117) hx hb dX6_tablePart_110 (by decide) (fun c110 => ?_) (fun c110 => ?_)
            · have i110 := c_eq c110
              refine lv_iconst (v := 0) hx hb dX6_tablePart_117 (by decide) ?_
              have he : f_X6_tablePart σ = (σ107, (0 : Int32)) := (by have er3 := er3.symm; subst er3; have eσ69 := eσ69.symm; subst eσ69; have er69 := er69.symm; subst er69; have eσ107 := eσ107.symm; subst eσ107; have er107 := er107.symm; subst er107; exact ((if_neg c6_0).trans ((if_neg c6_1).trans ((if_neg c6_2).trans ((if_pos c6_3).trans ((if_neg c101).trans ((if_pos c110).trans rfl)))))))
              exact M_retz C h hr hlocks (congrArg Prod.fst he) (congrArg Prod.snd he) (Or.inl rfl) ⟨hsm, hmo, hFR, (by first | assumption | omega | (unfold Hd; omega)), (by first | assumption | omega | (unfold Hd; omega)), (by first | assumption | omega | (unfold Hd; omega)), (by first | assumption | omega | (unfold Hd; omega)), (by first | assumption | omega | (unfold Hd; omega)), (by first | assumption | omega | (unfold Hd; omega)), (by first | assumption | omega | (unfold Hd; omega)), (by first | assumption | omega | (unfold Hd; omega)), (by first | exact (fun q => absurd zl0 q) | exact (fun q => absurd fz_96 q) | exact (fun _ => by have q := wp_107 (by omega); omega))⟩ dX6_tablePart_118
            · have i110 := c_ne c110
              refine lv_iconst (v := 1) hx hb dX6_tablePart_113 (by decide) ?_
              refine lv_goto (tgt := 118) hx hb dX6_tablePart_114 (by decide) ?_
              have he : f_X6_tablePart σ = (σ107, (1 : Int32)) := (by have er3 := er3.symm; subst er3; have eσ69 := eσ69.symm; subst eσ69; have er69 := er69.symm; subst er69; have eσ107 := eσ107.symm; subst eσ107; have er107 := er107.symm; subst er107; exact ((if_neg c6_0).trans ((if_neg c6_1).trans ((if_neg c6_2).trans ((if_pos c6_3).trans ((if_neg c101).trans ((if_neg c110).trans rfl)))))))
              exact M_retz C h hr hlocks (congrArg Prod.fst he) (congrArg Prod.snd he) (Or.inr rfl) ⟨hsm, hmo, hFR, (by first | assumption | omega | (unfold Hd; omega)), (by first | assumption | omega | (unfold Hd; omega)), (by first | assumption | omega | (unfold Hd; omega)), (by first | assumption | omega | (unfold Hd; omega)), (by first | assumption | omega | (unfold Hd; omega)), (by first | assumption | omega | (unfold Hd; omega)), (by first | assumption | omega | (unfold Hd; omega)), (by first | assumption | omega | (unfold Hd; omega)), (by first | exact (fun q => absurd zl0 q) | exact (fun q => absurd fz_96 q) | exact (fun _ => by have q := wp_107 (by omega); omega))⟩ dX6_tablePart_118
        · have i6_3 := c_ne c6_3
          by_cases c6_4 : r3 = (4 : Int32)
          · refine lv_tableIn (off := 70) (tgt := 76) hx hb dX6_tablePart_6 (by rw [c6_4]; decide) (by rw [c6_4]; decide) (by rw [c6_4]; rfl) (by decide) ?_
            have i6_4 := c_eq c6_4
            refine lv_aload_n hx hb dX6_tablePart_76 rfl (lv_at hl 0 rfl) ?_
            refine lv_iconst (v := 4) hx hb dX6_tablePart_77 (by decide) ?_
            refine M_callz (As := [.int (4 : Int32)]) (rest := []) 1 C h (k_X6_once l g σ (4 : Int32) (by first | assumption | omega) (by first | assumption | omega) (by first | assumption | omega) (by first | assumption | omega) (by first | assumption | omega) (by first | assumption | omega) (by first | assumption | omega) (by first | assumption | omega)) (lw_V q1790 q1792 qs87 q152 q1793) rfl rfl (by decide +kernel) ⟨Nat.le_of_ble_eq_true rfl, Nat.le_of_ble_eq_true rfl⟩ rfl hl.1 rfl (Nat.le_of_ble_eq_true rfl) ⟨Nat.le_of_ble_eq_true rfl, Nat.le_of_ble_eq_true rfl⟩ dX6_tablePart_78 (fun r78 σ78 H locs eσ78 er78 br78 hE78 h => ?_)
            have hE78 : ((gi σ78 11).toInt = (gi σ 11).toInt) ∧ ((gi σ 13).toInt ≤ (gi σ78 13).toInt) ∧ (PFr σ σ78) ∧ (0 ≤ (gi σ78 11).toInt ∧ (gi σ78 11).toInt ≤ 900) ∧ (0 ≤ (gi σ78 14).toInt ∧ (gi σ78 14).toInt ≤ (gi σ78 11).toInt) ∧ (0 ≤ (gi σ78 13).toInt ∧ (gi σ78 13).toInt ≤ (gi σ78 14).toInt) ∧ (Hd (¬ (gi σ78 12).toInt = 0 → (gi σ78 13).toInt < (gi σ78 14).toInt)) ∧ (0 ≤ (ga σ78 0 (2000 : Int32)).toInt ∧ (ga σ78 0 (2000 : Int32)).toInt ≤ 6) ∧ (0 ≤ (ga σ78 0 (2002 : Int32)).toInt ∧ (ga σ78 0 (2002 : Int32)).toInt ≤ 16) ∧ (SL σ78 2000) ∧ (DP σ78) := hE78
            obtain ⟨hsm_78, hmo_78, hFR_78, hsz_78, hen_78, hfr_78, htk_78, hNP_78, hND_78, hSN_78, hDP_78⟩ := hE78
            have hNEW : (0 ≤ (gi σ78 11).toInt ∧ (gi σ78 11).toInt ≤ 900) ∧ (0 ≤ (gi σ78 14).toInt ∧ (gi σ78 14).toInt ≤ (gi σ78 11).toInt) ∧ (0 ≤ (gi σ78 13).toInt ∧ (gi σ78 13).toInt ≤ (gi σ78 14).toInt) ∧ (Hd (¬ (gi σ78 12).toInt = 0 → (gi σ78 13).toInt < (gi σ78 14).toInt)) ∧ (0 ≤ (ga σ78 0 (2000 : Int32)).toInt ∧ (ga σ78 0 (2000 : Int32)).toInt ≤ 6) ∧ (0 ≤ (ga σ78 0 (2002 : Int32)).toInt ∧ (ga σ78 0 (2002 : Int32)).toInt ≤ 16) ∧ (SL σ78 2000) ∧ (DP σ78) ∧ ((gi σ78 11).toInt = (gi σ 11).toInt) ∧ ((gi σ 13).toInt ≤ (gi σ78 13).toInt) ∧ (PFr σ σ78) := ⟨(by first | assumption | omega), (by first | assumption | omega), (by first | assumption | omega), (by first | assumption | omega), (hNP_78), (hND_78), (hSN_78), (hDP_78), (by first | assumption | omega), (by first | assumption | omega), (Fr.tr hFR hFR_78)⟩
            obtain ⟨hsz, hen, hfr, htk, hNP, hND, hSN, hDP, hsm, hmo, hFR⟩ := hNEW
            clear hsm_78 hmo_78 hsz_78 hen_78 hfr_78 htk_78
            refine lv_istore_n (lv' := [(1, .int r78), (0, .ref (g.2.1 99))]) hx hb dX6_tablePart_81 rfl hl (by decide) rfl (fun ls hl => ?_)
            refine lv_goto (tgt := 100) hx hb dX6_tablePart_82 (by decide) ?_
            refine lv_iload_n hx hb dX6_tablePart_100 rfl (lv_at hl 0 rfl) ?_
            refine lv_if_eq (tgt := 117) hx hb dX6_tablePart_101 (by decide) (fun c101 => ?_) (fun c101 => ?_)
            · have i101 := c_eq c101
              refine lv_iconst (v := 0) hx hb dX6_tablePart_117 (by decide) ?_
              have he : f_X6_tablePart σ = (σ78, (0 : Int32)) := (by have er3 := er3.symm; subst er3; have eσ78 := eσ78.symm; subst eσ78; have er78 := er78.symm; subst er78; exact ((if_neg c6_0).trans ((if_neg c6_1).trans ((if_neg c6_2).trans ((if_neg c6_3).trans ((if_pos c6_4).trans ((if_pos c101).trans rfl)))))))
              exact M_retz C h hr hlocks (congrArg Prod.fst he) (congrArg Prod.snd he) (Or.inl rfl) ⟨hsm, hmo, hFR, (by first | assumption | omega | (unfold Hd; omega)), (by first | assumption | omega | (unfold Hd; omega)), (by first | assumption | omega | (unfold Hd; omega)), (by first | assumption | omega | (unfold Hd; omega)), (by first | assumption | omega | (unfold Hd; omega)), (by first | assumption | omega | (unfold Hd; omega)), (by first | assumption | omega | (unfold Hd; omega)), (by first | assumption | omega | (unfold Hd; omega)), (by first | exact (fun q => absurd zl0 q) | exact (fun q => absurd fz_96 q) | exact (fun _ => by have q := wp_107 (by omega); omega))⟩ dX6_tablePart_118
            · have i101 := c_ne c101
              refine lv_aload_n hx hb dX6_tablePart_104 rfl (lv_at hl 1 rfl) ?_
              refine lv_bipush (v := 59) hx hb dX6_tablePart_105 (by decide) ?_
              refine M_callz (As := [.int (59 : Int32)]) (rest := []) 1 C h (k_X6_wantSign l g σ78 (59 : Int32) (by first | assumption | omega) (by first | assumption | omega) (by first | assumption | omega) (by first | assumption | omega)) (lw_V q1794 q1796 qs88 q152 q1797) rfl rfl (by decide +kernel) ⟨Nat.le_of_ble_eq_true rfl, Nat.le_of_ble_eq_true rfl⟩ rfl hl.1 rfl (Nat.le_of_ble_eq_true rfl) ⟨Nat.le_of_ble_eq_true rfl, Nat.le_of_ble_eq_true rfl⟩ dX6_tablePart_107 (fun r107 σ107 H locs eσ107 er107 br107 hE107 h => ?_)
              have hE107 : (∀ j : Int32, ga σ107 0 j = ga σ78 0 j) ∧ ((gi σ107 11).toInt = (gi σ78 11).toInt) ∧ ((gi σ78 13).toInt ≤ (gi σ107 13).toInt) ∧ (PFr σ78 σ107) ∧ (0 ≤ (gi σ107 11).toInt ∧ (gi σ107 11).toInt ≤ 900) ∧ (0 ≤ (gi σ107 14).toInt ∧ (gi σ107 14).toInt ≤ (gi σ107 11).toInt) ∧ (0 ≤ (gi σ107 13).toInt ∧ (gi σ107 13).toInt ≤ (gi σ107 14).toInt) ∧ (Hd (¬ (gi σ107 12).toInt = 0 → (gi σ107 13).toInt < (gi σ107 14).toInt)) ∧ (Hd (¬ r107.toInt = 0 → (gi σ78 13).toInt < (gi σ107 13).toInt)) := hE107
              obtain ⟨hA0_107, hsm_107, hmo_107, hFR_107, hsz_107, hen_107, hfr_107, htk_107, wp_107⟩ := hE107
              have hNEW : (0 ≤ (gi σ107 11).toInt ∧ (gi σ107 11).toInt ≤ 900) ∧ (0 ≤ (gi σ107 14).toInt ∧ (gi σ107 14).toInt ≤ (gi σ107 11).toInt) ∧ (0 ≤ (gi σ107 13).toInt ∧ (gi σ107 13).toInt ≤ (gi σ107 14).toInt) ∧ (Hd (¬ (gi σ107 12).toInt = 0 → (gi σ107 13).toInt < (gi σ107 14).toInt)) ∧ (0 ≤ (ga σ107 0 (2000 : Int32)).toInt ∧ (ga σ107 0 (2000 : Int32)).toInt ≤ 6) ∧ (0 ≤ (ga σ107 0 (2002 : Int32)).toInt ∧ (ga σ107 0 (2002 : Int32)).toInt ≤ 16) ∧ (SL σ107 2000) ∧ (DP σ107) ∧ ((gi σ107 11).toInt = (gi σ 11).toInt) ∧ ((gi σ 13).toInt ≤ (gi σ107 13).toInt) ∧ (PFr σ σ107) := ⟨(by first | assumption | omega), (by first | assumption | omega), (by first | assumption | omega), (by first | assumption | omega), (by simp only [hA0_107] <;> exact hNP), (by simp only [hA0_107] <;> exact hND), (SL_A0 hA0_107 hSN), (DP_A0 hA0_107 hDP), (by first | assumption | omega), (by first | assumption | omega), (Fr.tr hFR hFR_107)⟩
              clear hsz hen hfr htk hNP hND hSN hDP hsm hmo hFR
              obtain ⟨hsz, hen, hfr, htk, hNP, hND, hSN, hDP, hsm, hmo, hFR⟩ := hNEW
              clear hsm_107 hmo_107 hsz_107 hen_107 hfr_107 htk_107
              refine lv_if_eq (tgt := 117) hx hb dX6_tablePart_110 (by decide) (fun c110 => ?_) (fun c110 => ?_)
              · have i110 := c_eq c110
                refine lv_iconst (v := 0) hx hb dX6_tablePart_117 (by decide) ?_
                have he : f_X6_tablePart σ = (σ107, (0 : Int32)) := (by have er3 := er3.symm; subst er3; have eσ78 := eσ78.symm; subst eσ78; have er78 := er78.symm; subst er78; have eσ107 := eσ107.symm; subst eσ107; have er107 := er107.symm; subst er107; exact ((if_neg c6_0).trans ((if_neg c6_1).trans ((if_neg c6_2).trans ((if_neg c6_3).trans ((if_pos c6_4).trans ((if_neg c101).trans ((if_pos c110).trans rfl))))))))
                exact M_retz C h hr hlocks (congrArg Prod.fst he) (congrArg Prod.snd he) (Or.inl rfl) ⟨hsm, hmo, hFR, (by first | assumption | omega | (unfold Hd; omega)), (by first | assumption | omega | (unfold Hd; omega)), (by first | assumption | omega | (unfold Hd; omega)), (by first | assumption | omega | (unfold Hd; omega)), (by first | assumption | omega | (unfold Hd; omega)), (by first | assumption | omega | (unfold Hd; omega)), (by first | assumption | omega | (unfold Hd; omega)), (by first | assumption | omega | (unfold Hd; omega)), (by first | exact (fun q => absurd zl0 q) | exact (fun q => absurd fz_96 q) | exact (fun _ => by have q := wp_107 (by omega); omega))⟩ dX6_tablePart_118
              · have i110 := c_ne c110
                refine lv_iconst (v := 1) hx hb dX6_tablePart_113 (by decide) ?_
                refine lv_goto (tgt := 118) hx hb dX6_tablePart_114 (by decide) ?_
                have he : f_X6_tablePart σ = (σ107, (1 : Int32)) := (by have er3 := er3.symm; subst er3; have eσ78 := eσ78.symm; subst eσ78; have er78 := er78.symm; subst er78; have eσ107 := eσ107.symm; subst eσ107; have er107 := er107.symm; subst er107; exact ((if_neg c6_0).trans ((if_neg c6_1).trans ((if_neg c6_2).trans ((if_neg c6_3).trans ((if_pos c6_4).trans ((if_neg c101).trans ((if_neg c110).trans rfl))))))))
                exact M_retz C h hr hlocks (congrArg Prod.fst he) (congrArg Prod.snd he) (Or.inr rfl) ⟨hsm, hmo, hFR, (by first | assumption | omega | (unfold Hd; omega)), (by first | assumption | omega | (unfold Hd; omega)), (by first | assumption | omega | (unfold Hd; omega)), (by first | assumption | omega | (unfold Hd; omega)), (by first | assumption | omega | (unfold Hd; omega)), (by first | assumption | omega | (unfold Hd; omega)), (by first | assumption | omega | (unfold Hd; omega)), (by first | assumption | omega | (unfold Hd; omega)), (by first | exact (fun q => absurd zl0 q) | exact (fun q => absurd fz_96 q) | exact (fun _ => by have q := wp_107 (by omega); omega))⟩ dX6_tablePart_118
          · have i6_4 := c_ne c6_4
            by_cases c6_5 : r3 = (5 : Int32)
            · refine lv_tableIn (off := 79) (tgt := 85) hx hb dX6_tablePart_6 (by rw [c6_5]; decide) (by rw [c6_5]; decide) (by rw [c6_5]; rfl) (by decide) ?_
              have i6_5 := c_eq c6_5
              refine lv_aload_n hx hb dX6_tablePart_85 rfl (lv_at hl 0 rfl) ?_
              refine lv_iconst (v := 5) hx hb dX6_tablePart_86 (by decide) ?_
              refine M_callz (As := [.int (5 : Int32)]) (rest := []) 1 C h (k_X6_once l g σ (5 : Int32) (by first | assumption | omega) (by first | assumption | omega) (by first | assumption | omega) (by first | assumption | omega) (by first | assumption | omega) (by first | assumption | omega) (by first | assumption | omega) (by first | assumption | omega)) (lw_V q1790 q1792 qs87 q152 q1793) rfl rfl (by decide +kernel) ⟨Nat.le_of_ble_eq_true rfl, Nat.le_of_ble_eq_true rfl⟩ rfl hl.1 rfl (Nat.le_of_ble_eq_true rfl) ⟨Nat.le_of_ble_eq_true rfl, Nat.le_of_ble_eq_true rfl⟩ dX6_tablePart_87 (fun r87 σ87 H locs eσ87 er87 br87 hE87 h => ?_)
              have hE87 : ((gi σ87 11).toInt = (gi σ 11).toInt) ∧ ((gi σ 13).toInt ≤ (gi σ87 13).toInt) ∧ (PFr σ σ87) ∧ (0 ≤ (gi σ87 11).toInt ∧ (gi σ87 11).toInt ≤ 900) ∧ (0 ≤ (gi σ87 14).toInt ∧ (gi σ87 14).toInt ≤ (gi σ87 11).toInt) ∧ (0 ≤ (gi σ87 13).toInt ∧ (gi σ87 13).toInt ≤ (gi σ87 14).toInt) ∧ (Hd (¬ (gi σ87 12).toInt = 0 → (gi σ87 13).toInt < (gi σ87 14).toInt)) ∧ (0 ≤ (ga σ87 0 (2000 : Int32)).toInt ∧ (ga σ87 0 (2000 : Int32)).toInt ≤ 6) ∧ (0 ≤ (ga σ87 0 (2002 : Int32)).toInt ∧ (ga σ87 0 (2002 : Int32)).toInt ≤ 16) ∧ (SL σ87 2000) ∧ (DP σ87) := hE87
              obtain ⟨hsm_87, hmo_87, hFR_87, hsz_87, hen_87, hfr_87, htk_87, hNP_87, hND_87, hSN_87, hDP_87⟩ := hE87
              have hNEW : (0 ≤ (gi σ87 11).toInt ∧ (gi σ87 11).toInt ≤ 900) ∧ (0 ≤ (gi σ87 14).toInt ∧ (gi σ87 14).toInt ≤ (gi σ87 11).toInt) ∧ (0 ≤ (gi σ87 13).toInt ∧ (gi σ87 13).toInt ≤ (gi σ87 14).toInt) ∧ (Hd (¬ (gi σ87 12).toInt = 0 → (gi σ87 13).toInt < (gi σ87 14).toInt)) ∧ (0 ≤ (ga σ87 0 (2000 : Int32)).toInt ∧ (ga σ87 0 (2000 : Int32)).toInt ≤ 6) ∧ (0 ≤ (ga σ87 0 (2002 : Int32)).toInt ∧ (ga σ87 0 (2002 : Int32)).toInt ≤ 16) ∧ (SL σ87 2000) ∧ (DP σ87) ∧ ((gi σ87 11).toInt = (gi σ 11).toInt) ∧ ((gi σ 13).toInt ≤ (gi σ87 13).toInt) ∧ (PFr σ σ87) := ⟨(by first | assumption | omega), (by first | assumption | omega), (by first | assumption | omega), (by first | assumption | omega), (hNP_87), (hND_87), (hSN_87), (hDP_87), (by first | assumption | omega), (by first | assumption | omega), (Fr.tr hFR hFR_87)⟩
              obtain ⟨hsz, hen, hfr, htk, hNP, hND, hSN, hDP, hsm, hmo, hFR⟩ := hNEW
              clear hsm_87 hmo_87 hsz_87 hen_87 hfr_87 htk_87
              refine lv_istore_n (lv' := [(1, .int r87), (0, .ref (g.2.1 99))]) hx hb dX6_tablePart_90 rfl hl (by decide) rfl (fun ls hl => ?_)
              refine lv_goto (tgt := 100) hx hb dX6_tablePart_91 (by decide) ?_
              refine lv_iload_n hx hb dX6_tablePart_100 rfl (lv_at hl 0 rfl) ?_
              refine lv_if_eq (tgt := 117) hx hb dX6_tablePart_101 (by decide) (fun c101 => ?_) (fun c101 => ?_)
              · have i101 := c_eq c101
                refine lv_iconst (v := 0) hx hb dX6_tablePart_117 (by decide) ?_
                have he : f_X6_tablePart σ = (σ87, (0 : Int32)) := (by have er3 := er3.symm; subst er3; have eσ87 := eσ87.symm; subst eσ87; have er87 := er87.symm; subst er87; exact ((if_neg c6_0).trans ((if_neg c6_1).trans ((if_neg c6_2).trans ((if_neg c6_3).trans ((if_neg c6_4).trans ((if_pos c6_5).trans ((if_pos c101).trans rfl))))))))
                exact M_retz C h hr hlocks (congrArg Prod.fst he) (congrArg Prod.snd he) (Or.inl rfl) ⟨hsm, hmo, hFR, (by first | assumption | omega | (unfold Hd; omega)), (by first | assumption | omega | (unfold Hd; omega)), (by first | assumption | omega | (unfold Hd; omega)), (by first | assumption | omega | (unfold Hd; omega)), (by first | assumption | omega | (unfold Hd; omega)), (by first | assumption | omega | (unfold Hd; omega)), (by first | assumption | omega | (unfold Hd; omega)), (by first | assumption | omega | (unfold Hd; omega)), (by first | exact (fun q => absurd zl0 q) | exact (fun q => absurd fz_96 q) | exact (fun _ => by have q := wp_107 (by omega); omega))⟩ dX6_tablePart_118
              · have i101 := c_ne c101
                refine lv_aload_n hx hb dX6_tablePart_104 rfl (lv_at hl 1 rfl) ?_
                refine lv_bipush (v := 59) hx hb dX6_tablePart_105 (by decide) ?_
                refine M_callz (As := [.int (59 : Int32)]) (rest := []) 1 C h (k_X6_wantSign l g σ87 (59 : Int32) (by first | assumption | omega) (by first | assumption | omega) (by first | assumption | omega) (by first | assumption | omega)) (lw_V q1794 q1796 qs88 q152 q1797) rfl rfl (by decide +kernel) ⟨Nat.le_of_ble_eq_true rfl, Nat.le_of_ble_eq_true rfl⟩ rfl hl.1 rfl (Nat.le_of_ble_eq_true rfl) ⟨Nat.le_of_ble_eq_true rfl, Nat.le_of_ble_eq_true rfl⟩ dX6_tablePart_107 (fun r107 σ107 H locs eσ107 er107 br107 hE107 h => ?_)
                have hE107 : (∀ j : Int32, ga σ107 0 j = ga σ87 0 j) ∧ ((gi σ107 11).toInt = (gi σ87 11).toInt) ∧ ((gi σ87 13).toInt ≤ (gi σ107 13).toInt) ∧ (PFr σ87 σ107) ∧ (0 ≤ (gi σ107 11).toInt ∧ (gi σ107 11).toInt ≤ 900) ∧ (0 ≤ (gi σ107 14).toInt ∧ (gi σ107 14).toInt ≤ (gi σ107 11).toInt) ∧ (0 ≤ (gi σ107 13).toInt ∧ (gi σ107 13).toInt ≤ (gi σ107 14).toInt) ∧ (Hd (¬ (gi σ107 12).toInt = 0 → (gi σ107 13).toInt < (gi σ107 14).toInt)) ∧ (Hd (¬ r107.toInt = 0 → (gi σ87 13).toInt < (gi σ107 13).toInt)) := hE107
                obtain ⟨hA0_107, hsm_107, hmo_107, hFR_107, hsz_107, hen_107, hfr_107, htk_107, wp_107⟩ := hE107
                have hNEW : (0 ≤ (gi σ107 11).toInt ∧ (gi σ107 11).toInt ≤ 900) ∧ (0 ≤ (gi σ107 14).toInt ∧ (gi σ107 14).toInt ≤ (gi σ107 11).toInt) ∧ (0 ≤ (gi σ107 13).toInt ∧ (gi σ107 13).toInt ≤ (gi σ107 14).toInt) ∧ (Hd (¬ (gi σ107 12).toInt = 0 → (gi σ107 13).toInt < (gi σ107 14).toInt)) ∧ (0 ≤ (ga σ107 0 (2000 : Int32)).toInt ∧ (ga σ107 0 (2000 : Int32)).toInt ≤ 6) ∧ (0 ≤ (ga σ107 0 (2002 : Int32)).toInt ∧ (ga σ107 0 (2002 : Int32)).toInt ≤ 16) ∧ (SL σ107 2000) ∧ (DP σ107) ∧ ((gi σ107 11).toInt = (gi σ 11).toInt) ∧ ((gi σ 13).toInt ≤ (gi σ107 13).toInt) ∧ (PFr σ σ107) := ⟨(by first | assumption | omega), (by first | assumption | omega), (by first | assumption | omega), (by first | assumption | omega), (by simp only [hA0_107] <;> exact hNP), (by simp only [hA0_107] <;> exact hND), (SL_A0 hA0_107 hSN), (DP_A0 hA0_107 hDP), (by first | assumption | omega), (by first | assumption | omega), (Fr.tr hFR hFR_107)⟩
                clear hsz hen hfr htk hNP hND hSN hDP hsm hmo hFR
                obtain ⟨hsz, hen, hfr, htk, hNP, hND, hSN, hDP, hsm, hmo, hFR⟩ := hNEW
                clear hsm_107 hmo_107 hsz_107 hen_107 hfr_107 htk_107
                refine lv_if_eq (tgt := 117) hx hb dX6_tablePart_110 (by decide) (fun c110 => ?_) (fun c110 => ?_)
                · have i110 := c_eq c110
                  refine lv_iconst (v := 0) hx hb dX6_tablePart_117 (by decide) ?_
                  have he : f_X6_tablePart σ = (σ107, (0 : Int32)) := (by have er3 := er3.symm; subst er3; have eσ87 := eσ87.symm; subst eσ87; have er87 := er87.symm; subst er87; have eσ107 := eσ107.symm; subst eσ107; have er107 := er107.symm; subst er107; exact ((if_neg c6_0).trans ((if_neg c6_1).trans ((if_neg c6_2).trans ((if_neg c6_3).trans ((if_neg c6_4).trans ((if_pos c6_5).trans ((if_neg c101).trans ((if_pos c110).trans rfl)))))))))
                  exact M_retz C h hr hlocks (congrArg Prod.fst he) (congrArg Prod.snd he) (Or.inl rfl) ⟨hsm, hmo, hFR, (by first | assumption | omega | (unfold Hd; omega)), (by first | assumption | omega | (unfold Hd; omega)), (by first | assumption | omega | (unfold Hd; omega)), (by first | assumption | omega | (unfold Hd; omega)), (by first | assumption | omega | (unfold Hd; omega)), (by first | assumption | omega | (unfold Hd; omega)), (by first | assumption | omega | (unfold Hd; omega)), (by first | assumption | omega | (unfold Hd; omega)), (by first | exact (fun q => absurd zl0 q) | exact (fun q => absurd fz_96 q) | exact (fun _ => by have q := wp_107 (by omega); omega))⟩ dX6_tablePart_118
                · have i110 := c_ne c110
                  refine lv_iconst (v := 1) hx hb dX6_tablePart_113 (by decide) ?_
                  refine lv_goto (tgt := 118) hx hb dX6_tablePart_114 (by decide) ?_
                  have he : f_X6_tablePart σ = (σ107, (1 : Int32)) := (by have er3 := er3.symm; subst er3; have eσ87 := eσ87.symm; subst eσ87; have er87 := er87.symm; subst er87; have eσ107 := eσ107.symm; subst eσ107; have er107 := er107.symm; subst er107; exact ((if_neg c6_0).trans ((if_neg c6_1).trans ((if_neg c6_2).trans ((if_neg c6_3).trans ((if_neg c6_4).trans ((if_pos c6_5).trans ((if_neg c101).trans ((if_neg c110).trans rfl)))))))))
                  exact M_retz C h hr hlocks (congrArg Prod.fst he) (congrArg Prod.snd he) (Or.inr rfl) ⟨hsm, hmo, hFR, (by first | assumption | omega | (unfold Hd; omega)), (by first | assumption | omega | (unfold Hd; omega)), (by first | assumption | omega | (unfold Hd; omega)), (by first | assumption | omega | (unfold Hd; omega)), (by first | assumption | omega | (unfold Hd; omega)), (by first | assumption | omega | (unfold Hd; omega)), (by first | assumption | omega | (unfold Hd; omega)), (by first | assumption | omega | (unfold Hd; omega)), (by first | exact (fun q => absurd zl0 q) | exact (fun q => absurd fz_96 q) | exact (fun _ => by have q := wp_107 (by omega); omega))⟩ dX6_tablePart_118
            · have i6_5 := c_ne c6_5
              refine lv_tableOut (tgt := 94) hx hb dX6_tablePart_6 (by have y0 := c_ne c6_0; rw [show (0 : Int32).toInt = 0 from rfl] at y0; have y1 := c_ne c6_1; rw [show (1 : Int32).toInt = 1 from rfl] at y1; have y2 := c_ne c6_2; rw [show (2 : Int32).toInt = 2 from rfl] at y2; have y3 := c_ne c6_3; rw [show (3 : Int32).toInt = 3 from rfl] at y3; have y4 := c_ne c6_4; rw [show (4 : Int32).toInt = 4 from rfl] at y4; have y5 := c_ne c6_5; rw [show (5 : Int32).toInt = 5 from rfl] at y5; omega) (by decide) ?_
              refine lv_aload_n hx hb dX6_tablePart_94 rfl (lv_at hl 0 rfl) ?_
              refine lv_iconst (v := 2) hx hb dX6_tablePart_95 (by decide) ?_
              refine M_callz (As := [.int (2 : Int32)]) (rest := []) 1 C h (k_X6_fails l g σ (2 : Int32) (by first | assumption | omega) (by first | assumption | omega) (by first | assumption | omega) (by first | assumption | omega)) (lw_V q1742 q1744 qs75 q152 q1745) rfl rfl (by decide +kernel) ⟨Nat.le_of_ble_eq_true rfl, Nat.le_of_ble_eq_true rfl⟩ rfl hl.1 rfl (Nat.le_of_ble_eq_true rfl) ⟨Nat.le_of_ble_eq_true rfl, Nat.le_of_ble_eq_true rfl⟩ dX6_tablePart_96 (fun r96 σ96 H locs eσ96 er96 br96 hE96 h => ?_)
              have hE96 : (∀ j : Int32, ga σ96 0 j = ga σ 0 j) ∧ ((gi σ96 11).toInt = (gi σ 11).toInt) ∧ ((gi σ 13).toInt ≤ (gi σ96 13).toInt) ∧ (PFr σ σ96) ∧ (0 ≤ (gi σ96 11).toInt ∧ (gi σ96 11).toInt ≤ 900) ∧ (0 ≤ (gi σ96 14).toInt ∧ (gi σ96 14).toInt ≤ (gi σ96 11).toInt) ∧ (0 ≤ (gi σ96 13).toInt ∧ (gi σ96 13).toInt ≤ (gi σ96 14).toInt) ∧ (Hd (¬ (gi σ96 12).toInt = 0 → (gi σ96 13).toInt < (gi σ96 14).toInt)) ∧ (r96.toInt = 0) := hE96
              obtain ⟨hA0_96, hsm_96, hmo_96, hFR_96, hsz_96, hen_96, hfr_96, htk_96, fz_96⟩ := hE96
              have hNEW : (0 ≤ (gi σ96 11).toInt ∧ (gi σ96 11).toInt ≤ 900) ∧ (0 ≤ (gi σ96 14).toInt ∧ (gi σ96 14).toInt ≤ (gi σ96 11).toInt) ∧ (0 ≤ (gi σ96 13).toInt ∧ (gi σ96 13).toInt ≤ (gi σ96 14).toInt) ∧ (Hd (¬ (gi σ96 12).toInt = 0 → (gi σ96 13).toInt < (gi σ96 14).toInt)) ∧ (0 ≤ (ga σ96 0 (2000 : Int32)).toInt ∧ (ga σ96 0 (2000 : Int32)).toInt ≤ 6) ∧ (0 ≤ (ga σ96 0 (2002 : Int32)).toInt ∧ (ga σ96 0 (2002 : Int32)).toInt ≤ 16) ∧ (SL σ96 2000) ∧ (DP σ96) ∧ ((gi σ96 11).toInt = (gi σ 11).toInt) ∧ ((gi σ 13).toInt ≤ (gi σ96 13).toInt) ∧ (PFr σ σ96) := ⟨(by first | assumption | omega), (by first | assumption | omega), (by first | assumption | omega), (by first | assumption | omega), (by simp only [hA0_96] <;> exact hNP), (by simp only [hA0_96] <;> exact hND), (SL_A0 hA0_96 hSN), (DP_A0 hA0_96 hDP), (by first | assumption | omega), (by first | assumption | omega), (Fr.tr hFR hFR_96)⟩
              obtain ⟨hsz, hen, hfr, htk, hNP, hND, hSN, hDP, hsm, hmo, hFR⟩ := hNEW
              clear hsm_96 hmo_96 hsz_96 hen_96 hfr_96 htk_96
              have he : f_X6_tablePart σ = (σ96, r96) := (by have er3 := er3.symm; subst er3; have eσ96 := eσ96.symm; subst eσ96; have er96 := er96.symm; subst er96; exact ((if_neg c6_0).trans ((if_neg c6_1).trans ((if_neg c6_2).trans ((if_neg c6_3).trans ((if_neg c6_4).trans ((if_neg c6_5).trans rfl)))))))
              exact M_retz C h hr hlocks (congrArg Prod.fst he) (congrArg Prod.snd he) br96 ⟨hsm, hmo, hFR, (by first | assumption | omega | (unfold Hd; omega)), (by first | assumption | omega | (unfold Hd; omega)), (by first | assumption | omega | (unfold Hd; omega)), (by first | assumption | omega | (unfold Hd; omega)), (by first | assumption | omega | (unfold Hd; omega)), (by first | assumption | omega | (unfold Hd; omega)), (by first | assumption | omega | (unfold Hd; omega)), (by first | assumption | omega | (unfold Hd; omega)), (by first | exact (fun q => absurd zl0 q) | exact (fun q => absurd fz_96 q) | exact (fun _ => by have q := wp_107 (by omega); omega))⟩ dX6_tablePart_99
def f_X6_table_L31 : Nat → Int32 → MS → Int32 × MS
  | 0, x2_31, σL31 => (x2_31, σL31)
  | n + 1, x2_31, σL31 => if x2_31 = (0 : Int32) then ((x2_31, σL31)) else (if (gi σL31 12) = (0 : Int32) then ((x2_31, σL31)) else ((let z43 := (f_X6_tablePart σL31); let σ43 := z43.1; let r43 := z43.2; f_X6_table_L31 n r43 σ43)))
def f_X6_table_L59 : Nat → Int32 → MS → Int32 × MS
  | 0, x3_59, σL59 => (x3_59, σL59)
  | n + 1, x3_59, σL59 => if (500 : Int32) ≤ x3_59 then ((x3_59, σL59)) else ((let σ81 := sa σL59 0 x3_59 (ga σL59 0 ((2000 : Int32) + x3_59)); f_X6_table_L59 n (x3_59 + (1 : Int32)) σ81))
def f_X6_table_L90 : Nat → Int32 → MS → Int32 × MS
  | 0, x3_90, σL90 => (x3_90, σL90)
  | n + 1, x3_90, σL90 => if (6 : Int32) ≤ x3_90 then ((x3_90, σL90)) else ((let σ110 := sb σL90 1 x3_90 (gb σL90 1 ((24 : Int32) + x3_90)); f_X6_table_L90 n (x3_90 + (1 : Int32)) σ110))
def f_X6_table (σ : MS) (p1 : Int32) : MS × Int32 := (let z5 := (f_X6_begins σ p1 (900 : Int32)); let σ5 := z5.1; let r5 := z5.2; if r5 = (0 : Int32) then ((let z13 := (f_X6_refuse σ5 (1 : Int32)); let σ13 := z13.1; let r13 := z13.2; (σ13, r13))) else ((let σ21 := (f_X6_plain σ5 (2000 : Int32)); let σ26 := si σ21 20 (0 : Int32); (let zL31 := f_X6_table_L31 (902) (1 : Int32) σ26; let x2_31e := zL31.1; let σL31e := zL31.2; (let z117_ : MS := (if (gi σL31e 18) = (0 : Int32) then ((let zL59 := f_X6_table_L59 (501) (0 : Int32) σL31e; let x3_59e := zL59.1; let σL59e := zL59.2; (let zL90 := f_X6_table_L90 (7) (0 : Int32) σL59e; let x3_90e := zL90.1; let σL90e := zL90.2; σL90e))) else (σL31e)); let σJ117 := z117_; (let z124 := (f_X6_taken σJ117 (ga σJ117 0 (0 : Int32))); let σ124 := z124.1; let r124 := z124.2; (σ124, r124)))))))
set_option maxHeartbeats 4000000 in
set_option maxRecDepth 100000 in
theorem k_X6_table (l : Launch) (g : GE) (σ : MS) (p1 : Int32) (ht0 : 0 ≤ (gi σ 10).toInt ∧ (gi σ 10).toInt ≤ 900) : Met l yX6_table (ws_ yX6_table cX6_table 4 (some .int)) ({ frames := 10, cells := 0, slots := 0, locals := 221 } : Room) (mPc g σ [.int p1]) (mQi g (f_X6_table σ p1).1 (f_X6_table σ p1).2 (fun u r => (TFr σ u) ∧ (Hd ((gi u 2) = 1 ∨ (SL u 2000 ∧ DP u))))) 0 0 (mA g) := by
  refine met_M (by decide) rfl (Nat.le_of_ble_eq_true rfl) ?_
  intro p e s m args below meth c C hr hlocks h ls hl
  have hx := C.1.1
  have hb := C.1.2.1
  have hml := C.1.2.2.1
  have hown := C.1.2.2.2.1
  have hts := C.1.2.2.2.2
  have hl : lv_has ls 4 [(0, .ref (g.2.1 99)), (1, .int p1)] := hl
  have hTF : TFr σ σ := Fr.rf
  have zl0 : (0 : Int32).toInt = 0 := rfl
  have zl1 : (1 : Int32).toInt = 1 := rfl
  have zl6 : (6 : Int32).toInt = 6 := rfl
  have zl24 : (24 : Int32).toInt = 24 := rfl
  have zl500 : (500 : Int32).toInt = 500 := rfl
  have zl900 : (900 : Int32).toInt = 900 := rfl
  have zl2000 : (2000 : Int32).toInt = 2000 := rfl
  have zl2002 : (2002 : Int32).toInt = 2002 := rfl
  have zl2000 : (2000 : Int32).toInt = 2000 := rfl
  have zl2002 : (2002 : Int32).toInt = 2002 := rfl
  refine lv_aload_n hx hb dX6_table_0 rfl (lv_at hl 0 rfl) ?_
  refine lv_iload_n hx hb dX6_table_1 rfl (lv_at hl 1 rfl) ?_
  refine lv_sipush (v := 900) hx hb dX6_table_2 (by decide) ?_
  refine M_callz (As := [.int p1, .int (900 : Int32)]) (rest := []) 2 C h (k_X6_begins l g σ p1 (900 : Int32) (by first | assumption | omega)) (lw_V q1703 q1705 qs68 q152 q1706) rfl rfl (by decide +kernel) ⟨Nat.le_of_ble_eq_true rfl, Nat.le_of_ble_eq_true rfl⟩ rfl hl.1 rfl (Nat.le_of_ble_eq_true rfl) ⟨Nat.le_of_ble_eq_true rfl, Nat.le_of_ble_eq_true rfl⟩ dX6_table_5 (fun r5 σ5 H locs eσ5 er5 br5 hE5 h => ?_)
  have hE5 : (∀ j : Int32, ga σ5 0 j = ga σ 0 j) ∧ (BFr σ σ5) ∧ (Hd (¬ r5.toInt = 0 → (0 ≤ (gi σ5 11).toInt ∧ (gi σ5 11).toInt ≤ 900) ∧ (0 ≤ (gi σ5 14).toInt ∧ (gi σ5 14).toInt ≤ (gi σ5 11).toInt) ∧ (0 ≤ (gi σ5 13).toInt ∧ (gi σ5 13).toInt ≤ (gi σ5 14).toInt) ∧ Hd (¬ (gi σ5 12).toInt = 0 → (gi σ5 13).toInt < (gi σ5 14).toInt))) := hE5
  obtain ⟨hA0_5, hFB_5, bz_5⟩ := hE5
  have hTF : TFr σ σ5 := (Fr.tr2 hTF hFB_5 (by decide) (by decide) (fun _ q => Or.inr q) (fun _ q => Or.inr q))
  refine lv_if_ne (tgt := 17) hx hb dX6_table_8 (by decide) (fun c8 => ?_) (fun c8 => ?_)
  · have i8 := c_ne c8
    have hsz : 0 ≤ (gi σ5 11).toInt ∧ (gi σ5 11).toInt ≤ 900 := (bz_5 (by omega)).1
    have hen : 0 ≤ (gi σ5 14).toInt ∧ (gi σ5 14).toInt ≤ (gi σ5 11).toInt := (bz_5 (by omega)).2.1
    have hfr : 0 ≤ (gi σ5 13).toInt ∧ (gi σ5 13).toInt ≤ (gi σ5 14).toInt := (bz_5 (by omega)).2.2.1
    have htk : Hd (¬ (gi σ5 12).toInt = 0 → (gi σ5 13).toInt < (gi σ5 14).toInt) := (bz_5 (by omega)).2.2.2
    refine lv_aload_n hx hb dX6_table_17 rfl (lv_at hl 0 rfl) ?_
    refine lv_sipush (v := 2000) hx hb dX6_table_18 (by decide) ?_
    refine M_callv (As := [.int (2000 : Int32)]) (rest := []) 1 C h (k_X6_plain l g σ5 (2000 : Int32) (by first | assumption | omega)) (lw_V q1534 q1536 qs64 q152 q1537) rfl rfl (by decide +kernel) ⟨Nat.le_of_ble_eq_true rfl, Nat.le_of_ble_eq_true rfl⟩ rfl hl.1 rfl (Nat.le_of_ble_eq_true rfl) ⟨Nat.le_of_ble_eq_true rfl, Nat.le_of_ble_eq_true rfl⟩ dX6_table_21 (fun σ21 H locs eσ21 hE21 h => ?_)
    have hE21 : (PLf σ5 σ21 (2000 : Int32).toInt) ∧ (∀ j : Int32, (2000 : Int32).toInt ≤ j.toInt → j.toInt < (2000 : Int32).toInt + 500 → ¬ j.toInt = (2000 : Int32).toInt + 9 → ga σ21 0 j = 0) := hE21
    obtain ⟨hPL_21, pz_21⟩ := hE21
    have hNEW : (TFr σ σ21) ∧ (0 ≤ (gi σ21 11).toInt ∧ (gi σ21 11).toInt ≤ 900) ∧ (0 ≤ (gi σ21 14).toInt ∧ (gi σ21 14).toInt ≤ (gi σ21 11).toInt) ∧ (0 ≤ (gi σ21 13).toInt ∧ (gi σ21 13).toInt ≤ (gi σ21 14).toInt) ∧ (Hd (¬ (gi σ21 12).toInt = 0 → (gi σ21 13).toInt < (gi σ21 14).toInt)) := ⟨(Fr.tr2 hTF (PLf.fr (by omega) hPL_21) (by decide) (by decide) (fun _ q => Or.inr q) (fun _ q => Or.inr q)), (by simp only [hPL_21.1]; exact hsz), (by simp only [hPL_21.1]; exact hen), (by simp only [hPL_21.1]; exact hfr), (by simp only [hPL_21.1]; exact htk)⟩
    clear hTF
    obtain ⟨hTF, hsz, hen, hfr, htk⟩ := hNEW
    have hNP : 0 ≤ (ga σ21 0 (2000 : Int32)).toInt ∧ (ga σ21 0 (2000 : Int32)).toInt ≤ 6 := (by rw [pz_21 2000 (by omega) (by omega) (by omega)]; decide)
    have hND : 0 ≤ (ga σ21 0 (2002 : Int32)).toInt ∧ (ga σ21 0 (2002 : Int32)).toInt ≤ 16 := (by rw [pz_21 2002 (by omega) (by omega) (by omega)]; decide)
    have hSN : SL σ21 2000 := (SL_pz (by omega) pz_21)
    have hDP : DP σ21 := (fun j h0 h1 h2 => absurd h1 (by rw [pz_21 2002 (by omega) (by omega) (by omega)]; omega))
    refine lv_aload_n hx hb dX6_table_24 rfl (lv_at hl 0 rfl) ?_
    refine lv_iconst (v := 0) hx hb dX6_table_25 (by decide) ?_
    refine Mp_20 C h dX6_table_26 (fun σ26 H locs eσ26 h => ?_)
    have hNEW : (TFr σ σ26) ∧ (0 ≤ (gi σ26 11).toInt ∧ (gi σ26 11).toInt ≤ 900) ∧ (0 ≤ (gi σ26 14).toInt ∧ (gi σ26 14).toInt ≤ (gi σ26 11).toInt) ∧ (0 ≤ (gi σ26 13).toInt ∧ (gi σ26 13).toInt ≤ (gi σ26 14).toInt) ∧ (Hd (¬ (gi σ26 12).toInt = 0 → (gi σ26 13).toInt < (gi σ26 14).toInt)) ∧ (0 ≤ (ga σ26 0 (2000 : Int32)).toInt ∧ (ga σ26 0 (2000 : Int32)).toInt ≤ 6) ∧ (0 ≤ (ga σ26 0 (2002 : Int32)).toInt ∧ (ga σ26 0 (2002 : Int32)).toInt ≤ 16) ∧ (SL σ26 2000) ∧ (DP σ26) := ⟨(by rw [eσ26]; exact (Fr_si (by decide) hTF)), (by rw [eσ26] <;> exact hsz), (by rw [eσ26] <;> exact hen), (by rw [eσ26] <;> exact hfr), (by rw [eσ26] <;> exact htk), (by rw [eσ26] <;> exact hNP), (by rw [eσ26] <;> exact hND), (by rw [eσ26] <;> exact hSN), (by rw [eσ26] <;> exact hDP)⟩
    clear hTF hsz hen hfr htk
    obtain ⟨hTF, hsz, hen, hfr, htk, hNP, hND, hSN, hDP⟩ := hNEW
    refine lv_iconst (v := 1) hx hb dX6_table_29 (by decide) ?_
    refine lv_istore_n (lv' := [(2, .int (1 : Int32)), (0, .ref (g.2.1 99)), (1, .int p1)]) hx hb dX6_table_30 rfl hl (by decide) rfl (fun ls hl => ?_)
    have hL31 : ∀ (n : Nat) (x2_31 : Int32) (σL31 : MS) (H : Heap) (locs : List Loc) (ls : Array Slot), (TFr σ σL31) → (0 ≤ (gi σL31 11).toInt ∧ (gi σL31 11).toInt ≤ 900) → (0 ≤ (gi σL31 14).toInt ∧ (gi σL31 14).toInt ≤ (gi σL31 11).toInt) → (0 ≤ (gi σL31 13).toInt ∧ (gi σL31 13).toInt ≤ (gi σL31 14).toInt) → (Hd (¬ (gi σL31 12).toInt = 0 → (gi σL31 13).toInt < (gi σL31 14).toInt)) → (0 ≤ (ga σL31 0 (2000 : Int32)).toInt ∧ (ga σL31 0 (2000 : Int32)).toInt ≤ 6) → (0 ≤ (ga σL31 0 (2002 : Int32)).toInt ∧ (ga σL31 0 (2002 : Int32)).toInt ≤ 16) → (SL σL31 2000) → (DP σL31) → (0 ≤ x2_31.toInt ∧ x2_31.toInt ≤ 1) → ((gi σL31 11).toInt - (gi σL31 13).toInt).toNat + x2_31.toInt.toNat < n → MH g σL31 s H locs → lv_has ls 4 [(0, .ref (g.2.1 99)), (2, .int x2_31)] → (∀ (x2_31' : Int32) (σL31' : MS) (H : Heap) (locs : List Loc) (ls : Array Slot), f_X6_table_L31 n x2_31 σL31 = (x2_31', σL31') → (TFr σ σL31') → (0 ≤ (gi σL31' 11).toInt ∧ (gi σL31' 11).toInt ≤ 900) → (0 ≤ (gi σL31' 14).toInt ∧ (gi σL31' 14).toInt ≤ (gi σL31' 11).toInt) → (0 ≤ (gi σL31' 13).toInt ∧ (gi σL31' 13).toInt ≤ (gi σL31' 14).toInt) → (Hd (¬ (gi σL31' 12).toInt = 0 → (gi σL31' 13).toInt < (gi σL31' 14).toInt)) → (0 ≤ (ga σL31' 0 (2000 : Int32)).toInt ∧ (ga σL31' 0 (2000 : Int32)).toInt ≤ 6) → (0 ≤ (ga σL31' 0 (2002 : Int32)).toInt ∧ (ga σL31' 0 (2002 : Int32)).toInt ≤ 16) → (SL σL31' 2000) → (DP σL31') → (0 ≤ x2_31'.toInt ∧ x2_31'.toInt ≤ 1) → MH g σL31' s H locs → lv_has ls 4 [(0, .ref (g.2.1 99))] → W p l e ({ frames := 10, cells := 0, slots := 0, locals := 221 } : Room) s m args below meth c H locs 0 0 (MQ below (mQi g (f_X6_table σ p1).1 (f_X6_table σ p1).2 (fun u r => (TFr σ u) ∧ (Hd ((gi u 2) = 1 ∨ (SL u 2000 ∧ DP u))))) args s 0 0 (mA g)) (F0 m 50 ls [])) → W p l e ({ frames := 10, cells := 0, slots := 0, locals := 221 } : Room) s m args below meth c H locs 0 0 (MQ below (mQi g (f_X6_table σ p1).1 (f_X6_table σ p1).2 (fun u r => (TFr σ u) ∧ (Hd ((gi u 2) = 1 ∨ (SL u 2000 ∧ DP u))))) args s 0 0 (mA g)) (F0 m 31 ls []) := by
      intro n
      induction n with
      | zero =>
        intro x2_31 σL31 H locs ls hTF hsz hen hfr htk hNP hND hSN hDP _ hm; exact absurd hm (Nat.not_lt_zero _)
      | succ n ih =>
        intro x2_31 σL31 H locs ls hTF hsz hen hfr htk hNP hND hSN hDP hI31 hm h hl kk
        refine lv_iload_n hx hb dX6_table_31 rfl (lv_at hl 1 rfl) ?_
        refine lv_if_eq (tgt := 50) hx hb dX6_table_32 (by decide) (fun c32 => ?_) (fun c32 => ?_)
        · have i32 := c_eq c32
          exact kk x2_31 σL31 _ _ _ (show f_X6_table_L31 (n + 1) x2_31 σL31 = (x2_31, σL31) from (by exact ((if_pos c32).trans rfl))) hTF hsz hen hfr htk hNP hND hSN hDP (by first | assumption | omega) h (lv_sub hl [0] rfl)
        · have i32 := c_ne c32
          refine lv_aload_n hx hb dX6_table_35 rfl (lv_at hl 0 rfl) ?_
          refine Mg_12 C h dX6_table_36 ?_
          refine lv_if_eq (tgt := 50) hx hb dX6_table_39 (by decide) (fun c39 => ?_) (fun c39 => ?_)
          · have i39 := c_eq c39
            exact kk x2_31 σL31 _ _ _ (show f_X6_table_L31 (n + 1) x2_31 σL31 = (x2_31, σL31) from (by exact ((if_neg c32).trans ((if_pos c39).trans rfl)))) hTF hsz hen hfr htk hNP hND hSN hDP (by first | assumption | omega) h (lv_sub hl [0] rfl)
          · have i39 := c_ne c39
            refine lv_aload_n hx hb dX6_table_42 rfl (lv_at hl 0 rfl) ?_
            refine M_callz (As := []) (rest := []) 0 C h (k_X6_tablePart l g σL31 (by first | assumption | omega) (by first | assumption | omega) (by first | assumption | omega) (by first | assumption | omega) (by first | assumption | omega) (by first | assumption | omega) (by first | assumption | omega) (by first | assumption | omega)) (lw_V q1727 q1729 qs72 q152 q1730) rfl rfl (by decide +kernel) ⟨Nat.le_of_ble_eq_true rfl, Nat.le_of_ble_eq_true rfl⟩ rfl hl.1 rfl (Nat.le_of_ble_eq_true rfl) ⟨Nat.le_of_ble_eq_true rfl, Nat.le_of_ble_eq_true rfl⟩ dX6_table_43 (fun r43 σ43 H locs eσ43 er43 br43 hE43 h => ?_)
            have hE43 : ((gi σ43 11).toInt = (gi σL31 11).toInt) ∧ ((gi σL31 13).toInt ≤ (gi σ43 13).toInt) ∧ (PFr σL31 σ43) ∧ (0 ≤ (gi σ43 11).toInt ∧ (gi σ43 11).toInt ≤ 900) ∧ (0 ≤ (gi σ43 14).toInt ∧ (gi σ43 14).toInt ≤ (gi σ43 11).toInt) ∧ (0 ≤ (gi σ43 13).toInt ∧ (gi σ43 13).toInt ≤ (gi σ43 14).toInt) ∧ (Hd (¬ (gi σ43 12).toInt = 0 → (gi σ43 13).toInt < (gi σ43 14).toInt)) ∧ (0 ≤ (ga σ43 0 (2000 : Int32)).toInt ∧ (ga σ43 0 (2000 : Int32)).toInt ≤ 6) ∧ (0 ≤ (ga σ43 0 (2002 : Int32)).toInt ∧ (ga σ43 0 (2002 : Int32)).toInt ≤ 16) ∧ (SL σ43 2000) ∧ (DP σ43) ∧ (Hd (¬ r43.toInt = 0 → (gi σL31 13).toInt < (gi σ43 13).toInt)) := hE43
            obtain ⟨hsm_43, hmo_43, hFR_43, hsz_43, hen_43, hfr_43, htk_43, hNP_43, hND_43, hSN_43, hDP_43, tp_43⟩ := hE43
            have hNEW : (TFr σ σ43) ∧ (0 ≤ (gi σ43 11).toInt ∧ (gi σ43 11).toInt ≤ 900) ∧ (0 ≤ (gi σ43 14).toInt ∧ (gi σ43 14).toInt ≤ (gi σ43 11).toInt) ∧ (0 ≤ (gi σ43 13).toInt ∧ (gi σ43 13).toInt ≤ (gi σ43 14).toInt) ∧ (Hd (¬ (gi σ43 12).toInt = 0 → (gi σ43 13).toInt < (gi σ43 14).toInt)) ∧ (0 ≤ (ga σ43 0 (2000 : Int32)).toInt ∧ (ga σ43 0 (2000 : Int32)).toInt ≤ 6) ∧ (0 ≤ (ga σ43 0 (2002 : Int32)).toInt ∧ (ga σ43 0 (2002 : Int32)).toInt ≤ 16) ∧ (SL σ43 2000) ∧ (DP σ43) := ⟨(Fr.tr2 hTF hFR_43 (by decide) (by decide) (fun _ q => Or.inr q) (fun _ q => Or.inr q)), (by first | assumption | omega), (by first | assumption | omega), (by first | assumption | omega), (by first | assumption | omega), (hNP_43), (hND_43), (hSN_43), (hDP_43)⟩
            obtain ⟨hTF, hsz, hen, hfr, htk, hNP, hND, hSN, hDP⟩ := hNEW
            clear hsz_43 hen_43 hfr_43 htk_43
            refine lv_istore_n (lv' := [(2, .int r43), (0, .ref (g.2.1 99))]) hx hb dX6_table_46 rfl hl (by decide) rfl (fun ls hl => ?_)
            refine lv_goto (tgt := 31) hx hb dX6_table_47 (by decide) ?_
            have w43 : 0 ≤ r43.toInt ∧ r43.toInt ≤ 1 := by rcases br43 with q | q <;> rw [q] <;> decide
            have w44 : r43.toInt = 0 ∨ (gi σL31 13).toInt < (gi σ43 13).toInt := by rcases br43 with q | q; exact Or.inl (by rw [q]; rfl); exact Or.inr (tp_43 (by rw [q]; decide))
            exact ih r43 σ43 _ _ _ hTF hsz hen hfr htk hNP hND hSN hDP (by first | assumption | omega) (by omega) h (lv_sub hl [1, 0] rfl) (fun x2_31' σL31' H locs ls en hTF hsz hen hfr htk hNP hND hSN hDP hI h hl => kk x2_31' σL31' H locs ls ((show f_X6_table_L31 (n + 1) x2_31 σL31 = f_X6_table_L31 n r43 σ43 from (by have eσ43 := eσ43.symm; subst eσ43; have er43 := er43.symm; subst er43; exact ((if_neg c32).trans ((if_neg c39).trans rfl)))).trans en) hTF hsz hen hfr htk hNP hND hSN hDP hI h hl)
    refine hL31 (902) (1 : Int32) σ26 _ _ _ hTF hsz hen hfr htk hNP hND hSN hDP (by first | assumption | omega) (by omega) h (lv_sub hl [1, 0] rfl) (fun x2_31e σL31e H locs ls eL31 hTF hsz hen hfr htk hNP hND hSN hDP hI31 h hl => ?_)
    have ex2_31e : x2_31e = (f_X6_table_L31 (902) (1 : Int32) σ26).1 := by rw [eL31]
    have eσL31e : σL31e = (f_X6_table_L31 (902) (1 : Int32) σ26).2 := by rw [eL31]
    refine lv_aload_n hx hb dX6_table_50 rfl (lv_at hl 0 rfl) ?_
    refine Mg_18 C h dX6_table_51 ?_
    have j117 : ∀ (σJ117 : MS) (H : Heap) (locs : List Loc) (ls : Array Slot) (ej117 : (if (gi σL31e 18) = (0 : Int32) then ((let zL59 := f_X6_table_L59 (501) (0 : Int32) σL31e; let x3_59e := zL59.1; let σL59e := zL59.2; (let zL90 := f_X6_table_L90 (7) (0 : Int32) σL59e; let x3_90e := zL90.1; let σL90e := zL90.2; σL90e))) else (σL31e)) = σJ117) (hTF : TFr σ σJ117) (hsz : 0 ≤ (gi σJ117 11).toInt ∧ (gi σJ117 11).toInt ≤ 900) (hen : 0 ≤ (gi σJ117 14).toInt ∧ (gi σJ117 14).toInt ≤ (gi σJ117 11).toInt) (hfr : 0 ≤ (gi σJ117 13).toInt ∧ (gi σJ117 13).toInt ≤ (gi σJ117 14).toInt) (htk : Hd (¬ (gi σJ117 12).toInt = 0 → (gi σJ117 13).toInt < (gi σJ117 14).toInt)) (hNP : 0 ≤ (ga σJ117 0 (2000 : Int32)).toInt ∧ (ga σJ117 0 (2000 : Int32)).toInt ≤ 6) (hND : 0 ≤ (ga σJ117 0 (2002 : Int32)).toInt ∧ (ga σJ117 0 (2002 : Int32)).toInt ≤ 16) (hSN : SL σJ117 2000) (hDP : DP σJ117) (h : MH g σJ117 s H locs) (hl : lv_has ls 4 [(0, .ref (g.2.1 99))]), W p l e ({ frames := 10, cells := 0, slots := 0, locals := 221 } : Room) s m args below meth c H locs 0 0 (MQ below (mQi g (f_X6_table σ p1).1 (f_X6_table σ p1).2 (fun u r => (TFr σ u) ∧ (Hd ((gi u 2) = 1 ∨ (SL u 2000 ∧ DP u))))) args s 0 0 (mA g)) (F0 m 117 ls []) := by
      intro σJ117 H locs ls ej117 hTF hsz hen hfr htk hNP hND hSN hDP h hl
      have eσJ117 := ej117.symm
      refine lv_aload_n hx hb dX6_table_117 rfl (lv_at hl 0 rfl) ?_
      refine lv_aload_n hx hb dX6_table_118 rfl (lv_at hl 0 rfl) ?_
      refine Mg_0 C h dX6_table_119 ?_
      refine lv_iconst (v := 0) hx hb dX6_table_122 (by decide) ?_
      refine Ml_0 C h (ix_of zl0 (by omega)) dX6_table_123 ?_
      refine M_calli (As := [.int (ga σJ117 0 (0 : Int32))]) (rest := []) 1 C h (k_X6_taken l g σJ117 (ga σJ117 0 (0 : Int32))) (lw_V q1802 q1804 qs90 q152 q1805) rfl rfl (by decide +kernel) ⟨Nat.le_of_ble_eq_true rfl, Nat.le_of_ble_eq_true rfl⟩ rfl hl.1 rfl (Nat.le_of_ble_eq_true rfl) ⟨Nat.le_of_ble_eq_true rfl, Nat.le_of_ble_eq_true rfl⟩ dX6_table_124 (fun r124 σ124 H locs eσ124 er124 hE124 h => ?_)
      have hE124 : (∀ j : Int32, ga σ124 0 j = ga σJ117 0 j) ∧ (Fr [2, 16] [] (fun _ => False) (fun _ => False) σJ117 σ124) := hE124
      obtain ⟨hA0_124, hKF_124⟩ := hE124
      have hNEW : (TFr σ σ124) ∧ (0 ≤ (ga σ124 0 (2000 : Int32)).toInt ∧ (ga σ124 0 (2000 : Int32)).toInt ≤ 6) ∧ (0 ≤ (ga σ124 0 (2002 : Int32)).toInt ∧ (ga σ124 0 (2002 : Int32)).toInt ≤ 16) ∧ (SL σ124 2000) ∧ (DP σ124) := ⟨(Fr.tr2 hTF hKF_124 (by decide) (by decide) (fun _ q => q.elim) (fun _ q => q.elim)), (by simp only [hA0_124] <;> exact hNP), (by simp only [hA0_124] <;> exact hND), (SL_A0 hA0_124 hSN), (DP_A0 hA0_124 hDP)⟩
      obtain ⟨hTF, hNP, hND, hSN, hDP⟩ := hNEW
      have he : f_X6_table σ p1 = (σ124, r124) := (by have eσ5 := eσ5.symm; subst eσ5; have er5 := er5.symm; subst er5; have eσ21 := eσ21.symm; subst eσ21; have eσ26 := eσ26.symm; subst eσ26; have ex2_31e := ex2_31e.symm; subst ex2_31e; have eσL31e := eσL31e.symm; subst eσL31e; have eσJ117 := eσJ117.symm; subst eσJ117; have eσ124 := eσ124.symm; subst eσ124; have er124 := er124.symm; subst er124; exact ((if_neg c8).trans rfl))
      exact M_reti C h hr hlocks (congrArg Prod.fst he) (congrArg Prod.snd he) ⟨hTF, (by first | exact Or.inr ⟨hSN, hDP⟩ | exact Or.inl (by rw [eσ13, refuse_s]; rfl))⟩ dX6_table_127
    refine lv_if_ne (tgt := 117) hx hb dX6_table_54 (by decide) (fun c54 => ?_) (fun c54 => ?_)
    · have i54 := c_ne c54
      exact j117 _ _ _ _ (by exact ((if_neg c54).trans rfl)) hTF hsz hen hfr htk hNP hND hSN hDP h hl
    · have i54 := c_eq c54
      refine lv_iconst (v := 0) hx hb dX6_table_57 (by decide) ?_
      refine lv_istore_n (lv' := [(3, .int (0 : Int32)), (0, .ref (g.2.1 99))]) hx hb dX6_table_58 rfl hl (by decide) rfl (fun ls hl => ?_)
      have hL59 : ∀ (n : Nat) (x3_59 : Int32) (σL59 : MS) (H : Heap) (locs : List Loc) (ls : Array Slot), (TFr σ σL59) → (0 ≤ (gi σL59 11).toInt ∧ (gi σL59 11).toInt ≤ 900) → (0 ≤ (gi σL59 14).toInt ∧ (gi σL59 14).toInt ≤ (gi σL59 11).toInt) → (0 ≤ (gi σL59 13).toInt ∧ (gi σL59 13).toInt ≤ (gi σL59 14).toInt) → (Hd (¬ (gi σL59 12).toInt = 0 → (gi σL59 13).toInt < (gi σL59 14).toInt)) → (0 ≤ (ga σL59 0 (2000 : Int32)).toInt ∧ (ga σL59 0 (2000 : Int32)).toInt ≤ 6) → (0 ≤ (ga σL59 0 (2002 : Int32)).toInt ∧ (ga σL59 0 (2002 : Int32)).toInt ≤ 16) → (SL σL59 2000) → (DP σL59) → (0 ≤ x3_59.toInt ∧ x3_59.toInt ≤ 500) → (500 - x3_59.toInt).toNat < n → MH g σL59 s H locs → lv_has ls 4 [(0, .ref (g.2.1 99)), (3, .int x3_59)] → (∀ (x3_59' : Int32) (σL59' : MS) (H : Heap) (locs : List Loc) (ls : Array Slot), f_X6_table_L59 n x3_59 σL59 = (x3_59', σL59') → (TFr σ σL59') → (0 ≤ (gi σL59' 11).toInt ∧ (gi σL59' 11).toInt ≤ 900) → (0 ≤ (gi σL59' 14).toInt ∧ (gi σL59' 14).toInt ≤ (gi σL59' 11).toInt) → (0 ≤ (gi σL59' 13).toInt ∧ (gi σL59' 13).toInt ≤ (gi σL59' 14).toInt) → (Hd (¬ (gi σL59' 12).toInt = 0 → (gi σL59' 13).toInt < (gi σL59' 14).toInt)) → (0 ≤ (ga σL59' 0 (2000 : Int32)).toInt ∧ (ga σL59' 0 (2000 : Int32)).toInt ≤ 6) → (0 ≤ (ga σL59' 0 (2002 : Int32)).toInt ∧ (ga σL59' 0 (2002 : Int32)).toInt ≤ 16) → (SL σL59' 2000) → (DP σL59') → (0 ≤ x3_59'.toInt ∧ x3_59'.toInt ≤ 500) → MH g σL59' s H locs → lv_has ls 4 [(0, .ref (g.2.1 99))] → W p l e ({ frames := 10, cells := 0, slots := 0, locals := 221 } : Room) s m args below meth c H locs 0 0 (MQ below (mQi g (f_X6_table σ p1).1 (f_X6_table σ p1).2 (fun u r => (TFr σ u) ∧ (Hd ((gi u 2) = 1 ∨ (SL u 2000 ∧ DP u))))) args s 0 0 (mA g)) (F0 m 88 ls [])) → W p l e ({ frames := 10, cells := 0, slots := 0, locals := 221 } : Room) s m args below meth c H locs 0 0 (MQ below (mQi g (f_X6_table σ p1).1 (f_X6_table σ p1).2 (fun u r => (TFr σ u) ∧ (Hd ((gi u 2) = 1 ∨ (SL u 2000 ∧ DP u))))) args s 0 0 (mA g)) (F0 m 59 ls []) := by
        intro n
        induction n with
        | zero =>
          intro x3_59 σL59 H locs ls hTF hsz hen hfr htk hNP hND hSN hDP _ hm; exact absurd hm (Nat.not_lt_zero _)
        | succ n ih =>
          intro x3_59 σL59 H locs ls hTF hsz hen hfr htk hNP hND hSN hDP hI59 hm h hl kk
          refine lv_iload_n hx hb dX6_table_59 rfl (lv_at hl 1 rfl) ?_
          refine lv_sipush (v := 500) hx hb dX6_table_60 (by decide) ?_
          refine lv_icmp_ge (tgt := 88) hx hb dX6_table_63 (by decide) (fun c63 => ?_) (fun c63 => ?_)
          · have i63 := c_le c63
            exact kk x3_59 σL59 _ _ _ (show f_X6_table_L59 (n + 1) x3_59 σL59 = (x3_59, σL59) from (by exact ((if_pos c63).trans rfl))) hTF hsz hen hfr htk hNP hND hSN hDP (by first | assumption | omega) h (lv_sub hl [0] rfl)
          · have i63 := c_nle c63
            refine lv_aload_n hx hb dX6_table_66 rfl (lv_at hl 0 rfl) ?_
            refine Mg_0 C h dX6_table_67 ?_
            refine lv_iload_n hx hb dX6_table_70 rfl (lv_at hl 1 rfl) ?_
            refine lv_aload_n hx hb dX6_table_71 rfl (lv_at hl 0 rfl) ?_
            refine Mg_0 C h dX6_table_72 ?_
            refine lv_sipush (v := 2000) hx hb dX6_table_75 (by decide) ?_
            refine lv_iload_n hx hb dX6_table_78 rfl (lv_at hl 1 rfl) ?_
            refine lv_iadd hx hb dX6_table_79 ?_
            refine Ml_0 C h (ix_of (i_add zl2000 (rfl : x3_59.toInt = x3_59.toInt) (by omega)) (by omega)) dX6_table_80 ?_
            refine Ms_0 C h (ix_of (rfl : x3_59.toInt = x3_59.toInt) (by omega)) dX6_table_81 (fun σ81 H locs eσ81 h => ?_)
            have hNEW : (TFr σ σ81) ∧ (0 ≤ (gi σ81 11).toInt ∧ (gi σ81 11).toInt ≤ 900) ∧ (0 ≤ (gi σ81 14).toInt ∧ (gi σ81 14).toInt ≤ (gi σ81 11).toInt) ∧ (0 ≤ (gi σ81 13).toInt ∧ (gi σ81 13).toInt ≤ (gi σ81 14).toInt) ∧ (Hd (¬ (gi σ81 12).toInt = 0 → (gi σ81 13).toInt < (gi σ81 14).toInt)) ∧ (0 ≤ (ga σ81 0 (2000 : Int32)).toInt ∧ (ga σ81 0 (2000 : Int32)).toInt ≤ 6) ∧ (0 ≤ (ga σ81 0 (2002 : Int32)).toInt ∧ (ga σ81 0 (2002 : Int32)).toInt ≤ 16) ∧ (SL σ81 2000) ∧ (DP σ81) := ⟨(by rw [eσ81]; exact (Fr_sa (rfl : x3_59.toInt = x3_59.toInt) (by first | omega | (dsimp only; omega)) (by omega) hTF)), (by rw [eσ81, ] <;> exact hsz), (by rw [eσ81, ] <;> exact hen), (by rw [eσ81, ] <;> exact hfr), (by rw [eσ81, ] <;> exact htk), (by rw [eσ81, ga_sa_ne (j := (2000 : Int32)) (rfl : x3_59.toInt = x3_59.toInt) zl2000 (by omega)] <;> exact hNP), (by rw [eσ81, ga_sa_ne (j := (2002 : Int32)) (rfl : x3_59.toInt = x3_59.toInt) zl2002 (by omega)] <;> exact hND), (by rw [eσ81]; exact (SL_sa (rfl : x3_59.toInt = x3_59.toInt) (by omega) (by omega) (by unfold CV; omega) hSN)), (by rw [eσ81]; exact (DP_sa (rfl : x3_59.toInt = x3_59.toInt) (by omega) (by omega) (by omega) hDP))⟩
            obtain ⟨hTF, hsz, hen, hfr, htk, hNP, hND, hSN, hDP⟩ := hNEW
            refine lv_iinc (v := (x3_59 + (1 : Int32))) (lv' := [(3, .int (x3_59 + (1 : Int32))), (0, .ref (g.2.1 99))]) hx hb dX6_table_82 hl (k := 1) rfl rfl (by decide) rfl (fun ls hl => ?_)
            refine lv_goto (tgt := 59) hx hb dX6_table_85 (by decide) ?_
            have tt3 : (x3_59 + (1 : Int32)).toInt = (x3_59.toInt + (1)) := (i_add (rfl : x3_59.toInt = x3_59.toInt) zl1 (by omega))
            exact ih (x3_59 + (1 : Int32)) σ81 _ _ _ hTF hsz hen hfr htk hNP hND hSN hDP (by first | assumption | omega) (by omega) h (lv_sub hl [1, 0] rfl) (fun x3_59' σL59' H locs ls en hTF hsz hen hfr htk hNP hND hSN hDP hI h hl => kk x3_59' σL59' H locs ls ((show f_X6_table_L59 (n + 1) x3_59 σL59 = f_X6_table_L59 n (x3_59 + (1 : Int32)) σ81 from (by have eσ81 := eσ81.symm; subst eσ81; exact ((if_neg c63).trans rfl))).trans en) hTF hsz hen hfr htk hNP hND hSN hDP hI h hl)
      refine hL59 (501) (0 : Int32) σL31e _ _ _ hTF hsz hen hfr htk hNP hND hSN hDP (by first | assumption | omega) (by omega) h (lv_sub hl [1, 0] rfl) (fun x3_59e σL59e H locs ls eL59 hTF hsz hen hfr htk hNP hND hSN hDP hI59 h hl => ?_)
      have ex3_59e : x3_59e = (f_X6_table_L59 (501) (0 : Int32) σL31e).1 := by rw [eL59]
      have eσL59e : σL59e = (f_X6_table_L59 (501) (0 : Int32) σL31e).2 := by rw [eL59]
      refine lv_iconst (v := 0) hx hb dX6_table_88 (by decide) ?_
      refine lv_istore_n (lv' := [(3, .int (0 : Int32)), (0, .ref (g.2.1 99))]) hx hb dX6_table_89 rfl hl (by decide) rfl (fun ls hl => ?_)
      have hL90 : ∀ (n : Nat) (x3_90 : Int32) (σL90 : MS) (H : Heap) (locs : List Loc) (ls : Array Slot), (TFr σ σL90) → (0 ≤ (gi σL90 11).toInt ∧ (gi σL90 11).toInt ≤ 900) → (0 ≤ (gi σL90 14).toInt ∧ (gi σL90 14).toInt ≤ (gi σL90 11).toInt) → (0 ≤ (gi σL90 13).toInt ∧ (gi σL90 13).toInt ≤ (gi σL90 14).toInt) → (Hd (¬ (gi σL90 12).toInt = 0 → (gi σL90 13).toInt < (gi σL90 14).toInt)) → (0 ≤ (ga σL90 0 (2000 : Int32)).toInt ∧ (ga σL90 0 (2000 : Int32)).toInt ≤ 6) → (0 ≤ (ga σL90 0 (2002 : Int32)).toInt ∧ (ga σL90 0 (2002 : Int32)).toInt ≤ 16) → (SL σL90 2000) → (DP σL90) → (0 ≤ x3_90.toInt ∧ x3_90.toInt ≤ 6) → (6 - x3_90.toInt).toNat < n → MH g σL90 s H locs → lv_has ls 4 [(0, .ref (g.2.1 99)), (3, .int x3_90)] → (∀ (x3_90' : Int32) (σL90' : MS) (H : Heap) (locs : List Loc) (ls : Array Slot), f_X6_table_L90 n x3_90 σL90 = (x3_90', σL90') → (TFr σ σL90') → (0 ≤ (gi σL90' 11).toInt ∧ (gi σL90' 11).toInt ≤ 900) → (0 ≤ (gi σL90' 14).toInt ∧ (gi σL90' 14).toInt ≤ (gi σL90' 11).toInt) → (0 ≤ (gi σL90' 13).toInt ∧ (gi σL90' 13).toInt ≤ (gi σL90' 14).toInt) → (Hd (¬ (gi σL90' 12).toInt = 0 → (gi σL90' 13).toInt < (gi σL90' 14).toInt)) → (0 ≤ (ga σL90' 0 (2000 : Int32)).toInt ∧ (ga σL90' 0 (2000 : Int32)).toInt ≤ 6) → (0 ≤ (ga σL90' 0 (2002 : Int32)).toInt ∧ (ga σL90' 0 (2002 : Int32)).toInt ≤ 16) → (SL σL90' 2000) → (DP σL90') → (0 ≤ x3_90'.toInt ∧ x3_90'.toInt ≤ 6) → MH g σL90' s H locs → lv_has ls 4 [(0, .ref (g.2.1 99))] → W p l e ({ frames := 10, cells := 0, slots := 0, locals := 221 } : Room) s m args below meth c H locs 0 0 (MQ below (mQi g (f_X6_table σ p1).1 (f_X6_table σ p1).2 (fun u r => (TFr σ u) ∧ (Hd ((gi u 2) = 1 ∨ (SL u 2000 ∧ DP u))))) args s 0 0 (mA g)) (F0 m 117 ls [])) → W p l e ({ frames := 10, cells := 0, slots := 0, locals := 221 } : Room) s m args below meth c H locs 0 0 (MQ below (mQi g (f_X6_table σ p1).1 (f_X6_table σ p1).2 (fun u r => (TFr σ u) ∧ (Hd ((gi u 2) = 1 ∨ (SL u 2000 ∧ DP u))))) args s 0 0 (mA g)) (F0 m 90 ls []) := by
        intro n
        induction n with
        | zero =>
          intro x3_90 σL90 H locs ls hTF hsz hen hfr htk hNP hND hSN hDP _ hm; exact absurd hm (Nat.not_lt_zero _)
        | succ n ih =>
          intro x3_90 σL90 H locs ls hTF hsz hen hfr htk hNP hND hSN hDP hI90 hm h hl kk
          refine lv_iload_n hx hb dX6_table_90 rfl (lv_at hl 1 rfl) ?_
          refine lv_bipush (v := 6) hx hb dX6_table_91 (by decide) ?_
          refine lv_icmp_ge (tgt := 117) hx hb dX6_table_93 (by decide) (fun c93 => ?_) (fun c93 => ?_)
          · have i93 := c_le c93
            exact kk x3_90 σL90 _ _ _ (show f_X6_table_L90 (n + 1) x3_90 σL90 = (x3_90, σL90) from (by exact ((if_pos c93).trans rfl))) hTF hsz hen hfr htk hNP hND hSN hDP (by first | assumption | omega) h (lv_sub hl [0] rfl)
          · have i93 := c_nle c93
            refine lv_aload_n hx hb dX6_table_96 rfl (lv_at hl 0 rfl) ?_
            refine Mg_1 C h dX6_table_97 ?_
            refine lv_iload_n hx hb dX6_table_100 rfl (lv_at hl 1 rfl) ?_
            refine lv_aload_n hx hb dX6_table_101 rfl (lv_at hl 0 rfl) ?_
            refine Mg_1 C h dX6_table_102 ?_
            refine lv_bipush (v := 24) hx hb dX6_table_105 (by decide) ?_
            refine lv_iload_n hx hb dX6_table_107 rfl (lv_at hl 1 rfl) ?_
            refine lv_iadd hx hb dX6_table_108 ?_
            refine Ml_1 C h (ix_of (i_add zl24 (rfl : x3_90.toInt = x3_90.toInt) (by omega)) (by omega)) dX6_table_109 ?_
            refine Ms_1 C h (ix_of (rfl : x3_90.toInt = x3_90.toInt) (by omega)) dX6_table_110 (fun σ110 H locs eσ110 h => ?_)
            have hNEW : (TFr σ σ110) ∧ (0 ≤ (gi σ110 11).toInt ∧ (gi σ110 11).toInt ≤ 900) ∧ (0 ≤ (gi σ110 14).toInt ∧ (gi σ110 14).toInt ≤ (gi σ110 11).toInt) ∧ (0 ≤ (gi σ110 13).toInt ∧ (gi σ110 13).toInt ≤ (gi σ110 14).toInt) ∧ (Hd (¬ (gi σ110 12).toInt = 0 → (gi σ110 13).toInt < (gi σ110 14).toInt)) ∧ (0 ≤ (ga σ110 0 (2000 : Int32)).toInt ∧ (ga σ110 0 (2000 : Int32)).toInt ≤ 6) ∧ (0 ≤ (ga σ110 0 (2002 : Int32)).toInt ∧ (ga σ110 0 (2002 : Int32)).toInt ≤ 16) ∧ (SL σ110 2000) ∧ (DP σ110) := ⟨(by rw [eσ110]; exact (Fr_xb (rfl : x3_90.toInt = x3_90.toInt) (by first | omega | (dsimp only; omega)) (by omega) hTF)), (by rw [eσ110] <;> exact hsz), (by rw [eσ110] <;> exact hen), (by rw [eσ110] <;> exact hfr), (by rw [eσ110] <;> exact htk), (by rw [eσ110] <;> exact hNP), (by rw [eσ110] <;> exact hND), (by rw [eσ110] <;> exact hSN), (by rw [eσ110] <;> exact hDP)⟩
            obtain ⟨hTF, hsz, hen, hfr, htk, hNP, hND, hSN, hDP⟩ := hNEW
            refine lv_iinc (v := (x3_90 + (1 : Int32))) (lv' := [(3, .int (x3_90 + (1 : Int32))), (0, .ref (g.2.1 99))]) hx hb dX6_table_111 hl (k := 1) rfl rfl (by decide) rfl (fun ls hl => ?_)
            refine lv_goto (tgt := 90) hx hb dX6_table_114 (by decide) ?_
            have tt3 : (x3_90 + (1 : Int32)).toInt = (x3_90.toInt + (1)) := (i_add (rfl : x3_90.toInt = x3_90.toInt) zl1 (by omega))
            exact ih (x3_90 + (1 : Int32)) σ110 _ _ _ hTF hsz hen hfr htk hNP hND hSN hDP (by first | assumption | omega) (by omega) h (lv_sub hl [1, 0] rfl) (fun x3_90' σL90' H locs ls en hTF hsz hen hfr htk hNP hND hSN hDP hI h hl => kk x3_90' σL90' H locs ls ((show f_X6_table_L90 (n + 1) x3_90 σL90 = f_X6_table_L90 n (x3_90 + (1 : Int32)) σ110 from (by have eσ110 := eσ110.symm; subst eσ110; exact ((if_neg c93).trans rfl))).trans en) hTF hsz hen hfr htk hNP hND hSN hDP hI h hl)
      refine hL90 (7) (0 : Int32) σL59e _ _ _ hTF hsz hen hfr htk hNP hND hSN hDP (by first | assumption | omega) (by omega) h (lv_sub hl [1, 0] rfl) (fun x3_90e σL90e H locs ls eL90 hTF hsz hen hfr htk hNP hND hSN hDP hI90 h hl => ?_)
      have ex3_90e : x3_90e = (f_X6_table_L90 (7) (0 : Int32) σL59e).1 := by rw [eL90]
      have eσL90e : σL90e = (f_X6_table_L90 (7) (0 : Int32) σL59e).2 := by rw [eL90]
      exact j117 _ _ _ _ (by have ex3_59e := ex3_59e.symm; subst ex3_59e; have eσL59e := eσL59e.symm; subst eσL59e; have ex3_90e := ex3_90e.symm; subst ex3_90e; have eσL90e := eσL90e.symm; subst eσL90e; exact ((if_pos c54).trans rfl)) hTF hsz hen hfr htk hNP hND hSN hDP h hl
  · have i8 := c_eq c8
    refine lv_aload_n hx hb dX6_table_11 rfl (lv_at hl 0 rfl) ?_
    refine lv_iconst (v := 1) hx hb dX6_table_12 (by decide) ?_
    refine M_calli (As := [.int (1 : Int32)]) (rest := []) 1 C h (k_X6_refuse l g σ5 (1 : Int32)) (lw_V q1723 q1725 qs71 q152 q1726) rfl rfl (by decide +kernel) ⟨Nat.le_of_ble_eq_true rfl, Nat.le_of_ble_eq_true rfl⟩ rfl hl.1 rfl (Nat.le_of_ble_eq_true rfl) ⟨Nat.le_of_ble_eq_true rfl, Nat.le_of_ble_eq_true rfl⟩ dX6_table_13 (fun r13 σ13 H locs eσ13 er13 hE13 h => ?_)
    clear hE13
    replace hTF : TFr σ σ13 := (by rw [eσ13, refuse_s]; exact Fr_si (by decide) hTF)
    have he : f_X6_table σ p1 = (σ13, r13) := (by have eσ5 := eσ5.symm; subst eσ5; have er5 := er5.symm; subst er5; have eσ13 := eσ13.symm; subst eσ13; have er13 := er13.symm; subst er13; exact ((if_pos c8).trans rfl))
    exact M_reti C h hr hlocks (congrArg Prod.fst he) (congrArg Prod.snd he) ⟨hTF, (by first | exact Or.inr ⟨hSN, hDP⟩ | exact Or.inl (by rw [eσ13, refuse_s]; rfl))⟩ dX6_table_16
