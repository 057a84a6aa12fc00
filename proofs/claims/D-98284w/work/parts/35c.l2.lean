/-! walks of methods by contract, printed by gen/mkwalk.py -/
set_option maxRecDepth 100000
def f_X0_owes (σ : MS × MS) (p1 : Int32) (p2 : Int32) : (MS × MS) × Int32 := (let r4 := (f_X0_areTwo σ p1 p2); (let z15_ : Int32 := (if r4 = (0 : Int32) then ((1 : Int32)) else ((0 : Int32))); let t0_15 := z15_; (let σ15 := lsi σ 7 t0_15; if (gi (own σ15) 7) ≤ (0 : Int32) then ((let r35 := (f_X5_owes (ttb σ15) p1 p2); (σ15, r35))) else ((σ15, (-1 : Int32))))))
set_option maxHeartbeats 4000000 in
set_option maxRecDepth 100000 in
theorem k_X0_owes (l : Launch) (g : GL) (σ : MS × MS) (p1 : Int32) (p2 : Int32) (hlp : 0 ≤ (gi (ttb σ) 1).toInt ∧ (gi (ttb σ) 1).toInt ≤ 6) (hld : 0 ≤ (gi (ttb σ) 3).toInt ∧ (gi (ttb σ) 3).toInt ≤ 16 ∧ (gi (ttb σ) 3).toInt ≤ (g.1.2.1 50 : Int)) : Met l yX0_owes (ws_ yX0_owes cX0_owes 3 (some .int)) ({ frames := 3, cells := 0, slots := 0, locals := 68 } : Room) (wPc (dL g) (g.2.2.1 99) σ [.int p1, .int p2]) (wQi (dL g) (f_X0_owes σ p1 p2).1 (f_X0_owes σ p1 p2).2 (fun u r => ((gi (ttb u) 1).toInt = (gi (ttb σ) 1).toInt) ∧ ((gi (ttb u) 3).toInt = (gi (ttb σ) 3).toInt))) 0 0 (dL g).2.2.2.1 := by
  refine met_W RX0 (by decide) rfl (Nat.le_of_ble_eq_true rfl) ?_
  intro p e s m args below meth c C hr hlocks h ls hl
  have hx := C.1.1
  have hb := C.1.2.1
  have hml := C.1.2.2.1
  have hown := C.1.2.2.2.1
  have hts := C.1.2.2.2.2
  have hl : lv_has ls 3 [(0, .ref (g.2.2.1 99)), (1, .int p1), (2, .int p2)] := hl
  have hlpq : (gi (ttb σ) 1).toInt = (gi (ttb σ) 1).toInt := rfl
  have hldq : (gi (ttb σ) 3).toInt = (gi (ttb σ) 3).toInt := rfl
  have zlm1 : (-1 : Int32).toInt = -1 := rfl
  have zl0 : (0 : Int32).toInt = 0 := rfl
  have zl1 : (1 : Int32).toInt = 1 := rfl
  refine lv_aload_n hx hb dX0_owes_0 rfl (lv_at hl 0 rfl) ?_
  refine lv_aload_n hx hb dX0_owes_1 rfl (lv_at hl 0 rfl) ?_
  refine lv_iload_n hx hb dX0_owes_2 rfl (lv_at hl 1 rfl) ?_
  refine lv_iload_n hx hb dX0_owes_3 rfl (lv_at hl 2 rfl) ?_
  refine w_callz (ci := 0) (q0 := 6) (As := [.int p1, .int p2]) (rest := [.ref (g.2.2.1 99)]) 2 (wXL g) C h (k_X0_areTwo l g σ p1 p2 (by first | assumption | omega)) (lw_V q1178 q1180 qs48 q144 q1181) rfl rfl rfl rfl (by decide +kernel) ⟨Nat.le_of_ble_eq_true rfl, Nat.le_of_ble_eq_true rfl⟩ rfl hl.1 rfl (Nat.le_of_ble_eq_true rfl) ⟨Nat.le_of_ble_eq_true rfl, Nat.le_of_ble_eq_true rfl⟩ dX0_owes_4 (fun r4 σ4 H locs eσ4 er4 br4 hE4 h => ?_)
  rw [eσ4] at h
  clear hE4
  clear eσ4
  have j15 : ∀ (t0_15 : Int32) (H : Heap) (locs : List Loc) (ls : Array Slot) (ej15 : (if r4 = (0 : Int32) then ((1 : Int32)) else ((0 : Int32))) = t0_15) (bt0_15 : t0_15 = 0 ∨ t0_15 = 1) (hI15 : (0 < t0_15.toInt) ∨ (0 ≤ p1.toInt ∧ p1.toInt < (gi (ttb σ) 1).toInt ∧ 0 ≤ p2.toInt ∧ p2.toInt < (gi (ttb σ) 1).toInt)) (h : wH (dL g) σ s H locs) (hl : lv_has ls 3 [(0, .ref (g.2.2.1 99)), (1, .int p1), (2, .int p2)]), W p l e ({ frames := 3, cells := 0, slots := 0, locals := 68 } : Room) s m args below meth c H locs 0 0 (MQ below (wQi (dL g) (f_X0_owes σ p1 p2).1 (f_X0_owes σ p1 p2).2 (fun u r => ((gi (ttb u) 1).toInt = (gi (ttb σ) 1).toInt) ∧ ((gi (ttb u) 3).toInt = (gi (ttb σ) 3).toInt))) args s 0 0 (dL g).2.2.2.1) (F0 m 15 ls [.int t0_15, .ref (g.2.2.1 99)]) := by
    intro t0_15 H locs ls ej15 bt0_15 hI15 h hl
    have et0_15 := ej15.symm
    refine L_p7 C h dX0_owes_15 (fun σ15 H locs eσ15 h => ?_)
    have hNEW : (0 ≤ (gi (ttb σ15) 1).toInt ∧ (gi (ttb σ15) 1).toInt ≤ 6) ∧ (0 ≤ (gi (ttb σ15) 3).toInt ∧ (gi (ttb σ15) 3).toInt ≤ 16 ∧ (gi (ttb σ15) 3).toInt ≤ (g.1.2.1 50 : Int)) ∧ ((gi (ttb σ15) 1).toInt = (gi (ttb σ) 1).toInt) ∧ ((gi (ttb σ15) 3).toInt = (gi (ttb σ) 3).toInt) := ⟨(by rw [eσ15] <;> exact hlp), (by rw [eσ15] <;> exact hld), (by rw [eσ15] <;> exact hlpq), (by rw [eσ15] <;> exact hldq)⟩
    obtain ⟨hlp, hld, hlpq, hldq⟩ := hNEW
    have q7_15 : (gi (own σ15) 7).toInt = t0_15.toInt := by rw [eσ15]; rfl
    refine lv_aload_n hx hb dX0_owes_18 rfl (lv_at hl 0 rfl) ?_
    refine L_g7 C h dX0_owes_19 ?_
    refine lv_if_le (tgt := 29) hx hb dX0_owes_22 (by decide) (fun c22 => ?_) (fun c22 => ?_)
    · have i22 := c_le c22
      refine lv_aload_n hx hb dX0_owes_29 rfl (lv_at hl 0 rfl) ?_
      refine L_at (rest := []) C h ⟨Nat.le_of_ble_eq_true rfl, Nat.le_of_ble_eq_true rfl⟩ hl.1 (Nat.le_of_ble_eq_true rfl) ⟨Nat.le_of_ble_eq_true rfl, Nat.le_of_ble_eq_true rfl⟩ dX0_owes_30 (fun H locs h => ?_)
      refine lv_iload_n hx hb dX0_owes_33 rfl (lv_at hl 1 rfl) ?_
      refine lv_iload_n hx hb dX0_owes_34 rfl (lv_at hl 2 rfl) ?_
      refine L_tcalli (As := [.int p1, .int p2]) (rest := []) 2 C h (k_X5_owes l g.1 (ttb σ15) p1 p2 (by first | assumption | omega) (by first | assumption | omega)) (lw_V q1243 q1144 q1145 q151 q1146) rfl rfl (by decide +kernel) ⟨Nat.le_of_ble_eq_true rfl, Nat.le_of_ble_eq_true rfl⟩ rfl hl.1 rfl (Nat.le_of_ble_eq_true rfl) ⟨Nat.le_of_ble_eq_true rfl, Nat.le_of_ble_eq_true rfl⟩ dX0_owes_35 (fun r35 σ35 H locs eσ35 er35 hE35 h => ?_)
      have h : wH (dL g) σ15 s H locs := by rw [eσ35] at h; exact h
      clear hE35
      clear eσ35
      have he : f_X0_owes σ p1 p2 = (σ15, r35) := (by have er4 := er4.symm; subst er4; have et0_15 := et0_15.symm; subst et0_15; have eσ15 := eσ15.symm; subst eσ15; have er35 := er35.symm; subst er35; exact ((if_pos c22).trans rfl))
      exact w_reti (wXL g) C h hr hlocks (congrArg Prod.fst he) (congrArg Prod.snd he) ⟨hlpq, hldq⟩ dX0_owes_38
    · have i22 := c_nle c22
      refine lv_iconst (v := -1) hx hb dX0_owes_25 (by decide) ?_
      refine lv_goto (tgt := 38) hx hb dX0_owes_26 (by decide) ?_
      have he : f_X0_owes σ p1 p2 = (σ15, (-1 : Int32)) := (by have er4 := er4.symm; subst er4; have et0_15 := et0_15.symm; subst et0_15; have eσ15 := eσ15.symm; subst eσ15; exact ((if_neg c22).trans rfl))
      exact w_reti (wXL g) C h hr hlocks (congrArg Prod.fst he) (congrArg Prod.snd he) ⟨hlpq, hldq⟩ dX0_owes_38
  refine lv_if_eq (tgt := 14) hx hb dX0_owes_7 (by decide) (fun c7 => ?_) (fun c7 => ?_)
  · have i7 := c_eq c7
    refine lv_iconst (v := 1) hx hb dX0_owes_14 (by decide) ?_
    exact j15 _ _ _ _ (by exact ((if_pos c7).trans rfl)) (Or.inr rfl) (by first | assumption | omega) h hl
  · have i7 := c_ne c7
    have okr4 := lAreTwo_ok hlp er4 c7
    refine lv_iconst (v := 0) hx hb dX0_owes_10 (by decide) ?_
    refine lv_goto (tgt := 15) hx hb dX0_owes_11 (by decide) ?_
    exact j15 _ _ _ _ (by exact ((if_neg c7).trans rfl)) (Or.inl rfl) (by first | assumption | omega) h hl
def f_X0_lend (σ : MS × MS) (p1 : Int32) (p2 : Int32) (p3 : Int32) : (MS × MS) × Int32 := (let r4 := (f_X0_areTwo σ p1 p2); (let jj45 := (fun (t0_45 : Int32) (σJ45 : (MS × MS)) => (let σ45 := lsi σJ45 7 t0_45; if (gi (own σ45) 7) ≤ (0 : Int32) then ((let r65 := (f_X5_owes (ttb σ45) p2 p1); (σ45, r65))) else ((σ45, (-1 : Int32))))); if r4 = (0 : Int32) then (jj45 (1 : Int32) σ) else ((let r16 := (f_X0_isIn p3.toInt64 (1 : Int64) (9999 : Int64)); if r16 = (0 : Int32) then (jj45 (1 : Int32) σ) else ((let z33 := (f_X5_lends (ttb σ) p1 p2 p3); let σ33 := tput σ z33.1; let r33 := z33.2; if r33 = (0 : Int32) then (jj45 (7 : Int32) σ33) else (jj45 (0 : Int32) σ33)))))))
set_option maxHeartbeats 4000000 in
set_option maxRecDepth 100000 in
theorem k_X0_lend (l : Launch) (g : GL) (σ : MS × MS) (p1 : Int32) (p2 : Int32) (p3 : Int32) (hlp : 0 ≤ (gi (ttb σ) 1).toInt ∧ (gi (ttb σ) 1).toInt ≤ 6) (hld : 0 ≤ (gi (ttb σ) 3).toInt ∧ (gi (ttb σ) 3).toInt ≤ 16 ∧ (gi (ttb σ) 3).toInt ≤ (g.1.2.1 50 : Int)) : Met l yX0_lend (ws_ yX0_lend cX0_lend 4 (some .int)) ({ frames := 3, cells := 0, slots := 0, locals := 68 } : Room) (wPc (dL g) (g.2.2.1 99) σ [.int p1, .int p2, .int p3]) (wQi (dL g) (f_X0_lend σ p1 p2 p3).1 (f_X0_lend σ p1 p2 p3).2 (fun u r => ((gi (ttb u) 1).toInt = (gi (ttb σ) 1).toInt) ∧ ((gi (ttb u) 3).toInt = (gi (ttb σ) 3).toInt))) 0 0 (dL g).2.2.2.1 := by
  refine met_W RX0 (by decide) rfl (Nat.le_of_ble_eq_true rfl) ?_
  intro p e s m args below meth c C hr hlocks h ls hl
  have hx := C.1.1
  have hb := C.1.2.1
  have hml := C.1.2.2.1
  have hown := C.1.2.2.2.1
  have hts := C.1.2.2.2.2
  have hl : lv_has ls 4 [(0, .ref (g.2.2.1 99)), (1, .int p1), (2, .int p2), (3, .int p3)] := hl
  have hlpq : (gi (ttb σ) 1).toInt = (gi (ttb σ) 1).toInt := rfl
  have hldq : (gi (ttb σ) 3).toInt = (gi (ttb σ) 3).toInt := rfl
  have zlm1 : (-1 : Int32).toInt = -1 := rfl
  have zl0 : (0 : Int32).toInt = 0 := rfl
  have zl1 : (1 : Int32).toInt = 1 := rfl
  have zl7 : (7 : Int32).toInt = 7 := rfl
  refine lv_aload_n hx hb dX0_lend_0 rfl (lv_at hl 0 rfl) ?_
  refine lv_aload_n hx hb dX0_lend_1 rfl (lv_at hl 0 rfl) ?_
  refine lv_iload_n hx hb dX0_lend_2 rfl (lv_at hl 1 rfl) ?_
  refine lv_iload_n hx hb dX0_lend_3 rfl (lv_at hl 2 rfl) ?_
  refine w_callz (ci := 0) (q0 := 6) (As := [.int p1, .int p2]) (rest := [.ref (g.2.2.1 99)]) 2 (wXL g) C h (k_X0_areTwo l g σ p1 p2 (by first | assumption | omega)) (lw_V q1178 q1180 qs48 q144 q1181) rfl rfl rfl rfl (by decide +kernel) ⟨Nat.le_of_ble_eq_true rfl, Nat.le_of_ble_eq_true rfl⟩ rfl hl.1 rfl (Nat.le_of_ble_eq_true rfl) ⟨Nat.le_of_ble_eq_true rfl, Nat.le_of_ble_eq_true rfl⟩ dX0_lend_4 (fun r4 σ4 H locs eσ4 er4 br4 hE4 h => ?_)
  rw [eσ4] at h
  clear hE4
  clear eσ4
  have j45 : ∀ (t0_45 : Int32) (σJ45 : (MS × MS)) (H : Heap) (locs : List Loc) (ls : Array Slot) (ej45 : f_X0_lend σ p1 p2 p3 = (let σ45 := lsi σJ45 7 t0_45; if (gi (own σ45) 7) ≤ (0 : Int32) then ((let r65 := (f_X5_owes (ttb σ45) p2 p1); (σ45, r65))) else ((σ45, (-1 : Int32))))) (hI45 : (0 < t0_45.toInt) ∨ (0 ≤ p1.toInt ∧ p1.toInt < (gi (ttb σJ45) 1).toInt ∧ 0 ≤ p2.toInt ∧ p2.toInt < (gi (ttb σJ45) 1).toInt)) (hlp : 0 ≤ (gi (ttb σJ45) 1).toInt ∧ (gi (ttb σJ45) 1).toInt ≤ 6) (hld : 0 ≤ (gi (ttb σJ45) 3).toInt ∧ (gi (ttb σJ45) 3).toInt ≤ 16 ∧ (gi (ttb σJ45) 3).toInt ≤ (g.1.2.1 50 : Int)) (hlpq : (gi (ttb σJ45) 1).toInt = (gi (ttb σ) 1).toInt) (hldq : (gi (ttb σJ45) 3).toInt = (gi (ttb σ) 3).toInt) (h : wH (dL g) σJ45 s H locs) (hl : lv_has ls 4 [(0, .ref (g.2.2.1 99)), (1, .int p1), (2, .int p2)]), W p l e ({ frames := 3, cells := 0, slots := 0, locals := 68 } : Room) s m args below meth c H locs 0 0 (MQ below (wQi (dL g) (f_X0_lend σ p1 p2 p3).1 (f_X0_lend σ p1 p2 p3).2 (fun u r => ((gi (ttb u) 1).toInt = (gi (ttb σ) 1).toInt) ∧ ((gi (ttb u) 3).toInt = (gi (ttb σ) 3).toInt))) args s 0 0 (dL g).2.2.2.1) (F0 m 45 ls [.int t0_45, .ref (g.2.2.1 99)]) := by
    intro t0_45 σJ45 H locs ls ej45 hI45 hlp hld hlpq hldq h hl
    refine L_p7 C h dX0_lend_45 (fun σ45 H locs eσ45 h => ?_)
    have hNEW : (0 ≤ (gi (ttb σ45) 1).toInt ∧ (gi (ttb σ45) 1).toInt ≤ 6) ∧ (0 ≤ (gi (ttb σ45) 3).toInt ∧ (gi (ttb σ45) 3).toInt ≤ 16 ∧ (gi (ttb σ45) 3).toInt ≤ (g.1.2.1 50 : Int)) ∧ ((gi (ttb σ45) 1).toInt = (gi (ttb σ) 1).toInt) ∧ ((gi (ttb σ45) 3).toInt = (gi (ttb σ) 3).toInt) := ⟨(by rw [eσ45] <;> exact hlp), (by rw [eσ45] <;> exact hld), (by rw [eσ45] <;> exact hlpq), (by rw [eσ45] <;> exact hldq)⟩
    obtain ⟨hlp, hld, hlpq, hldq⟩ := hNEW
    have q7_45 : (gi (own σ45) 7).toInt = t0_45.toInt := by rw [eσ45]; rfl
    refine lv_aload_n hx hb dX0_lend_48 rfl (lv_at hl 0 rfl) ?_
    refine L_g7 C h dX0_lend_49 ?_
    refine lv_if_le (tgt := 59) hx hb dX0_lend_52 (by decide) (fun c52 => ?_) (fun c52 => ?_)
    · have i52 := c_le c52
      refine lv_aload_n hx hb dX0_lend_59 rfl (lv_at hl 0 rfl) ?_
      refine L_at (rest := []) C h ⟨Nat.le_of_ble_eq_true rfl, Nat.le_of_ble_eq_true rfl⟩ hl.1 (Nat.le_of_ble_eq_true rfl) ⟨Nat.le_of_ble_eq_true rfl, Nat.le_of_ble_eq_true rfl⟩ dX0_lend_60 (fun H locs h => ?_)
      refine lv_iload_n hx hb dX0_lend_63 rfl (lv_at hl 2 rfl) ?_
      refine lv_iload_n hx hb dX0_lend_64 rfl (lv_at hl 1 rfl) ?_
      refine L_tcalli (As := [.int p2, .int p1]) (rest := []) 2 C h (k_X5_owes l g.1 (ttb σ45) p2 p1 (by first | assumption | omega) (by first | assumption | omega)) (lw_V q1243 q1144 q1145 q151 q1146) rfl rfl (by decide +kernel) ⟨Nat.le_of_ble_eq_true rfl, Nat.le_of_ble_eq_true rfl⟩ rfl hl.1 rfl (Nat.le_of_ble_eq_true rfl) ⟨Nat.le_of_ble_eq_true rfl, Nat.le_of_ble_eq_true rfl⟩ dX0_lend_65 (fun r65 σ65 H locs eσ65 er65 hE65 h => ?_)
      have h : wH (dL g) σ45 s H locs := by rw [eσ65] at h; exact h
      clear hE65
      clear eσ65
      have he : f_X0_lend σ p1 p2 p3 = (σ45, r65) := (by have eσ45 := eσ45.symm; subst eσ45; have er65 := er65.symm; subst er65; exact (ej45.trans ((if_pos c52).trans rfl)))
      exact w_reti (wXL g) C h hr hlocks (congrArg Prod.fst he) (congrArg Prod.snd he) ⟨hlpq, hldq⟩ dX0_lend_68
    · have i52 := c_nle c52
      refine lv_iconst (v := -1) hx hb dX0_lend_55 (by decide) ?_
      refine lv_goto (tgt := 68) hx hb dX0_lend_56 (by decide) ?_
      have he : f_X0_lend σ p1 p2 p3 = (σ45, (-1 : Int32)) := (by have eσ45 := eσ45.symm; subst eσ45; exact (ej45.trans ((if_neg c52).trans rfl)))
      exact w_reti (wXL g) C h hr hlocks (congrArg Prod.fst he) (congrArg Prod.snd he) ⟨hlpq, hldq⟩ dX0_lend_68
  refine lv_if_eq (tgt := 22) hx hb dX0_lend_7 (by decide) (fun c7 => ?_) (fun c7 => ?_)
  · have i7 := c_eq c7
    refine lv_iconst (v := 1) hx hb dX0_lend_22 (by decide) ?_
    refine lv_goto (tgt := 45) hx hb dX0_lend_23 (by decide) ?_
    exact j45 _ _ _ _ _ (by have er4 := er4.symm; subst er4; exact ((if_pos c7).trans rfl)) (by first | assumption | omega) hlp hld hlpq hldq h (lv_sub hl [0, 1, 2] rfl)
  · have i7 := c_ne c7
    have okr4 := lAreTwo_ok hlp er4 c7
    refine lv_iload_n hx hb dX0_lend_10 rfl (lv_at hl 3 rfl) ?_
    refine lv_i2l (v := p3.toInt64) hx hb dX0_lend_11 rfl ?_
    refine lv_lconst (v := 1) hx hb dX0_lend_12 (by decide) ?_
    refine lv_ldc2 hx hb hown (hts _ q1125) dX0_lend_13 ?_
    refine s_callz (As := [.long p3.toInt64, .long (1 : Int64), .long (9999 : Int64)]) (rest := [.ref (g.2.2.1 99)]) 3 C.1 (k_X0_isIn l p3.toInt64 (1 : Int64) (9999 : Int64)) (lw_S q994 q995 q144 q996) rfl rfl (by decide +kernel) ⟨Nat.le_of_ble_eq_true rfl, Nat.le_of_ble_eq_true rfl⟩ rfl hl.1 rfl (Nat.le_of_ble_eq_true rfl) ⟨Nat.le_of_ble_eq_true rfl, Nat.le_of_ble_eq_true rfl⟩ dX0_lend_16 h.2.2.1 (fun r16 H locs er16 br16 hz1 hk1 hS1 => ?_)
    have h := h.same hk1 hS1
    clear hz1 hk1 hS1
    refine lv_if_ne (tgt := 26) hx hb dX0_lend_19 (by decide) (fun c19 => ?_) (fun c19 => ?_)
    · have i19 := c_ne c19
      have okr16 := lIsIn_ok er16 c19
      refine lv_aload_n hx hb dX0_lend_26 rfl (lv_at hl 0 rfl) ?_
      refine L_at (rest := [.ref (g.2.2.1 99)]) C h ⟨Nat.le_of_ble_eq_true rfl, Nat.le_of_ble_eq_true rfl⟩ hl.1 (Nat.le_of_ble_eq_true rfl) ⟨Nat.le_of_ble_eq_true rfl, Nat.le_of_ble_eq_true rfl⟩ dX0_lend_27 (fun H locs h => ?_)
      refine lv_iload_n hx hb dX0_lend_30 rfl (lv_at hl 1 rfl) ?_
      refine lv_iload_n hx hb dX0_lend_31 rfl (lv_at hl 2 rfl) ?_
      refine lv_iload_n hx hb dX0_lend_32 rfl (lv_at hl 3 rfl) ?_
      refine L_tcallz (As := [.int p1, .int p2, .int p3]) (rest := [.ref (g.2.2.1 99)]) 3 C h (k_X5_lends l g.1 (ttb σ) p1 p2 p3 (by first | assumption | omega) (by first | assumption | omega) (by first | assumption | omega) (by first | assumption | omega)) (lw_V q1248 q1249 q1250 q151 q1251) rfl rfl (by decide +kernel) ⟨Nat.le_of_ble_eq_true rfl, Nat.le_of_ble_eq_true rfl⟩ rfl hl.1 rfl (Nat.le_of_ble_eq_true rfl) ⟨Nat.le_of_ble_eq_true rfl, Nat.le_of_ble_eq_true rfl⟩ dX0_lend_33 (fun r33 σ33 H locs eσ33 er33 br33 hE33 h => ?_)
      have hE33 : ((gi (ttb σ33) 1).toInt = (gi (ttb σ) 1).toInt) ∧ ((gi (ttb σ33) 3).toInt = (gi (ttb σ) 3).toInt) ∧ (Fr [6, 7] [11, 12, 13] (fun _ => False) (fun _ => False) (ttb σ) (ttb σ33)) := hE33
      obtain ⟨htpq_33, htdq_33, hXF_33⟩ := hE33
      have hNEW : (0 ≤ (gi (ttb σ33) 1).toInt ∧ (gi (ttb σ33) 1).toInt ≤ 6) ∧ (0 ≤ (gi (ttb σ33) 3).toInt ∧ (gi (ttb σ33) 3).toInt ≤ 16 ∧ (gi (ttb σ33) 3).toInt ≤ (g.1.2.1 50 : Int)) ∧ ((gi (ttb σ33) 1).toInt = (gi (ttb σ) 1).toInt) ∧ ((gi (ttb σ33) 3).toInt = (gi (ttb σ) 3).toInt) := ⟨(by first | assumption | omega), (by first | assumption | omega), (by first | assumption | omega), (by first | assumption | omega)⟩
      obtain ⟨hlp, hld, hlpq, hldq⟩ := hNEW
      refine lv_if_eq (tgt := 43) hx hb dX0_lend_36 (by decide) (fun c36 => ?_) (fun c36 => ?_)
      · have i36 := c_eq c36
        refine lv_bipush (v := 7) hx hb dX0_lend_43 (by decide) ?_
        exact j45 _ _ _ _ _ (by have er4 := er4.symm; subst er4; have er16 := er16.symm; subst er16; have eσ33 := eσ33.symm; subst eσ33; have er33 := er33.symm; subst er33; exact ((if_neg c7).trans ((if_neg c19).trans ((if_pos c36).trans rfl)))) (by first | assumption | omega) hlp hld hlpq hldq h (lv_sub hl [0, 1, 2] rfl)
      · have i36 := c_ne c36
        refine lv_iconst (v := 0) hx hb dX0_lend_39 (by decide) ?_
        refine lv_goto (tgt := 45) hx hb dX0_lend_40 (by decide) ?_
        exact j45 _ _ _ _ _ (by have er4 := er4.symm; subst er4; have er16 := er16.symm; subst er16; have eσ33 := eσ33.symm; subst eσ33; have er33 := er33.symm; subst er33; exact ((if_neg c7).trans ((if_neg c19).trans ((if_neg c36).trans rfl)))) (by first | assumption | omega) hlp hld hlpq hldq h (lv_sub hl [0, 1, 2] rfl)
    · have i19 := c_eq c19
      refine lv_iconst (v := 1) hx hb dX0_lend_22 (by decide) ?_
      refine lv_goto (tgt := 45) hx hb dX0_lend_23 (by decide) ?_
      exact j45 _ _ _ _ _ (by have er4 := er4.symm; subst er4; have er16 := er16.symm; subst er16; exact ((if_neg c7).trans ((if_pos c19).trans rfl))) (by first | assumption | omega) hlp hld hlpq hldq h (lv_sub hl [0, 1, 2] rfl)
def f_X0_balance (σ : MS × MS) (p1 : Int32) : (MS × MS) × Int32 := (let r3 := (f_X0_isPerson σ p1); (let z14_ : Int32 := (if r3 = (0 : Int32) then ((1 : Int32)) else ((0 : Int32))); let t0_14 := z14_; (let σ14 := lsi σ 7 t0_14; if (gi (own σ14) 7) ≤ (0 : Int32) then ((let r33 := (f_X5_balance (ttb σ14) p1); (σ14, r33))) else ((σ14, (-1 : Int32))))))
set_option maxHeartbeats 4000000 in
set_option maxRecDepth 100000 in
theorem k_X0_balance (l : Launch) (g : GL) (σ : MS × MS) (p1 : Int32) (hlp : 0 ≤ (gi (ttb σ) 1).toInt ∧ (gi (ttb σ) 1).toInt ≤ 6) (hld : 0 ≤ (gi (ttb σ) 3).toInt ∧ (gi (ttb σ) 3).toInt ≤ 16 ∧ (gi (ttb σ) 3).toInt ≤ (g.1.2.1 50 : Int)) : Met l yX0_balance (ws_ yX0_balance cX0_balance 2 (some .int)) ({ frames := 2, cells := 0, slots := 0, locals := 46 } : Room) (wPc (dL g) (g.2.2.1 99) σ [.int p1]) (wQi (dL g) (f_X0_balance σ p1).1 (f_X0_balance σ p1).2 (fun u r => ((gi (ttb u) 1).toInt = (gi (ttb σ) 1).toInt) ∧ ((gi (ttb u) 3).toInt = (gi (ttb σ) 3).toInt))) 0 0 (dL g).2.2.2.1 := by
  refine met_W RX0 (by decide) rfl (Nat.le_of_ble_eq_true rfl) ?_
  intro p e s m args below meth c C hr hlocks h ls hl
  have hx := C.1.1
  have hb := C.1.2.1
  have hml := C.1.2.2.1
  have hown := C.1.2.2.2.1
  have hts := C.1.2.2.2.2
  have hl : lv_has ls 2 [(0, .ref (g.2.2.1 99)), (1, .int p1)] := hl
  have hlpq : (gi (ttb σ) 1).toInt = (gi (ttb σ) 1).toInt := rfl
  have hldq : (gi (ttb σ) 3).toInt = (gi (ttb σ) 3).toInt := rfl
  have zlm1 : (-1 : Int32).toInt = -1 := rfl
  have zl0 : (0 : Int32).toInt = 0 := rfl
  have zl1 : (1 : Int32).toInt = 1 := rfl
  refine lv_aload_n hx hb dX0_balance_0 rfl (lv_at hl 0 rfl) ?_
  refine lv_aload_n hx hb dX0_balance_1 rfl (lv_at hl 0 rfl) ?_
  refine lv_iload_n hx hb dX0_balance_2 rfl (lv_at hl 1 rfl) ?_
  refine w_callz (ci := 0) (q0 := 6) (As := [.int p1]) (rest := [.ref (g.2.2.1 99)]) 1 (wXL g) C h (k_X0_isPerson l g σ p1 (by first | assumption | omega)) (lw_V q1024 q1026 qs41 q144 q1027) rfl rfl rfl rfl (by decide +kernel) ⟨Nat.le_of_ble_eq_true rfl, Nat.le_of_ble_eq_true rfl⟩ rfl hl.1 rfl (Nat.le_of_ble_eq_true rfl) ⟨Nat.le_of_ble_eq_true rfl, Nat.le_of_ble_eq_true rfl⟩ dX0_balance_3 (fun r3 σ3 H locs eσ3 er3 br3 hE3 h => ?_)
  rw [eσ3] at h
  clear hE3
  clear eσ3
  have j14 : ∀ (t0_14 : Int32) (H : Heap) (locs : List Loc) (ls : Array Slot) (ej14 : (if r3 = (0 : Int32) then ((1 : Int32)) else ((0 : Int32))) = t0_14) (bt0_14 : t0_14 = 0 ∨ t0_14 = 1) (hI14 : (0 < t0_14.toInt) ∨ (0 ≤ p1.toInt ∧ p1.toInt < (gi (ttb σ) 1).toInt)) (h : wH (dL g) σ s H locs) (hl : lv_has ls 2 [(0, .ref (g.2.2.1 99)), (1, .int p1)]), W p l e ({ frames := 2, cells := 0, slots := 0, locals := 46 } : Room) s m args below meth c H locs 0 0 (MQ below (wQi (dL g) (f_X0_balance σ p1).1 (f_X0_balance σ p1).2 (fun u r => ((gi (ttb u) 1).toInt = (gi (ttb σ) 1).toInt) ∧ ((gi (ttb u) 3).toInt = (gi (ttb σ) 3).toInt))) args s 0 0 (dL g).2.2.2.1) (F0 m 14 ls [.int t0_14, .ref (g.2.2.1 99)]) := by
    intro t0_14 H locs ls ej14 bt0_14 hI14 h hl
    have et0_14 := ej14.symm
    refine L_p7 C h dX0_balance_14 (fun σ14 H locs eσ14 h => ?_)
    have hNEW : (0 ≤ (gi (ttb σ14) 1).toInt ∧ (gi (ttb σ14) 1).toInt ≤ 6) ∧ (0 ≤ (gi (ttb σ14) 3).toInt ∧ (gi (ttb σ14) 3).toInt ≤ 16 ∧ (gi (ttb σ14) 3).toInt ≤ (g.1.2.1 50 : Int)) ∧ ((gi (ttb σ14) 1).toInt = (gi (ttb σ) 1).toInt) ∧ ((gi (ttb σ14) 3).toInt = (gi (ttb σ) 3).toInt) := ⟨(by rw [eσ14] <;> exact hlp), (by rw [eσ14] <;> exact hld), (by rw [eσ14] <;> exact hlpq), (by rw [eσ14] <;> exact hldq)⟩
    obtain ⟨hlp, hld, hlpq, hldq⟩ := hNEW
    have q7_14 : (gi (own σ14) 7).toInt = t0_14.toInt := by rw [eσ14]; rfl
    refine lv_aload_n hx hb dX0_balance_17 rfl (lv_at hl 0 rfl) ?_
    refine L_g7 C h dX0_balance_18 ?_
    refine lv_if_le (tgt := 28) hx hb dX0_balance_21 (by decide) (fun c21 => ?_) (fun c21 => ?_)
    · have i21 := c_le c21
      refine lv_aload_n hx hb dX0_balance_28 rfl (lv_at hl 0 rfl) ?_
      refine L_at (rest := []) C h ⟨Nat.le_of_ble_eq_true rfl, Nat.le_of_ble_eq_true rfl⟩ hl.1 (Nat.le_of_ble_eq_true rfl) ⟨Nat.le_of_ble_eq_true rfl, Nat.le_of_ble_eq_true rfl⟩ dX0_balance_29 (fun H locs h => ?_)
      refine lv_iload_n hx hb dX0_balance_32 rfl (lv_at hl 1 rfl) ?_
      refine L_tcalli (As := [.int p1]) (rest := []) 1 C h (k_X5_balance l g.1 (ttb σ14) p1 (by first | assumption | omega) (by first | assumption | omega)) (lw_V q1234 q1163 q1164 q151 q1165) rfl rfl (by decide +kernel) ⟨Nat.le_of_ble_eq_true rfl, Nat.le_of_ble_eq_true rfl⟩ rfl hl.1 rfl (Nat.le_of_ble_eq_true rfl) ⟨Nat.le_of_ble_eq_true rfl, Nat.le_of_ble_eq_true rfl⟩ dX0_balance_33 (fun r33 σ33 H locs eσ33 er33 hE33 h => ?_)
      have h : wH (dL g) σ14 s H locs := by rw [eσ33] at h; exact h
      clear hE33
      clear eσ33
      have he : f_X0_balance σ p1 = (σ14, r33) := (by have er3 := er3.symm; subst er3; have et0_14 := et0_14.symm; subst et0_14; have eσ14 := eσ14.symm; subst eσ14; have er33 := er33.symm; subst er33; exact ((if_pos c21).trans rfl))
      exact w_reti (wXL g) C h hr hlocks (congrArg Prod.fst he) (congrArg Prod.snd he) ⟨hlpq, hldq⟩ dX0_balance_36
    · have i21 := c_nle c21
      refine lv_iconst (v := -1) hx hb dX0_balance_24 (by decide) ?_
      refine lv_goto (tgt := 36) hx hb dX0_balance_25 (by decide) ?_
      have he : f_X0_balance σ p1 = (σ14, (-1 : Int32)) := (by have er3 := er3.symm; subst er3; have et0_14 := et0_14.symm; subst et0_14; have eσ14 := eσ14.symm; subst eσ14; exact ((if_neg c21).trans rfl))
      exact w_reti (wXL g) C h hr hlocks (congrArg Prod.fst he) (congrArg Prod.snd he) ⟨hlpq, hldq⟩ dX0_balance_36
  refine lv_if_eq (tgt := 13) hx hb dX0_balance_6 (by decide) (fun c6 => ?_) (fun c6 => ?_)
  · have i6 := c_eq c6
    refine lv_iconst (v := 1) hx hb dX0_balance_13 (by decide) ?_
    exact j14 _ _ _ _ (by exact ((if_pos c6).trans rfl)) (Or.inr rfl) (by first | assumption | omega) h hl
  · have i6 := c_ne c6
    have okr3 := lIsPerson_ok hlp er3 c6
    refine lv_iconst (v := 0) hx hb dX0_balance_9 (by decide) ?_
    refine lv_goto (tgt := 14) hx hb dX0_balance_10 (by decide) ?_
    exact j14 _ _ _ _ (by exact ((if_neg c6).trans rfl)) (Or.inl rfl) (by first | assumption | omega) h hl
def f_X0_quits (σ : MS × MS) (p1 : Int32) (p2 : Int32) : (MS × MS) × Int32 := (let r4 := (f_X0_areTwo σ p1 p2); (let z15_ : Int32 := (if r4 = (0 : Int32) then ((1 : Int32)) else ((0 : Int32))); let t0_15 := z15_; (let σ15 := lsi σ 7 t0_15; if (gi (own σ15) 7) ≤ (0 : Int32) then ((let r33 := (f_X5_owes (ttb σ15) p1 p2); let r42 := (f_X5_owes (ttb σ15) p2 p1); let v48 := (jmin r33 r42); let r61 := (f_X5_owes (ttb σ15) p1 p2); let σ66 := tput σ15 (f_X5_owe (ttb σ15) p1 p2 (r61 - v48)); let r81 := (f_X5_owes (ttb σ66) p2 p1); let σ86 := tput σ66 (f_X5_owe (ttb σ66) p2 p1 (r81 - v48)); (σ86, v48))) else ((σ15, (-1 : Int32))))))
set_option maxHeartbeats 4000000 in
set_option maxRecDepth 100000 in
theorem k_X0_quits (l : Launch) (g : GL) (σ : MS × MS) (p1 : Int32) (p2 : Int32) (hlp : 0 ≤ (gi (ttb σ) 1).toInt ∧ (gi (ttb σ) 1).toInt ≤ 6) (hld : 0 ≤ (gi (ttb σ) 3).toInt ∧ (gi (ttb σ) 3).toInt ≤ 16 ∧ (gi (ttb σ) 3).toInt ≤ (g.1.2.1 50 : Int)) : Met l yX0_quits (ws_ yX0_quits cX0_quits 4 (some .int)) ({ frames := 3, cells := 0, slots := 0, locals := 68 } : Room) (wPc (dL g) (g.2.2.1 99) σ [.int p1, .int p2]) (wQi (dL g) (f_X0_quits σ p1 p2).1 (f_X0_quits σ p1 p2).2 (fun u r => ((gi (ttb u) 1).toInt = (gi (ttb σ) 1).toInt) ∧ ((gi (ttb u) 3).toInt = (gi (ttb σ) 3).toInt))) 0 0 (dL g).2.2.2.1 := by
  refine met_W RX0 (by decide) rfl (Nat.le_of_ble_eq_true rfl) ?_
  intro p e s m args below meth c C hr hlocks h ls hl
  have hx := C.1.1
  have hb := C.1.2.1
  have hml := C.1.2.2.1
  have hown := C.1.2.2.2.1
  have hts := C.1.2.2.2.2
  have hl : lv_has ls 4 [(0, .ref (g.2.2.1 99)), (1, .int p1), (2, .int p2)] := hl
  have hlpq : (gi (ttb σ) 1).toInt = (gi (ttb σ) 1).toInt := rfl
  have hldq : (gi (ttb σ) 3).toInt = (gi (ttb σ) 3).toInt := rfl
  have zlm1 : (-1 : Int32).toInt = -1 := rfl
  have zl0 : (0 : Int32).toInt = 0 := rfl
  have zl1 : (1 : Int32).toInt = 1 := rfl
  refine lv_aload_n hx hb dX0_quits_0 rfl (lv_at hl 0 rfl) ?_
  refine lv_aload_n hx hb dX0_quits_1 rfl (lv_at hl 0 rfl) ?_
  refine lv_iload_n hx hb dX0_quits_2 rfl (lv_at hl 1 rfl) ?_
  refine lv_iload_n hx hb dX0_quits_3 rfl (lv_at hl 2 rfl) ?_
  refine w_callz (ci := 0) (q0 := 6) (As := [.int p1, .int p2]) (rest := [.ref (g.2.2.1 99)]) 2 (wXL g) C h (k_X0_areTwo l g σ p1 p2 (by first | assumption | omega)) (lw_V q1178 q1180 qs48 q144 q1181) rfl rfl rfl rfl (by decide +kernel) ⟨Nat.le_of_ble_eq_true rfl, Nat.le_of_ble_eq_true rfl⟩ rfl hl.1 rfl (Nat.le_of_ble_eq_true rfl) ⟨Nat.le_of_ble_eq_true rfl, Nat.le_of_ble_eq_true rfl⟩ dX0_quits_4 (fun r4 σ4 H locs eσ4 er4 br4 hE4 h => ?_)
  rw [eσ4] at h
  clear hE4
  clear eσ4
  have j15 : ∀ (t0_15 : Int32) (H : Heap) (locs : List Loc) (ls : Array Slot) (ej15 : (if r4 = (0 : Int32) then ((1 : Int32)) else ((0 : Int32))) = t0_15) (bt0_15 : t0_15 = 0 ∨ t0_15 = 1) (hI15 : (0 < t0_15.toInt) ∨ (0 ≤ p1.toInt ∧ p1.toInt < (gi (ttb σ) 1).toInt ∧ 0 ≤ p2.toInt ∧ p2.toInt < (gi (ttb σ) 1).toInt)) (h : wH (dL g) σ s H locs) (hl : lv_has ls 4 [(0, .ref (g.2.2.1 99)), (1, .int p1), (2, .int p2)]), W p l e ({ frames := 3, cells := 0, slots := 0, locals := 68 } : Room) s m args below meth c H locs 0 0 (MQ below (wQi (dL g) (f_X0_quits σ p1 p2).1 (f_X0_quits σ p1 p2).2 (fun u r => ((gi (ttb u) 1).toInt = (gi (ttb σ) 1).toInt) ∧ ((gi (ttb u) 3).toInt = (gi (ttb σ) 3).toInt))) args s 0 0 (dL g).2.2.2.1) (F0 m 15 ls [.int t0_15, .ref (g.2.2.1 99)]) := by
    intro t0_15 H locs ls ej15 bt0_15 hI15 h hl
    have et0_15 := ej15.symm
    refine L_p7 C h dX0_quits_15 (fun σ15 H locs eσ15 h => ?_)
    have hNEW : (0 ≤ (gi (ttb σ15) 1).toInt ∧ (gi (ttb σ15) 1).toInt ≤ 6) ∧ (0 ≤ (gi (ttb σ15) 3).toInt ∧ (gi (ttb σ15) 3).toInt ≤ 16 ∧ (gi (ttb σ15) 3).toInt ≤ (g.1.2.1 50 : Int)) ∧ ((gi (ttb σ15) 1).toInt = (gi (ttb σ) 1).toInt) ∧ ((gi (ttb σ15) 3).toInt = (gi (ttb σ) 3).toInt) := ⟨(by rw [eσ15] <;> exact hlp), (by rw [eσ15] <;> exact hld), (by rw [eσ15] <;> exact hlpq), (by rw [eσ15] <;> exact hldq)⟩
    obtain ⟨hlp, hld, hlpq, hldq⟩ := hNEW
    have q7_15 : (gi (own σ15) 7).toInt = t0_15.toInt := by rw [eσ15]; rfl
    refine lv_aload_n hx hb dX0_quits_18 rfl (lv_at hl 0 rfl) ?_
    refine L_g7 C h dX0_quits_19 ?_
    refine lv_if_le (tgt := 27) hx hb dX0_quits_22 (by decide) (fun c22 => ?_) (fun c22 => ?_)
    · have i22 := c_le c22
      refine lv_aload_n hx hb dX0_quits_27 rfl (lv_at hl 0 rfl) ?_
      refine L_at (rest := []) C h ⟨Nat.le_of_ble_eq_true rfl, Nat.le_of_ble_eq_true rfl⟩ hl.1 (Nat.le_of_ble_eq_true rfl) ⟨Nat.le_of_ble_eq_true rfl, Nat.le_of_ble_eq_true rfl⟩ dX0_quits_28 (fun H locs h => ?_)
      refine lv_iload_n hx hb dX0_quits_31 rfl (lv_at hl 1 rfl) ?_
      refine lv_iload_n hx hb dX0_quits_32 rfl (lv_at hl 2 rfl) ?_
      refine L_tcalli (As := [.int p1, .int p2]) (rest := []) 2 C h (k_X5_owes l g.1 (ttb σ15) p1 p2 (by first | assumption | omega) (by first | assumption | omega)) (lw_V q1243 q1144 q1145 q151 q1146) rfl rfl (by decide +kernel) ⟨Nat.le_of_ble_eq_true rfl, Nat.le_of_ble_eq_true rfl⟩ rfl hl.1 rfl (Nat.le_of_ble_eq_true rfl) ⟨Nat.le_of_ble_eq_true rfl, Nat.le_of_ble_eq_true rfl⟩ dX0_quits_33 (fun r33 σ33 H locs eσ33 er33 hE33 h => ?_)
      have h : wH (dL g) σ15 s H locs := by rw [eσ33] at h; exact h
      clear hE33
      clear eσ33
      refine lv_aload_n hx hb dX0_quits_36 rfl (lv_at hl 0 rfl) ?_
      refine L_at (rest := [.int r33]) C h ⟨Nat.le_of_ble_eq_true rfl, Nat.le_of_ble_eq_true rfl⟩ hl.1 (Nat.le_of_ble_eq_true rfl) ⟨Nat.le_of_ble_eq_true rfl, Nat.le_of_ble_eq_true rfl⟩ dX0_quits_37 (fun H locs h => ?_)
      refine lv_iload_n hx hb dX0_quits_40 rfl (lv_at hl 2 rfl) ?_
      refine lv_iload_n hx hb dX0_quits_41 rfl (lv_at hl 1 rfl) ?_
      refine L_tcalli (As := [.int p2, .int p1]) (rest := [.int r33]) 2 C h (k_X5_owes l g.1 (ttb σ15) p2 p1 (by first | assumption | omega) (by first | assumption | omega)) (lw_V q1243 q1144 q1145 q151 q1146) rfl rfl (by decide +kernel) ⟨Nat.le_of_ble_eq_true rfl, Nat.le_of_ble_eq_true rfl⟩ rfl hl.1 rfl (Nat.le_of_ble_eq_true rfl) ⟨Nat.le_of_ble_eq_true rfl, Nat.le_of_ble_eq_true rfl⟩ dX0_quits_42 (fun r42 σ42 H locs eσ42 er42 hE42 h => ?_)
      have h : wH (dL g) σ15 s H locs := by rw [eσ42] at h; exact h
      clear hE42
      clear eσ42
      refine va_mmin hx hb (hml.trans hl.1.symm) hown (hts _ q1260) (hts _ q1261) (hts _ q164) (hts _ q1262) (Nat.le_of_ble_eq_true rfl) (Nat.le_of_ble_eq_true rfl) (Nat.le_of_ble_eq_true rfl) (Nat.le_of_ble_eq_true rfl) dX0_quits_45 ?_
      refine lv_topi (fun v48 ev48 => ?_)
      refine lv_istore_n (lv' := [(3, .int v48), (0, .ref (g.2.2.1 99)), (1, .int p1), (2, .int p2)]) hx hb dX0_quits_48 rfl hl (by decide) rfl (fun ls hl => ?_)
      refine lv_aload_n hx hb dX0_quits_49 rfl (lv_at hl 1 rfl) ?_
      refine L_at (rest := []) C h ⟨Nat.le_of_ble_eq_true rfl, Nat.le_of_ble_eq_true rfl⟩ hl.1 (Nat.le_of_ble_eq_true rfl) ⟨Nat.le_of_ble_eq_true rfl, Nat.le_of_ble_eq_true rfl⟩ dX0_quits_50 (fun H locs h => ?_)
      refine lv_iload_n hx hb dX0_quits_53 rfl (lv_at hl 2 rfl) ?_
      refine lv_iload_n hx hb dX0_quits_54 rfl (lv_at hl 3 rfl) ?_
      refine lv_aload_n hx hb dX0_quits_55 rfl (lv_at hl 1 rfl) ?_
      refine L_at (rest := [.int p2, .int p1, .ref (g.1.2.1 99)]) C h ⟨Nat.le_of_ble_eq_true rfl, Nat.le_of_ble_eq_true rfl⟩ hl.1 (Nat.le_of_ble_eq_true rfl) ⟨Nat.le_of_ble_eq_true rfl, Nat.le_of_ble_eq_true rfl⟩ dX0_quits_56 (fun H locs h => ?_)
      refine lv_iload_n hx hb dX0_quits_59 rfl (lv_at hl 2 rfl) ?_
      refine lv_iload_n hx hb dX0_quits_60 rfl (lv_at hl 3 rfl) ?_
      refine L_tcalli (As := [.int p1, .int p2]) (rest := [.int p2, .int p1, .ref (g.1.2.1 99)]) 2 C h (k_X5_owes l g.1 (ttb σ15) p1 p2 (by first | assumption | omega) (by first | assumption | omega)) (lw_V q1243 q1144 q1145 q151 q1146) rfl rfl (by decide +kernel) ⟨Nat.le_of_ble_eq_true rfl, Nat.le_of_ble_eq_true rfl⟩ rfl hl.1 rfl (Nat.le_of_ble_eq_true rfl) ⟨Nat.le_of_ble_eq_true rfl, Nat.le_of_ble_eq_true rfl⟩ dX0_quits_61 (fun r61 σ61 H locs eσ61 er61 hE61 h => ?_)
      have h : wH (dL g) σ15 s H locs := by rw [eσ61] at h; exact h
      clear hE61
      clear eσ61
      refine lv_iload_n hx hb dX0_quits_64 rfl (lv_at hl 0 rfl) ?_
      refine lv_isub hx hb dX0_quits_65 ?_
      refine L_tcallv (As := [.int p1, .int p2, .int (r61 - v48)]) (rest := []) 3 C h (k_X5_owe l g.1 (ttb σ15) p1 p2 (r61 - v48) (by first | assumption | omega) (by first | assumption | omega) (by first | assumption | omega) (by first | assumption | omega)) (lw_V q1263 q846 q847 q151 q848) rfl rfl (by decide +kernel) ⟨Nat.le_of_ble_eq_true rfl, Nat.le_of_ble_eq_true rfl⟩ rfl hl.1 rfl (Nat.le_of_ble_eq_true rfl) ⟨Nat.le_of_ble_eq_true rfl, Nat.le_of_ble_eq_true rfl⟩ dX0_quits_66 (fun σ66 H locs eσ66 hE66 h => ?_)
      have hE66 : ((gi (ttb σ66) 1).toInt = (gi (ttb σ15) 1).toInt) ∧ ((gi (ttb σ66) 3).toInt = (gi (ttb σ15) 3).toInt) ∧ (Fr [6, 7] [11, 12, 13] (fun _ => False) (fun _ => False) (ttb σ15) (ttb σ66)) := hE66
      obtain ⟨htpq_66, htdq_66, hXF_66⟩ := hE66
      have hNEW : (0 ≤ (gi (ttb σ66) 1).toInt ∧ (gi (ttb σ66) 1).toInt ≤ 6) ∧ (0 ≤ (gi (ttb σ66) 3).toInt ∧ (gi (ttb σ66) 3).toInt ≤ 16 ∧ (gi (ttb σ66) 3).toInt ≤ (g.1.2.1 50 : Int)) ∧ ((gi (ttb σ66) 1).toInt = (gi (ttb σ) 1).toInt) ∧ ((gi (ttb σ66) 3).toInt = (gi (ttb σ) 3).toInt) := ⟨(by first | assumption | omega), (by first | assumption | omega), (by first | assumption | omega), (by first | assumption | omega)⟩
      clear hlp hld hlpq hldq
      obtain ⟨hlp, hld, hlpq, hldq⟩ := hNEW
      refine lv_aload_n hx hb dX0_quits_69 rfl (lv_at hl 1 rfl) ?_
      refine L_at (rest := []) C h ⟨Nat.le_of_ble_eq_true rfl, Nat.le_of_ble_eq_true rfl⟩ hl.1 (Nat.le_of_ble_eq_true rfl) ⟨Nat.le_of_ble_eq_true rfl, Nat.le_of_ble_eq_true rfl⟩ dX0_quits_70 (fun H locs h => ?_)
      refine lv_iload_n hx hb dX0_quits_73 rfl (lv_at hl 3 rfl) ?_
      refine lv_iload_n hx hb dX0_quits_74 rfl (lv_at hl 2 rfl) ?_
      refine lv_aload_n hx hb dX0_quits_75 rfl (lv_at hl 1 rfl) ?_
      refine L_at (rest := [.int p1, .int p2, .ref (g.1.2.1 99)]) C h ⟨Nat.le_of_ble_eq_true rfl, Nat.le_of_ble_eq_true rfl⟩ hl.1 (Nat.le_of_ble_eq_true rfl) ⟨Nat.le_of_ble_eq_true rfl, Nat.le_of_ble_eq_true rfl⟩ dX0_quits_76 (fun H locs h => ?_)
      refine lv_iload_n hx hb dX0_quits_79 rfl (lv_at hl 3 rfl) ?_
      refine lv_iload_n hx hb dX0_quits_80 rfl (lv_at hl 2 rfl) ?_
      refine L_tcalli (As := [.int p2, .int p1]) (rest := [.int p1, .int p2, .ref (g.1.2.1 99)]) 2 C h (k_X5_owes l g.1 (ttb σ66) p2 p1 (by first | assumption | omega) (by first | assumption | omega)) (lw_V q1243 q1144 q1145 q151 q1146) rfl rfl (by decide +kernel) ⟨Nat.le_of_ble_eq_true rfl, Nat.le_of_ble_eq_true rfl⟩ rfl hl.1 rfl (Nat.le_of_ble_eq_true rfl) ⟨Nat.le_of_ble_eq_true rfl, Nat.le_of_ble_eq_true rfl⟩ dX0_quits_81 (fun r81 σ81 H locs eσ81 er81 hE81 h => ?_)
      have h : wH (dL g) σ66 s H locs := by rw [eσ81] at h; exact h
      clear hE81
      clear eσ81
      refine lv_iload_n hx hb dX0_quits_84 rfl (lv_at hl 0 rfl) ?_
      refine lv_isub hx hb dX0_quits_85 ?_
      refine L_tcallv (As := [.int p2, .int p1, .int (r81 - v48)]) (rest := []) 3 C h (k_X5_owe l g.1 (ttb σ66) p2 p1 (r81 - v48) (by first | assumption | omega) (by first | assumption | omega) (by first | assumption | omega) (by first | assumption | omega)) (lw_V q1263 q846 q847 q151 q848) rfl rfl (by decide +kernel) ⟨Nat.le_of_ble_eq_true rfl, Nat.le_of_ble_eq_true rfl⟩ rfl hl.1 rfl (Nat.le_of_ble_eq_true rfl) ⟨Nat.le_of_ble_eq_true rfl, Nat.le_of_ble_eq_true rfl⟩ dX0_quits_86 (fun σ86 H locs eσ86 hE86 h => ?_)
      have hE86 : ((gi (ttb σ86) 1).toInt = (gi (ttb σ66) 1).toInt) ∧ ((gi (ttb σ86) 3).toInt = (gi (ttb σ66) 3).toInt) ∧ (Fr [6, 7] [11, 12, 13] (fun _ => False) (fun _ => False) (ttb σ66) (ttb σ86)) := hE86
      obtain ⟨htpq_86, htdq_86, hXF_86⟩ := hE86
      have hNEW : (0 ≤ (gi (ttb σ86) 1).toInt ∧ (gi (ttb σ86) 1).toInt ≤ 6) ∧ (0 ≤ (gi (ttb σ86) 3).toInt ∧ (gi (ttb σ86) 3).toInt ≤ 16 ∧ (gi (ttb σ86) 3).toInt ≤ (g.1.2.1 50 : Int)) ∧ ((gi (ttb σ86) 1).toInt = (gi (ttb σ) 1).toInt) ∧ ((gi (ttb σ86) 3).toInt = (gi (ttb σ) 3).toInt) := ⟨(by first | assumption | omega), (by first | assumption | omega), (by first | assumption | omega), (by first | assumption | omega)⟩
      clear hlp hld hlpq hldq
      obtain ⟨hlp, hld, hlpq, hldq⟩ := hNEW
      refine lv_iload_n hx hb dX0_quits_89 rfl (lv_at hl 0 rfl) ?_
      have he : f_X0_quits σ p1 p2 = (σ86, v48) := (by have er4 := er4.symm; subst er4; have et0_15 := et0_15.symm; subst et0_15; have eσ15 := eσ15.symm; subst eσ15; have er33 := er33.symm; subst er33; have er42 := er42.symm; subst er42; have ev48 := ev48.symm; subst ev48; have er61 := er61.symm; subst er61; have eσ66 := eσ66.symm; subst eσ66; have er81 := er81.symm; subst er81; have eσ86 := eσ86.symm; subst eσ86; exact ((if_pos c22).trans rfl))
      exact w_reti (wXL g) C h hr hlocks (congrArg Prod.fst he) (congrArg Prod.snd he) ⟨hlpq, hldq⟩ dX0_quits_90
    · have i22 := c_nle c22
      refine lv_iconst (v := -1) hx hb dX0_quits_25 (by decide) ?_
      have he : f_X0_quits σ p1 p2 = (σ15, (-1 : Int32)) := (by have er4 := er4.symm; subst er4; have et0_15 := et0_15.symm; subst et0_15; have eσ15 := eσ15.symm; subst eσ15; exact ((if_neg c22).trans rfl))
      exact w_reti (wXL g) C h hr hlocks (congrArg Prod.fst he) (congrArg Prod.snd he) ⟨hlpq, hldq⟩ dX0_quits_26
  refine lv_if_eq (tgt := 14) hx hb dX0_quits_7 (by decide) (fun c7 => ?_) (fun c7 => ?_)
  · have i7 := c_eq c7
    refine lv_iconst (v := 1) hx hb dX0_quits_14 (by decide) ?_
    exact j15 _ _ _ _ (by exact ((if_pos c7).trans rfl)) (Or.inr rfl) (by first | assumption | omega) h hl
  · have i7 := c_ne c7
    have okr4 := lAreTwo_ok hlp er4 c7
    refine lv_iconst (v := 0) hx hb dX0_quits_10 (by decide) ?_
    refine lv_goto (tgt := 15) hx hb dX0_quits_11 (by decide) ?_
    exact j15 _ _ _ _ (by exact ((if_neg c7).trans rfl)) (Or.inl rfl) (by first | assumption | omega) h hl
