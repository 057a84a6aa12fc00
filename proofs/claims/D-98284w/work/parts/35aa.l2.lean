/-! walks of methods by contract, printed by gen/mkwalk.py -/
set_option maxRecDepth 100000
def f_X0_duel (σ : MS × MS) (p1 : Int32) (p2 : Int32) : (MS × MS) × Int32 := (let r4 := (f_X0_whyNoDuel σ p1 p2); let σ7 := lsi σ 7 r4; (let jj34 := (fun (σJ34 : (MS × MS)) => if (gi (own σJ34) 7) = (0 : Int32) then ((σJ34, (1 : Int32))) else ((σJ34, (0 : Int32)))); if (gi (own σ7) 7) = (0 : Int32) then ((let r21 := (f_X0_stays σ7 p1 p2); let r27 := (f_X0_ending σ7 p1 p2); let z30 := (f_X0_fraction σ7 r21 r27); let σ30 := z30.1; let r30 := z30.2; jj34 σ30)) else (jj34 σ7)))
set_option maxHeartbeats 4000000 in
set_option maxRecDepth 100000 in
theorem k_X0_duel (l : Launch) (g : GL) (σ : MS × MS) (p1 : Int32) (p2 : Int32) (hlp : 0 ≤ (gi (ttb σ) 1).toInt ∧ (gi (ttb σ) 1).toInt ≤ 6) (hld : 0 ≤ (gi (ttb σ) 3).toInt ∧ (gi (ttb σ) 3).toInt ≤ 16 ∧ (gi (ttb σ) 3).toInt ≤ (g.1.2.1 50 : Int)) : Met l yX0_duel (ws_ yX0_duel cX0_duel 3 (some .boolean)) ({ frames := 4, cells := 0, slots := 0, locals := 90 } : Room) (wPc (dL g) (g.2.2.1 99) σ [.int p1, .int p2]) (wQz (dL g) (f_X0_duel σ p1 p2).1 (f_X0_duel σ p1 p2).2 (fun u r => ((gi (ttb u) 1).toInt = (gi (ttb σ) 1).toInt) ∧ ((gi (ttb u) 3).toInt = (gi (ttb σ) 3).toInt))) 0 0 (dL g).2.2.2.1 := by
  refine met_W RX0 (by decide) rfl (Nat.le_of_ble_eq_true rfl) ?_
  intro p e s m args below meth c C hr hlocks h ls hl
  have hx := C.1.1
  have hb := C.1.2.1
  have hml := C.1.2.2.1
  have hown := C.1.2.2.2.1
  have hts := C.1.2.2.2.2
  have hl : lv_has ls 3 [(0, .ref (g.2.2.1 99)), (1, .int p1), (2, .int p2)] := hl
  have hlpq : (gi (ttb σ) 1).toInt = (gi (ttb σ) 1).toInt := rfl
  have hldq : (gi (ttb σ) 3).toInt = (gi (ttb σ) 3).toInt := rfl
  have zl0 : (0 : Int32).toInt = 0 := rfl
  have zl1 : (1 : Int32).toInt = 1 := rfl
  refine lv_aload_n hx hb dX0_duel_0 rfl (lv_at hl 0 rfl) ?_
  refine lv_aload_n hx hb dX0_duel_1 rfl (lv_at hl 0 rfl) ?_
  refine lv_iload_n hx hb dX0_duel_2 rfl (lv_at hl 1 rfl) ?_
  refine lv_iload_n hx hb dX0_duel_3 rfl (lv_at hl 2 rfl) ?_
  refine w_calli (ci := 0) (q0 := 6) (As := [.int p1, .int p2]) (rest := [.ref (g.2.2.1 99)]) 2 (wXL g) C h (k_X0_whyNoDuel l g σ p1 p2 (by first | assumption | omega)) (lw_V q1174 q1176 qs47 q144 q1177) rfl rfl rfl rfl (by decide +kernel) ⟨Nat.le_of_ble_eq_true rfl, Nat.le_of_ble_eq_true rfl⟩ rfl hl.1 rfl (Nat.le_of_ble_eq_true rfl) ⟨Nat.le_of_ble_eq_true rfl, Nat.le_of_ble_eq_true rfl⟩ dX0_duel_4 (fun r4 σ4 H locs eσ4 er4 hE4 h => ?_)
  rw [eσ4] at h
  have hE4 : (Hd (r4.toInt = 0 → (0 ≤ p1.toInt ∧ p1.toInt < (gi (ttb σ) 1).toInt) ∧ (0 ≤ p2.toInt ∧ p2.toInt < (gi (ttb σ) 1).toInt) ∧ ¬ f_X0_ending σ p1 p2 = 0)) := hE4
  have wn_4 := hE4
  clear eσ4
  refine L_p7 C h dX0_duel_7 (fun σ7 H locs eσ7 h => ?_)
  have hNEW : (0 ≤ (gi (ttb σ7) 1).toInt ∧ (gi (ttb σ7) 1).toInt ≤ 6) ∧ (0 ≤ (gi (ttb σ7) 3).toInt ∧ (gi (ttb σ7) 3).toInt ≤ 16 ∧ (gi (ttb σ7) 3).toInt ≤ (g.1.2.1 50 : Int)) ∧ ((gi (ttb σ7) 1).toInt = (gi (ttb σ) 1).toInt) ∧ ((gi (ttb σ7) 3).toInt = (gi (ttb σ) 3).toInt) := ⟨(by rw [eσ7] <;> exact hlp), (by rw [eσ7] <;> exact hld), (by rw [eσ7] <;> exact hlpq), (by rw [eσ7] <;> exact hldq)⟩
  obtain ⟨hlp, hld, hlpq, hldq⟩ := hNEW
  have q7 : (gi (own σ7) 7).toInt = r4.toInt := by rw [eσ7]; rfl
  refine lv_aload_n hx hb dX0_duel_10 rfl (lv_at hl 0 rfl) ?_
  refine L_g7 C h dX0_duel_11 ?_
  have j34 : ∀ (σJ34 : (MS × MS)) (H : Heap) (locs : List Loc) (ls : Array Slot) (ej34 : f_X0_duel σ p1 p2 = if (gi (own σJ34) 7) = (0 : Int32) then ((σJ34, (1 : Int32))) else ((σJ34, (0 : Int32)))) (hlp : 0 ≤ (gi (ttb σJ34) 1).toInt ∧ (gi (ttb σJ34) 1).toInt ≤ 6) (hld : 0 ≤ (gi (ttb σJ34) 3).toInt ∧ (gi (ttb σJ34) 3).toInt ≤ 16 ∧ (gi (ttb σJ34) 3).toInt ≤ (g.1.2.1 50 : Int)) (hlpq : (gi (ttb σJ34) 1).toInt = (gi (ttb σ) 1).toInt) (hldq : (gi (ttb σJ34) 3).toInt = (gi (ttb σ) 3).toInt) (h : wH (dL g) σJ34 s H locs) (hl : lv_has ls 3 [(0, .ref (g.2.2.1 99))]), W p l e ({ frames := 4, cells := 0, slots := 0, locals := 90 } : Room) s m args below meth c H locs 0 0 (MQ below (wQz (dL g) (f_X0_duel σ p1 p2).1 (f_X0_duel σ p1 p2).2 (fun u r => ((gi (ttb u) 1).toInt = (gi (ttb σ) 1).toInt) ∧ ((gi (ttb u) 3).toInt = (gi (ttb σ) 3).toInt))) args s 0 0 (dL g).2.2.2.1) (F0 m 34 ls []) := by
    intro σJ34 H locs ls ej34 hlp hld hlpq hldq h hl
    refine lv_aload_n hx hb dX0_duel_34 rfl (lv_at hl 0 rfl) ?_
    refine L_g7 C h dX0_duel_35 ?_
    refine lv_if_ne (tgt := 45) hx hb dX0_duel_38 (by decide) (fun c38 => ?_) (fun c38 => ?_)
    · have i38 := c_ne c38
      refine lv_iconst (v := 0) hx hb dX0_duel_45 (by decide) ?_
      have he : f_X0_duel σ p1 p2 = (σJ34, (0 : Int32)) := (by exact (ej34.trans ((if_neg c38).trans rfl)))
      exact w_retz (wXL g) C h hr hlocks (congrArg Prod.fst he) (congrArg Prod.snd he) (Or.inl rfl) ⟨hlpq, hldq⟩ dX0_duel_46
    · have i38 := c_eq c38
      refine lv_iconst (v := 1) hx hb dX0_duel_41 (by decide) ?_
      refine lv_goto (tgt := 46) hx hb dX0_duel_42 (by decide) ?_
      have he : f_X0_duel σ p1 p2 = (σJ34, (1 : Int32)) := (by exact (ej34.trans ((if_pos c38).trans rfl)))
      exact w_retz (wXL g) C h hr hlocks (congrArg Prod.fst he) (congrArg Prod.snd he) (Or.inr rfl) ⟨hlpq, hldq⟩ dX0_duel_46
  refine lv_if_ne (tgt := 34) hx hb dX0_duel_14 (by decide) (fun c14 => ?_) (fun c14 => ?_)
  · have i14 := c_ne c14
    exact j34 _ _ _ _ (by have er4 := er4.symm; subst er4; have eσ7 := eσ7.symm; subst eσ7; exact ((if_neg c14).trans rfl)) hlp hld hlpq hldq h (lv_sub hl [0] rfl)
  · have i14 := c_eq c14
    have wn := wn_4 (by omega)
    refine lv_aload_n hx hb dX0_duel_17 rfl (lv_at hl 0 rfl) ?_
    refine lv_aload_n hx hb dX0_duel_18 rfl (lv_at hl 0 rfl) ?_
    refine lv_iload_n hx hb dX0_duel_19 rfl (lv_at hl 1 rfl) ?_
    refine lv_iload_n hx hb dX0_duel_20 rfl (lv_at hl 2 rfl) ?_
    refine w_calll (ci := 0) (q0 := 6) (As := [.int p1, .int p2]) (rest := [.ref (g.2.2.1 99)]) 2 (wXL g) C h (k_X0_stays l g σ7 p1 p2 (by first | assumption | omega) (by first | assumption | omega) (by first | assumption | omega)) (lw_V q1186 q1188 qs50 q144 q1189) rfl rfl rfl rfl (by decide +kernel) ⟨Nat.le_of_ble_eq_true rfl, Nat.le_of_ble_eq_true rfl⟩ rfl hl.1 rfl (Nat.le_of_ble_eq_true rfl) ⟨Nat.le_of_ble_eq_true rfl, Nat.le_of_ble_eq_true rfl⟩ dX0_duel_21 (fun r21 σ21 H locs eσ21 er21 hE21 h => ?_)
    rw [eσ21] at h
    clear hE21
    clear eσ21
    refine lv_aload_n hx hb dX0_duel_24 rfl (lv_at hl 0 rfl) ?_
    refine lv_iload_n hx hb dX0_duel_25 rfl (lv_at hl 1 rfl) ?_
    refine lv_iload_n hx hb dX0_duel_26 rfl (lv_at hl 2 rfl) ?_
    refine w_calll (ci := 0) (q0 := 6) (As := [.int p1, .int p2]) (rest := [.long r21, .ref (g.2.2.1 99)]) 2 (wXL g) C h (k_X0_ending l g σ7 p1 p2 (by first | assumption | omega) (by first | assumption | omega) (by first | assumption | omega)) (lw_V q1182 q1184 qs49 q144 q1185) rfl rfl rfl rfl (by decide +kernel) ⟨Nat.le_of_ble_eq_true rfl, Nat.le_of_ble_eq_true rfl⟩ rfl hl.1 rfl (Nat.le_of_ble_eq_true rfl) ⟨Nat.le_of_ble_eq_true rfl, Nat.le_of_ble_eq_true rfl⟩ dX0_duel_27 (fun r27 σ27 H locs eσ27 er27 hE27 h => ?_)
    rw [eσ27] at h
    clear hE27
    clear eσ27
    refine w_calli (ci := 0) (q0 := 6) (As := [.long r21, .long r27]) (rest := []) 2 (wXL g) C h (k_X0_fraction l g σ7 r21 r27 (by first | assumption | omega) (by first | assumption | omega) (by rw [er27, eσ7]; exact wn.2.2)) (lw_V q1190 q1192 qs51 q144 q1193) rfl rfl rfl rfl (by decide +kernel) ⟨Nat.le_of_ble_eq_true rfl, Nat.le_of_ble_eq_true rfl⟩ rfl hl.1 rfl (Nat.le_of_ble_eq_true rfl) ⟨Nat.le_of_ble_eq_true rfl, Nat.le_of_ble_eq_true rfl⟩ dX0_duel_30 (fun r30 σ30 H locs eσ30 er30 hE30 h => ?_)
    have hE30 : ((gi (ttb σ30) 1).toInt = (gi (ttb σ7) 1).toInt) ∧ ((gi (ttb σ30) 3).toInt = (gi (ttb σ7) 3).toInt) := hE30
    obtain ⟨hlpq_30, hldq_30⟩ := hE30
    have hNEW : (0 ≤ (gi (ttb σ30) 1).toInt ∧ (gi (ttb σ30) 1).toInt ≤ 6) ∧ (0 ≤ (gi (ttb σ30) 3).toInt ∧ (gi (ttb σ30) 3).toInt ≤ 16 ∧ (gi (ttb σ30) 3).toInt ≤ (g.1.2.1 50 : Int)) ∧ ((gi (ttb σ30) 1).toInt = (gi (ttb σ) 1).toInt) ∧ ((gi (ttb σ30) 3).toInt = (gi (ttb σ) 3).toInt) := ⟨(by first | assumption | omega), (by first | assumption | omega), (by first | assumption | omega), (by first | assumption | omega)⟩
    clear hlp hld hlpq hldq
    obtain ⟨hlp, hld, hlpq, hldq⟩ := hNEW
    refine lv_pop hx hb dX0_duel_33 rfl ?_
    exact j34 _ _ _ _ (by have er4 := er4.symm; subst er4; have eσ7 := eσ7.symm; subst eσ7; have er21 := er21.symm; subst er21; have er27 := er27.symm; subst er27; have eσ30 := eσ30.symm; subst eσ30; have er30 := er30.symm; subst er30; exact ((if_pos c14).trans rfl)) hlp hld hlpq hldq h (lv_sub hl [0] rfl)
def f_X0_goes (σ : MS × MS) (p1 : Int32) (p2 : Int32) : (MS × MS) × Int32 := (let r4 := (f_X0_whyNoDuel σ p1 p2); let σ7 := lsi σ 7 r4; (let jj44 := (fun (σJ44 : (MS × MS)) => if (gi (own σJ44) 7) = (0 : Int32) then ((σJ44, (1 : Int32))) else ((σJ44, (0 : Int32)))); if (gi (own σ7) 7) = (0 : Int32) then ((let r37 := (f_X0_ending σ7 p1 p2); let z40 := (f_X0_fraction σ7 ((16 : Int64) * ((16 : Int32) + (ga (ttb σ7) 21 p1)).toInt64) r37); let σ40 := z40.1; let r40 := z40.2; jj44 σ40)) else (jj44 σ7)))
set_option maxHeartbeats 4000000 in
set_option maxRecDepth 100000 in
theorem k_X0_goes (l : Launch) (g : GL) (σ : MS × MS) (p1 : Int32) (p2 : Int32) (hlp : 0 ≤ (gi (ttb σ) 1).toInt ∧ (gi (ttb σ) 1).toInt ≤ 6) (hld : 0 ≤ (gi (ttb σ) 3).toInt ∧ (gi (ttb σ) 3).toInt ≤ 16 ∧ (gi (ttb σ) 3).toInt ≤ (g.1.2.1 50 : Int)) : Met l yX0_goes (ws_ yX0_goes cX0_goes 3 (some .boolean)) ({ frames := 4, cells := 0, slots := 0, locals := 90 } : Room) (wPc (dL g) (g.2.2.1 99) σ [.int p1, .int p2]) (wQz (dL g) (f_X0_goes σ p1 p2).1 (f_X0_goes σ p1 p2).2 (fun u r => ((gi (ttb u) 1).toInt = (gi (ttb σ) 1).toInt) ∧ ((gi (ttb u) 3).toInt = (gi (ttb σ) 3).toInt))) 0 0 (dL g).2.2.2.1 := by
  refine met_W RX0 (by decide) rfl (Nat.le_of_ble_eq_true rfl) ?_
  intro p e s m args below meth c C hr hlocks h ls hl
  have hx := C.1.1
  have hb := C.1.2.1
  have hml := C.1.2.2.1
  have hown := C.1.2.2.2.1
  have hts := C.1.2.2.2.2
  have hl : lv_has ls 3 [(0, .ref (g.2.2.1 99)), (1, .int p1), (2, .int p2)] := hl
  have hlpq : (gi (ttb σ) 1).toInt = (gi (ttb σ) 1).toInt := rfl
  have hldq : (gi (ttb σ) 3).toInt = (gi (ttb σ) 3).toInt := rfl
  have zl0 : (0 : Int32).toInt = 0 := rfl
  have zl1 : (1 : Int32).toInt = 1 := rfl
  have zl16 : (16 : Int32).toInt = 16 := rfl
  refine lv_aload_n hx hb dX0_goes_0 rfl (lv_at hl 0 rfl) ?_
  refine lv_aload_n hx hb dX0_goes_1 rfl (lv_at hl 0 rfl) ?_
  refine lv_iload_n hx hb dX0_goes_2 rfl (lv_at hl 1 rfl) ?_
  refine lv_iload_n hx hb dX0_goes_3 rfl (lv_at hl 2 rfl) ?_
  refine w_calli (ci := 0) (q0 := 6) (As := [.int p1, .int p2]) (rest := [.ref (g.2.2.1 99)]) 2 (wXL g) C h (k_X0_whyNoDuel l g σ p1 p2 (by first | assumption | omega)) (lw_V q1174 q1176 qs47 q144 q1177) rfl rfl rfl rfl (by decide +kernel) ⟨Nat.le_of_ble_eq_true rfl, Nat.le_of_ble_eq_true rfl⟩ rfl hl.1 rfl (Nat.le_of_ble_eq_true rfl) ⟨Nat.le_of_ble_eq_true rfl, Nat.le_of_ble_eq_true rfl⟩ dX0_goes_4 (fun r4 σ4 H locs eσ4 er4 hE4 h => ?_)
  rw [eσ4] at h
  have hE4 : (Hd (r4.toInt = 0 → (0 ≤ p1.toInt ∧ p1.toInt < (gi (ttb σ) 1).toInt) ∧ (0 ≤ p2.toInt ∧ p2.toInt < (gi (ttb σ) 1).toInt) ∧ ¬ f_X0_ending σ p1 p2 = 0)) := hE4
  have wn_4 := hE4
  clear eσ4
  refine L_p7 C h dX0_goes_7 (fun σ7 H locs eσ7 h => ?_)
  have hNEW : (0 ≤ (gi (ttb σ7) 1).toInt ∧ (gi (ttb σ7) 1).toInt ≤ 6) ∧ (0 ≤ (gi (ttb σ7) 3).toInt ∧ (gi (ttb σ7) 3).toInt ≤ 16 ∧ (gi (ttb σ7) 3).toInt ≤ (g.1.2.1 50 : Int)) ∧ ((gi (ttb σ7) 1).toInt = (gi (ttb σ) 1).toInt) ∧ ((gi (ttb σ7) 3).toInt = (gi (ttb σ) 3).toInt) := ⟨(by rw [eσ7] <;> exact hlp), (by rw [eσ7] <;> exact hld), (by rw [eσ7] <;> exact hlpq), (by rw [eσ7] <;> exact hldq)⟩
  obtain ⟨hlp, hld, hlpq, hldq⟩ := hNEW
  have q7 : (gi (own σ7) 7).toInt = r4.toInt := by rw [eσ7]; rfl
  refine lv_aload_n hx hb dX0_goes_10 rfl (lv_at hl 0 rfl) ?_
  refine L_g7 C h dX0_goes_11 ?_
  have j44 : ∀ (σJ44 : (MS × MS)) (H : Heap) (locs : List Loc) (ls : Array Slot) (ej44 : f_X0_goes σ p1 p2 = if (gi (own σJ44) 7) = (0 : Int32) then ((σJ44, (1 : Int32))) else ((σJ44, (0 : Int32)))) (hlp : 0 ≤ (gi (ttb σJ44) 1).toInt ∧ (gi (ttb σJ44) 1).toInt ≤ 6) (hld : 0 ≤ (gi (ttb σJ44) 3).toInt ∧ (gi (ttb σJ44) 3).toInt ≤ 16 ∧ (gi (ttb σJ44) 3).toInt ≤ (g.1.2.1 50 : Int)) (hlpq : (gi (ttb σJ44) 1).toInt = (gi (ttb σ) 1).toInt) (hldq : (gi (ttb σJ44) 3).toInt = (gi (ttb σ) 3).toInt) (h : wH (dL g) σJ44 s H locs) (hl : lv_has ls 3 [(0, .ref (g.2.2.1 99))]), W p l e ({ frames := 4, cells := 0, slots := 0, locals := 90 } : Room) s m args below meth c H locs 0 0 (MQ below (wQz (dL g) (f_X0_goes σ p1 p2).1 (f_X0_goes σ p1 p2).2 (fun u r => ((gi (ttb u) 1).toInt = (gi (ttb σ) 1).toInt) ∧ ((gi (ttb u) 3).toInt = (gi (ttb σ) 3).toInt))) args s 0 0 (dL g).2.2.2.1) (F0 m 44 ls []) := by
    intro σJ44 H locs ls ej44 hlp hld hlpq hldq h hl
    refine lv_aload_n hx hb dX0_goes_44 rfl (lv_at hl 0 rfl) ?_
    refine L_g7 C h dX0_goes_45 ?_
    refine lv_if_ne (tgt := 55) hx hb dX0_goes_48 (by decide) (fun c48 => ?_) (fun c48 => ?_)
    · have i48 := c_ne c48
      refine lv_iconst (v := 0) hx hb dX0_goes_55 (by decide) ?_
      have he : f_X0_goes σ p1 p2 = (σJ44, (0 : Int32)) := (by exact (ej44.trans ((if_neg c48).trans rfl)))
      exact w_retz (wXL g) C h hr hlocks (congrArg Prod.fst he) (congrArg Prod.snd he) (Or.inl rfl) ⟨hlpq, hldq⟩ dX0_goes_56
    · have i48 := c_eq c48
      refine lv_iconst (v := 1) hx hb dX0_goes_51 (by decide) ?_
      refine lv_goto (tgt := 56) hx hb dX0_goes_52 (by decide) ?_
      have he : f_X0_goes σ p1 p2 = (σJ44, (1 : Int32)) := (by exact (ej44.trans ((if_pos c48).trans rfl)))
      exact w_retz (wXL g) C h hr hlocks (congrArg Prod.fst he) (congrArg Prod.snd he) (Or.inr rfl) ⟨hlpq, hldq⟩ dX0_goes_56
  refine lv_if_ne (tgt := 44) hx hb dX0_goes_14 (by decide) (fun c14 => ?_) (fun c14 => ?_)
  · have i14 := c_ne c14
    exact j44 _ _ _ _ (by have er4 := er4.symm; subst er4; have eσ7 := eσ7.symm; subst eσ7; exact ((if_neg c14).trans rfl)) hlp hld hlpq hldq h (lv_sub hl [0] rfl)
  · have i14 := c_eq c14
    have wn := wn_4 (by omega)
    refine lv_aload_n hx hb dX0_goes_17 rfl (lv_at hl 0 rfl) ?_
    refine lv_ldc2 hx hb hown (hts _ q1204) dX0_goes_18 ?_
    refine lv_bipush (v := 16) hx hb dX0_goes_21 (by decide) ?_
    refine lv_aload_n hx hb dX0_goes_23 rfl (lv_at hl 0 rfl) ?_
    refine lv_iload_n hx hb dX0_goes_24 rfl (lv_at hl 1 rfl) ?_
    refine L_one (rest := [.int (16 : Int32), .long (16 : Int64), .ref (g.2.2.1 99)]) C h (by omega) ⟨Nat.le_of_ble_eq_true rfl, Nat.le_of_ble_eq_true rfl⟩ hl.1 (Nat.le_of_ble_eq_true rfl) ⟨Nat.le_of_ble_eq_true rfl, Nat.le_of_ble_eq_true rfl⟩ dX0_goes_25 (fun H locs h => ?_)
    refine L_f1 C h (by omega) dX0_goes_28 ?_
    refine lv_iadd hx hb dX0_goes_31 ?_
    refine lv_i2l (v := ((16 : Int32) + (ga (ttb σ7) 21 p1)).toInt64) hx hb dX0_goes_32 rfl ?_
    refine lv_lmul hx hb dX0_goes_33 ?_
    refine lv_aload_n hx hb dX0_goes_34 rfl (lv_at hl 0 rfl) ?_
    refine lv_iload_n hx hb dX0_goes_35 rfl (lv_at hl 1 rfl) ?_
    refine lv_iload_n hx hb dX0_goes_36 rfl (lv_at hl 2 rfl) ?_
    refine w_calll (ci := 0) (q0 := 6) (As := [.int p1, .int p2]) (rest := [.long ((16 : Int64) * ((16 : Int32) + (ga (ttb σ7) 21 p1)).toInt64), .ref (g.2.2.1 99)]) 2 (wXL g) C h (k_X0_ending l g σ7 p1 p2 (by first | assumption | omega) (by first | assumption | omega) (by first | assumption | omega)) (lw_V q1182 q1184 qs49 q144 q1185) rfl rfl rfl rfl (by decide +kernel) ⟨Nat.le_of_ble_eq_true rfl, Nat.le_of_ble_eq_true rfl⟩ rfl hl.1 rfl (Nat.le_of_ble_eq_true rfl) ⟨Nat.le_of_ble_eq_true rfl, Nat.le_of_ble_eq_true rfl⟩ dX0_goes_37 (fun r37 σ37 H locs eσ37 er37 hE37 h => ?_)
    rw [eσ37] at h
    clear hE37
    clear eσ37
    refine w_calli (ci := 0) (q0 := 6) (As := [.long ((16 : Int64) * ((16 : Int32) + (ga (ttb σ7) 21 p1)).toInt64), .long r37]) (rest := []) 2 (wXL g) C h (k_X0_fraction l g σ7 ((16 : Int64) * ((16 : Int32) + (ga (ttb σ7) 21 p1)).toInt64) r37 (by first | assumption | omega) (by first | assumption | omega) (by rw [er37, eσ7]; exact wn.2.2)) (lw_V q1190 q1192 qs51 q144 q1193) rfl rfl rfl rfl (by decide +kernel) ⟨Nat.le_of_ble_eq_true rfl, Nat.le_of_ble_eq_true rfl⟩ rfl hl.1 rfl (Nat.le_of_ble_eq_true rfl) ⟨Nat.le_of_ble_eq_true rfl, Nat.le_of_ble_eq_true rfl⟩ dX0_goes_40 (fun r40 σ40 H locs eσ40 er40 hE40 h => ?_)
    have hE40 : ((gi (ttb σ40) 1).toInt = (gi (ttb σ7) 1).toInt) ∧ ((gi (ttb σ40) 3).toInt = (gi (ttb σ7) 3).toInt) := hE40
    obtain ⟨hlpq_40, hldq_40⟩ := hE40
    have hNEW : (0 ≤ (gi (ttb σ40) 1).toInt ∧ (gi (ttb σ40) 1).toInt ≤ 6) ∧ (0 ≤ (gi (ttb σ40) 3).toInt ∧ (gi (ttb σ40) 3).toInt ≤ 16 ∧ (gi (ttb σ40) 3).toInt ≤ (g.1.2.1 50 : Int)) ∧ ((gi (ttb σ40) 1).toInt = (gi (ttb σ) 1).toInt) ∧ ((gi (ttb σ40) 3).toInt = (gi (ttb σ) 3).toInt) := ⟨(by first | assumption | omega), (by first | assumption | omega), (by first | assumption | omega), (by first | assumption | omega)⟩
    clear hlp hld hlpq hldq
    obtain ⟨hlp, hld, hlpq, hldq⟩ := hNEW
    refine lv_pop hx hb dX0_goes_43 rfl ?_
    exact j44 _ _ _ _ (by have er4 := er4.symm; subst er4; have eσ7 := eσ7.symm; subst eσ7; have er37 := er37.symm; subst er37; have eσ40 := eσ40.symm; subst eσ40; have er40 := er40.symm; subst er40; exact ((if_pos c14).trans rfl)) hlp hld hlpq hldq h (lv_sub hl [0] rfl)
