/-! walks of methods by contract, printed by gen/mkwalk.py -/
set_option maxRecDepth 100000
def f_J12_signum (p0 : Int64) : Int32 := ((p0 >>> ((63 : Int32).toInt64 &&& (63 : Int64))) ||| (((-p0).toUInt64 >>> ((63 : Int32).toInt64.toUInt64 &&& Int64.toUInt64 63)).toInt64)).toInt32
set_option maxHeartbeats 4000000 in
set_option maxRecDepth 100000 in
theorem k_J12_signum (l : Launch) (p0 : Int64) : Met l yJ12_signum (ws_ yJ12_signum cJ12_signum 2 (some .int)) ({ frames := 0, cells := 0, slots := 0, locals := 0 } : Room) (sPc [.long p0]) (sQi (f_J12_signum p0)) 0 0 (fun _ => False) := by
  refine met_S RJ12 (by decide) rfl rfl (Nat.le_of_ble_eq_true rfl) ?_
  intro p e s m args below meth c C hr hlocks _ _ _ ls hl
  have hx := C.1
  have hb := C.2.1
  have hml := C.2.2.1
  have hown := C.2.2.2.1
  have hts := C.2.2.2.2
  have h : va_S (fun _ => False) s.heap s.heap [] := va_S.rf
  have hl : lv_has ls 2 [(0, .long p0)] := hl
  have zl63 : (63 : Int32).toInt = 63 := rfl
  refine lv_lload_n hx hb dJ12_signum_0 rfl (lv_at hl 0 rfl) ?_
  refine lv_bipush (v := 63) hx hb dJ12_signum_1 (by decide) ?_
  refine lv_lshr (v := (p0 >>> ((63 : Int32).toInt64 &&& (63 : Int64)))) hx hb dJ12_signum_3 rfl ?_
  refine lv_lload_n hx hb dJ12_signum_4 rfl (lv_at hl 0 rfl) ?_
  refine lv_lneg hx hb dJ12_signum_5 ?_
  refine lv_bipush (v := 63) hx hb dJ12_signum_6 (by decide) ?_
  refine lv_lushr (v := (((-p0).toUInt64 >>> ((63 : Int32).toInt64.toUInt64 &&& Int64.toUInt64 63)).toInt64)) hx hb dJ12_signum_8 rfl ?_
  refine lv_lor hx hb dJ12_signum_9 ?_
  refine lv_l2i (v := ((p0 >>> ((63 : Int32).toInt64 &&& (63 : Int64))) ||| (((-p0).toUInt64 >>> ((63 : Int32).toInt64.toUInt64 &&& Int64.toUInt64 63)).toInt64)).toInt32) hx hb dJ12_signum_10 rfl ?_
  have he : f_J12_signum p0 = ((p0 >>> ((63 : Int32).toInt64 &&& (63 : Int64))) ||| (((-p0).toUInt64 >>> ((63 : Int32).toInt64.toUInt64 &&& Int64.toUInt64 63)).toInt64)).toInt32 := (by exact rfl)
  exact s_reti C hr hlocks h he dJ12_signum_11
def f_X0_ending (σ : MS × MS) (p1 : Int32) (p2 : Int32) : Int64 := ((256 : Int32) - ((ga (ttb σ) 21 p1) * (ga (ttb σ) 21 p2))).toInt64
set_option maxHeartbeats 4000000 in
set_option maxRecDepth 100000 in
theorem k_X0_ending (l : Launch) (g : GL) (σ : MS × MS) (p1 : Int32) (p2 : Int32) (hlp : 0 ≤ (gi (ttb σ) 1).toInt ∧ (gi (ttb σ) 1).toInt ≤ 6) (h1p : 0 ≤ p1.toInt ∧ p1.toInt < (gi (ttb σ) 1).toInt) (h2p : 0 ≤ p2.toInt ∧ p2.toInt < (gi (ttb σ) 1).toInt) : Met l yX0_ending (ws_ yX0_ending cX0_ending 3 (some .long)) ({ frames := 1, cells := 0, slots := 0, locals := 21 } : Room) (wPc (dL g) (g.2.2.1 99) σ [.int p1, .int p2]) (wQl (dL g) σ (f_X0_ending σ p1 p2) (fun u r => True)) 0 0 (dL g).2.2.2.1 := by
  refine met_W RX0 (by decide) rfl (Nat.le_of_ble_eq_true rfl) ?_
  intro p e s m args below meth c C hr hlocks h ls hl
  have hx := C.1.1
  have hb := C.1.2.1
  have hml := C.1.2.2.1
  have hown := C.1.2.2.2.1
  have hts := C.1.2.2.2.2
  have hl : lv_has ls 3 [(0, .ref (g.2.2.1 99)), (1, .int p1), (2, .int p2)] := hl
  have zl256 : (256 : Int32).toInt = 256 := rfl
  refine lv_sipush (v := 256) hx hb dX0_ending_0 (by decide) ?_
  refine lv_aload_n hx hb dX0_ending_3 rfl (lv_at hl 0 rfl) ?_
  refine lv_iload_n hx hb dX0_ending_4 rfl (lv_at hl 1 rfl) ?_
  refine L_one (rest := [.int (256 : Int32)]) C h (by omega) ⟨Nat.le_of_ble_eq_true rfl, Nat.le_of_ble_eq_true rfl⟩ hl.1 (Nat.le_of_ble_eq_true rfl) ⟨Nat.le_of_ble_eq_true rfl, Nat.le_of_ble_eq_true rfl⟩ dX0_ending_5 (fun H locs h => ?_)
  refine L_f1 C h (by omega) dX0_ending_8 ?_
  refine lv_aload_n hx hb dX0_ending_11 rfl (lv_at hl 0 rfl) ?_
  refine lv_iload_n hx hb dX0_ending_12 rfl (lv_at hl 2 rfl) ?_
  refine L_one (rest := [.int (ga (ttb σ) 21 p1), .int (256 : Int32)]) C h (by omega) ⟨Nat.le_of_ble_eq_true rfl, Nat.le_of_ble_eq_true rfl⟩ hl.1 (Nat.le_of_ble_eq_true rfl) ⟨Nat.le_of_ble_eq_true rfl, Nat.le_of_ble_eq_true rfl⟩ dX0_ending_13 (fun H locs h => ?_)
  refine L_f1 C h (by omega) dX0_ending_16 ?_
  refine lv_imul hx hb dX0_ending_19 ?_
  refine lv_isub hx hb dX0_ending_20 ?_
  refine lv_i2l (v := ((256 : Int32) - ((ga (ttb σ) 21 p1) * (ga (ttb σ) 21 p2))).toInt64) hx hb dX0_ending_21 rfl ?_
  have he : f_X0_ending σ p1 p2 = ((256 : Int32) - ((ga (ttb σ) 21 p1) * (ga (ttb σ) 21 p2))).toInt64 := (by exact rfl)
  exact w_retl (wXL g) C h hr hlocks rfl he trivial dX0_ending_22
def f_X0_stays (σ : MS × MS) (p1 : Int32) (p2 : Int32) : Int64 := ((ga (ttb σ) 21 p1).toInt64 * ((16 : Int32) - (ga (ttb σ) 21 p2)).toInt64)
set_option maxHeartbeats 4000000 in
set_option maxRecDepth 100000 in
theorem k_X0_stays (l : Launch) (g : GL) (σ : MS × MS) (p1 : Int32) (p2 : Int32) (hlp : 0 ≤ (gi (ttb σ) 1).toInt ∧ (gi (ttb σ) 1).toInt ≤ 6) (h1p : 0 ≤ p1.toInt ∧ p1.toInt < (gi (ttb σ) 1).toInt) (h2p : 0 ≤ p2.toInt ∧ p2.toInt < (gi (ttb σ) 1).toInt) : Met l yX0_stays (ws_ yX0_stays cX0_stays 3 (some .long)) ({ frames := 1, cells := 0, slots := 0, locals := 21 } : Room) (wPc (dL g) (g.2.2.1 99) σ [.int p1, .int p2]) (wQl (dL g) σ (f_X0_stays σ p1 p2) (fun u r => True)) 0 0 (dL g).2.2.2.1 := by
  refine met_W RX0 (by decide) rfl (Nat.le_of_ble_eq_true rfl) ?_
  intro p e s m args below meth c C hr hlocks h ls hl
  have hx := C.1.1
  have hb := C.1.2.1
  have hml := C.1.2.2.1
  have hown := C.1.2.2.2.1
  have hts := C.1.2.2.2.2
  have hl : lv_has ls 3 [(0, .ref (g.2.2.1 99)), (1, .int p1), (2, .int p2)] := hl
  have zl16 : (16 : Int32).toInt = 16 := rfl
  refine lv_aload_n hx hb dX0_stays_0 rfl (lv_at hl 0 rfl) ?_
  refine lv_iload_n hx hb dX0_stays_1 rfl (lv_at hl 1 rfl) ?_
  refine L_one (rest := []) C h (by omega) ⟨Nat.le_of_ble_eq_true rfl, Nat.le_of_ble_eq_true rfl⟩ hl.1 (Nat.le_of_ble_eq_true rfl) ⟨Nat.le_of_ble_eq_true rfl, Nat.le_of_ble_eq_true rfl⟩ dX0_stays_2 (fun H locs h => ?_)
  refine L_f1 C h (by omega) dX0_stays_5 ?_
  refine lv_i2l (v := (ga (ttb σ) 21 p1).toInt64) hx hb dX0_stays_8 rfl ?_
  refine lv_bipush (v := 16) hx hb dX0_stays_9 (by decide) ?_
  refine lv_aload_n hx hb dX0_stays_11 rfl (lv_at hl 0 rfl) ?_
  refine lv_iload_n hx hb dX0_stays_12 rfl (lv_at hl 2 rfl) ?_
  refine L_one (rest := [.int (16 : Int32), .long (ga (ttb σ) 21 p1).toInt64]) C h (by omega) ⟨Nat.le_of_ble_eq_true rfl, Nat.le_of_ble_eq_true rfl⟩ hl.1 (Nat.le_of_ble_eq_true rfl) ⟨Nat.le_of_ble_eq_true rfl, Nat.le_of_ble_eq_true rfl⟩ dX0_stays_13 (fun H locs h => ?_)
  refine L_f1 C h (by omega) dX0_stays_16 ?_
  refine lv_isub hx hb dX0_stays_19 ?_
  refine lv_i2l (v := ((16 : Int32) - (ga (ttb σ) 21 p2)).toInt64) hx hb dX0_stays_20 rfl ?_
  refine lv_lmul hx hb dX0_stays_21 ?_
  have he : f_X0_stays σ p1 p2 = ((ga (ttb σ) 21 p1).toInt64 * ((16 : Int32) - (ga (ttb σ) 21 p2)).toInt64) := (by exact rfl)
  exact w_retl (wXL g) C h hr hlocks rfl he trivial dX0_stays_22
def f_X0_whyNoDuel (σ : MS × MS) (p1 : Int32) (p2 : Int32) : Int32 := (let r3 := (f_X0_areTwo σ p1 p2); if r3 = (0 : Int32) then ((1 : Int32)) else ((let r16 := (f_X0_ending σ p1 p2); if (lg_cmp r16 (0 : Int64)) = (0 : Int32) then ((6 : Int32)) else ((0 : Int32)))))
set_option maxHeartbeats 4000000 in
set_option maxRecDepth 100000 in
theorem k_X0_whyNoDuel (l : Launch) (g : GL) (σ : MS × MS) (p1 : Int32) (p2 : Int32) (hlp : 0 ≤ (gi (ttb σ) 1).toInt ∧ (gi (ttb σ) 1).toInt ≤ 6) : Met l yX0_whyNoDuel (ws_ yX0_whyNoDuel cX0_whyNoDuel 3 (some .int)) ({ frames := 3, cells := 0, slots := 0, locals := 68 } : Room) (wPc (dL g) (g.2.2.1 99) σ [.int p1, .int p2]) (wQi (dL g) σ (f_X0_whyNoDuel σ p1 p2) (fun u r => (Hd (r.toInt = 0 → (0 ≤ p1.toInt ∧ p1.toInt < (gi (ttb σ) 1).toInt) ∧ (0 ≤ p2.toInt ∧ p2.toInt < (gi (ttb σ) 1).toInt) ∧ ¬ f_X0_ending σ p1 p2 = 0)))) 0 0 (dL g).2.2.2.1 := by
  refine met_W RX0 (by decide) rfl (Nat.le_of_ble_eq_true rfl) ?_
  intro p e s m args below meth c C hr hlocks h ls hl
  have hx := C.1.1
  have hb := C.1.2.1
  have hml := C.1.2.2.1
  have hown := C.1.2.2.2.1
  have hts := C.1.2.2.2.2
  have hl : lv_has ls 3 [(0, .ref (g.2.2.1 99)), (1, .int p1), (2, .int p2)] := hl
  have zl0 : (0 : Int32).toInt = 0 := rfl
  have zl1 : (1 : Int32).toInt = 1 := rfl
  have zl6 : (6 : Int32).toInt = 6 := rfl
  refine lv_aload_n hx hb dX0_whyNoDuel_0 rfl (lv_at hl 0 rfl) ?_
  refine lv_iload_n hx hb dX0_whyNoDuel_1 rfl (lv_at hl 1 rfl) ?_
  refine lv_iload_n hx hb dX0_whyNoDuel_2 rfl (lv_at hl 2 rfl) ?_
  refine w_callz (ci := 0) (q0 := 6) (As := [.int p1, .int p2]) (rest := []) 2 (wXL g) C h (k_X0_areTwo l g σ p1 p2 (by first | assumption | omega)) (lw_V q1178 q1180 qs48 q144 q1181) rfl rfl rfl rfl (by decide +kernel) ⟨Nat.le_of_ble_eq_true rfl, Nat.le_of_ble_eq_true rfl⟩ rfl hl.1 rfl (Nat.le_of_ble_eq_true rfl) ⟨Nat.le_of_ble_eq_true rfl, Nat.le_of_ble_eq_true rfl⟩ dX0_whyNoDuel_3 (fun r3 σ3 H locs eσ3 er3 br3 hE3 h => ?_)
  rw [eσ3] at h
  clear hE3
  clear eσ3
  refine lv_if_ne (tgt := 13) hx hb dX0_whyNoDuel_6 (by decide) (fun c6 => ?_) (fun c6 => ?_)
  · have i6 := c_ne c6
    have okr3 := lAreTwo_ok hlp er3 c6
    refine lv_aload_n hx hb dX0_whyNoDuel_13 rfl (lv_at hl 0 rfl) ?_
    refine lv_iload_n hx hb dX0_whyNoDuel_14 rfl (lv_at hl 1 rfl) ?_
    refine lv_iload_n hx hb dX0_whyNoDuel_15 rfl (lv_at hl 2 rfl) ?_
    refine w_calll (ci := 0) (q0 := 6) (As := [.int p1, .int p2]) (rest := []) 2 (wXL g) C h (k_X0_ending l g σ p1 p2 (by first | assumption | omega) (by first | assumption | omega) (by first | assumption | omega)) (lw_V q1182 q1184 qs49 q144 q1185) rfl rfl rfl rfl (by decide +kernel) ⟨Nat.le_of_ble_eq_true rfl, Nat.le_of_ble_eq_true rfl⟩ rfl hl.1 rfl (Nat.le_of_ble_eq_true rfl) ⟨Nat.le_of_ble_eq_true rfl, Nat.le_of_ble_eq_true rfl⟩ dX0_whyNoDuel_16 (fun r16 σ16 H locs eσ16 er16 hE16 h => ?_)
    rw [eσ16] at h
    clear hE16
    clear eσ16
    refine lv_lconst (v := 0) hx hb dX0_whyNoDuel_19 (by decide) ?_
    refine W.lcmp hx hb dX0_whyNoDuel_20 ?_
    refine lv_if_ne (tgt := 29) hx hb dX0_whyNoDuel_21 (by decide) (fun c21 => ?_) (fun c21 => ?_)
    · have i21 := c_ne c21
      refine lv_iconst (v := 0) hx hb dX0_whyNoDuel_29 (by decide) ?_
      have he : f_X0_whyNoDuel σ p1 p2 = (0 : Int32) := (by have er3 := er3.symm; subst er3; have er16 := er16.symm; subst er16; exact ((if_neg c6).trans ((if_neg c21).trans rfl)))
      exact w_reti (wXL g) C h hr hlocks rfl he (by first | exact (fun q => absurd q (by decide)) | exact (fun _ => ⟨by omega, by omega, by rw [← er16]; exact lne c21⟩)) dX0_whyNoDuel_30
    · have i21 := c_eq c21
      refine lv_bipush (v := 6) hx hb dX0_whyNoDuel_24 (by decide) ?_
      refine lv_goto (tgt := 30) hx hb dX0_whyNoDuel_26 (by decide) ?_
      have he : f_X0_whyNoDuel σ p1 p2 = (6 : Int32) := (by have er3 := er3.symm; subst er3; have er16 := er16.symm; subst er16; exact ((if_neg c6).trans ((if_pos c21).trans rfl)))
      exact w_reti (wXL g) C h hr hlocks rfl he (by first | exact (fun q => absurd q (by decide)) | exact (fun _ => ⟨by omega, by omega, by rw [← er16]; exact lne c21⟩)) dX0_whyNoDuel_30
  · have i6 := c_eq c6
    refine lv_iconst (v := 1) hx hb dX0_whyNoDuel_9 (by decide) ?_
    refine lv_goto (tgt := 30) hx hb dX0_whyNoDuel_10 (by decide) ?_
    have he : f_X0_whyNoDuel σ p1 p2 = (1 : Int32) := (by have er3 := er3.symm; subst er3; exact ((if_pos c6).trans rfl))
    exact w_reti (wXL g) C h hr hlocks rfl he (by first | exact (fun q => absurd q (by decide)) | exact (fun _ => ⟨by omega, by omega, by rw [← er16]; exact lne c21⟩)) dX0_whyNoDuel_30
def f_X0_fraction_L9 (σ : MS × MS) (y1_9 : Int64) (y3_9 : Int64) : Nat → Int64 → Int64 → Int64 × Int64
  | 0, x5_9, x7_9 => (x5_9, x7_9)
  | n + 1, x5_9, x7_9 => if (lg_cmp x7_9 (0 : Int64)) = (0 : Int32) then ((x5_9, x7_9)) else ((let v21 := (x5_9 - ((x5_9 / x7_9) * x7_9)); f_X0_fraction_L9 σ y1_9 y3_9 n x7_9 v21))
def f_X0_fraction (σ : MS × MS) (p1 : Int64) (p3 : Int64) : (MS × MS) × Int32 := (let v4 := (jabsL p1); (let zL9 := f_X0_fraction_L9 σ p1 p3 (p3.toInt.natAbs + 1) v4 p3; let x5_9e := zL9.1; let x7_9e := zL9.2; (let σ39 := lsl σ 8 (p1 / x5_9e); let σ47 := lsl σ39 9 (p3 / x5_9e); let r51 := (f_J12_signum p1); (σ47, r51))))
set_option maxHeartbeats 4000000 in
set_option maxRecDepth 100000 in
theorem k_X0_fraction (l : Launch) (g : GL) (σ : MS × MS) (p1 : Int64) (p3 : Int64) (hlp : 0 ≤ (gi (ttb σ) 1).toInt ∧ (gi (ttb σ) 1).toInt ≤ 6) (hld : 0 ≤ (gi (ttb σ) 3).toInt ∧ (gi (ttb σ) 3).toInt ≤ 16 ∧ (gi (ttb σ) 3).toInt ≤ (g.1.2.1 50 : Int)) (hne : ¬ p3 = 0) : Met l yX0_fraction (ws_ yX0_fraction cX0_fraction 11 (some .int)) ({ frames := 1, cells := 0, slots := 0, locals := 23 } : Room) (wPc (dL g) (g.2.2.1 99) σ [.long p1, .long p3]) (wQi (dL g) (f_X0_fraction σ p1 p3).1 (f_X0_fraction σ p1 p3).2 (fun u r => ((gi (ttb u) 1).toInt = (gi (ttb σ) 1).toInt) ∧ ((gi (ttb u) 3).toInt = (gi (ttb σ) 3).toInt))) 0 0 (dL g).2.2.2.1 := by
  refine met_W RX0 (by decide) rfl (Nat.le_of_ble_eq_true rfl) ?_
  intro p e s m args below meth c C hr hlocks h ls hl
  have hx := C.1.1
  have hb := C.1.2.1
  have hml := C.1.2.2.1
  have hown := C.1.2.2.2.1
  have hts := C.1.2.2.2.2
  have hl : lv_has ls 11 [(0, .ref (g.2.2.1 99)), (1, .long p1), (3, .long p3)] := hl
  have hlpq : (gi (ttb σ) 1).toInt = (gi (ttb σ) 1).toInt := rfl
  have hldq : (gi (ttb σ) 3).toInt = (gi (ttb σ) 3).toInt := rfl
  have zl0 : (0 : Int32).toInt = 0 := rfl
  refine lv_lload_n hx hb dX0_fraction_0 rfl (lv_at hl 1 rfl) ?_
  refine va_mabs_long hx hb (hml.trans hl.1.symm) hown (hts _ q1194) (hts _ q1195) (hts _ q164) (hts _ q1196) (Nat.le_of_ble_eq_true rfl) (Nat.le_of_ble_eq_true rfl) (Nat.le_of_ble_eq_true rfl) (Nat.le_of_ble_eq_true rfl) dX0_fraction_1 ?_
  refine lv_topl (fun v4 ev4 => ?_)
  refine lv_lstore (lv' := [(5, .long v4), (0, .ref (g.2.2.1 99)), (1, .long p1), (3, .long p3)]) hx hb dX0_fraction_4 hl (by decide) rfl (fun ls hl => ?_)
  have ev4 : v4 = jabsL p1 := ev4
  refine lv_lload_n hx hb dX0_fraction_6 rfl (lv_at hl 3 rfl) ?_
  refine lv_lstore (lv' := [(7, .long p3), (5, .long v4), (0, .ref (g.2.2.1 99)), (1, .long p1), (3, .long p3)]) hx hb dX0_fraction_7 hl (by decide) rfl (fun ls hl => ?_)
  have hL9 : ∀ (n : Nat) (x5_9 : Int64) (x7_9 : Int64) (H : Heap) (locs : List Loc) (ls : Array Slot), (¬ x5_9 = 0 ∨ ¬ x7_9 = 0) → x7_9.toInt.natAbs < n → wH (dL g) σ s H locs → lv_has ls 11 [(0, .ref (g.2.2.1 99)), (1, .long p1), (3, .long p3), (5, .long x5_9), (7, .long x7_9)] → (∀ (x5_9' : Int64) (x7_9' : Int64) (H : Heap) (locs : List Loc) (ls : Array Slot), f_X0_fraction_L9 σ p1 p3 n x5_9 x7_9 = (x5_9', x7_9') → (¬ x5_9' = 0) → wH (dL g) σ s H locs → lv_has ls 11 [(0, .ref (g.2.2.1 99)), (1, .long p1), (3, .long p3), (5, .long x5_9')] → W p l e ({ frames := 1, cells := 0, slots := 0, locals := 23 } : Room) s m args below meth c H locs 0 0 (MQ below (wQi (dL g) (f_X0_fraction σ p1 p3).1 (f_X0_fraction σ p1 p3).2 (fun u r => ((gi (ttb u) 1).toInt = (gi (ttb σ) 1).toInt) ∧ ((gi (ttb u) 3).toInt = (gi (ttb σ) 3).toInt))) args s 0 0 (dL g).2.2.2.1) (F0 m 34 ls [])) → W p l e ({ frames := 1, cells := 0, slots := 0, locals := 23 } : Room) s m args below meth c H locs 0 0 (MQ below (wQi (dL g) (f_X0_fraction σ p1 p3).1 (f_X0_fraction σ p1 p3).2 (fun u r => ((gi (ttb u) 1).toInt = (gi (ttb σ) 1).toInt) ∧ ((gi (ttb u) 3).toInt = (gi (ttb σ) 3).toInt))) args s 0 0 (dL g).2.2.2.1) (F0 m 9 ls []) := by
    intro n
    induction n with
    | zero =>
      intro x5_9 x7_9 H locs ls _ hm; exact absurd hm (Nat.not_lt_zero _)
    | succ n ih =>
      intro x5_9 x7_9 H locs ls hI9 hm h hl kk
      refine lv_lload hx hb dX0_fraction_9 (lv_at hl 4 rfl) ?_
      refine lv_lconst (v := 0) hx hb dX0_fraction_11 (by decide) ?_
      refine W.lcmp hx hb dX0_fraction_12 ?_
      refine lv_if_eq (tgt := 34) hx hb dX0_fraction_13 (by decide) (fun c13 => ?_) (fun c13 => ?_)
      · have i13 := c_eq c13
        exact kk x5_9 x7_9 _ _ _ (show f_X0_fraction_L9 σ p1 p3 (n + 1) x5_9 x7_9 = (x5_9, x7_9) from (by exact ((if_pos c13).trans rfl)))  (hI9.elim (fun q => q) (fun q => absurd (leq c13) q)) h (lv_sub hl [0, 1, 2, 3] rfl)
      · have i13 := c_ne c13
        refine lv_lload hx hb dX0_fraction_16 (lv_at hl 3 rfl) ?_
        refine lv_lload hx hb dX0_fraction_18 (lv_at hl 4 rfl) ?_
        refine lv_lrem hx hb dX0_fraction_20 (lne c13) ?_
        refine lv_topl (fun v21 ev21 => ?_)
        refine lv_lstore (lv' := [(9, .long v21), (0, .ref (g.2.2.1 99)), (1, .long p1), (3, .long p3), (5, .long x5_9), (7, .long x7_9)]) hx hb dX0_fraction_21 hl (by decide) rfl (fun ls hl => ?_)
        refine lv_lload hx hb dX0_fraction_23 (lv_at hl 5 rfl) ?_
        refine lv_lstore (lv' := [(5, .long x7_9), (9, .long v21), (0, .ref (g.2.2.1 99)), (1, .long p1), (3, .long p3), (7, .long x7_9)]) hx hb dX0_fraction_25 hl (by decide) rfl (fun ls hl => ?_)
        refine lv_lload hx hb dX0_fraction_27 (lv_at hl 1 rfl) ?_
        refine lv_lstore (lv' := [(7, .long v21), (5, .long x7_9), (9, .long v21), (0, .ref (g.2.2.1 99)), (1, .long p1), (3, .long p3)]) hx hb dX0_fraction_29 hl (by decide) rfl (fun ls hl => ?_)
        refine lv_goto (tgt := 9) hx hb dX0_fraction_31 (by decide) ?_
        have hb9 := lrem_abs x5_9 x7_9 v21 ev21 (lne c13)
        exact ih x7_9 v21 _ _ _  (Or.inl (lne c13)) (by omega) h (lv_sub hl [3, 4, 5, 1, 0] rfl) (fun x5_9' x7_9' H locs ls en hI h hl => kk x5_9' x7_9' H locs ls ((show f_X0_fraction_L9 σ p1 p3 (n + 1) x5_9 x7_9 = f_X0_fraction_L9 σ p1 p3 n x7_9 v21 from (by have ev21 := ev21.symm; subst ev21; exact ((if_neg c13).trans rfl))).trans en) hI h hl)
  refine hL9 (p3.toInt.natAbs + 1) v4 p3 _ _ _  (Or.inr hne) (by omega) h (lv_sub hl [2, 3, 4, 1, 0] rfl) (fun x5_9e x7_9e H locs ls eL9 hI9 h hl => ?_)
  have ex5_9e : x5_9e = (f_X0_fraction_L9 σ p1 p3 (p3.toInt.natAbs + 1) v4 p3).1 := by rw [eL9]
  have ex7_9e : x7_9e = (f_X0_fraction_L9 σ p1 p3 (p3.toInt.natAbs + 1) v4 p3).2 := by rw [eL9]
  refine lv_aload_n hx hb dX0_fraction_34 rfl (lv_at hl 0 rfl) ?_
  refine lv_lload_n hx hb dX0_fraction_35 rfl (lv_at hl 1 rfl) ?_
  refine lv_lload hx hb dX0_fraction_36 (lv_at hl 3 rfl) ?_
  refine lv_ldiv hx hb dX0_fraction_38 hI9 ?_
  refine L_p8 C h dX0_fraction_39 (fun σ39 H locs eσ39 h => ?_)
  have hNEW : (0 ≤ (gi (ttb σ39) 1).toInt ∧ (gi (ttb σ39) 1).toInt ≤ 6) ∧ (0 ≤ (gi (ttb σ39) 3).toInt ∧ (gi (ttb σ39) 3).toInt ≤ 16 ∧ (gi (ttb σ39) 3).toInt ≤ (g.1.2.1 50 : Int)) ∧ ((gi (ttb σ39) 1).toInt = (gi (ttb σ) 1).toInt) ∧ ((gi (ttb σ39) 3).toInt = (gi (ttb σ) 3).toInt) := ⟨(by rw [eσ39] <;> exact hlp), (by rw [eσ39] <;> exact hld), (by rw [eσ39] <;> exact hlpq), (by rw [eσ39] <;> exact hldq)⟩
  obtain ⟨hlp, hld, hlpq, hldq⟩ := hNEW
  refine lv_aload_n hx hb dX0_fraction_42 rfl (lv_at hl 0 rfl) ?_
  refine lv_lload_n hx hb dX0_fraction_43 rfl (lv_at hl 2 rfl) ?_
  refine lv_lload hx hb dX0_fraction_44 (lv_at hl 3 rfl) ?_
  refine lv_ldiv hx hb dX0_fraction_46 hI9 ?_
  refine L_p9 C h dX0_fraction_47 (fun σ47 H locs eσ47 h => ?_)
  have hNEW : (0 ≤ (gi (ttb σ47) 1).toInt ∧ (gi (ttb σ47) 1).toInt ≤ 6) ∧ (0 ≤ (gi (ttb σ47) 3).toInt ∧ (gi (ttb σ47) 3).toInt ≤ 16 ∧ (gi (ttb σ47) 3).toInt ≤ (g.1.2.1 50 : Int)) ∧ ((gi (ttb σ47) 1).toInt = (gi (ttb σ) 1).toInt) ∧ ((gi (ttb σ47) 3).toInt = (gi (ttb σ) 3).toInt) := ⟨(by rw [eσ47] <;> exact hlp), (by rw [eσ47] <;> exact hld), (by rw [eσ47] <;> exact hlpq), (by rw [eσ47] <;> exact hldq)⟩
  clear hlp hld hlpq hldq
  obtain ⟨hlp, hld, hlpq, hldq⟩ := hNEW
  refine lv_lload_n hx hb dX0_fraction_50 rfl (lv_at hl 1 rfl) ?_
  refine s_calli (As := [.long p1]) (rest := []) 1 C.1 (k_J12_signum l p1) (lw_S q1197 q1198 q171 q1199) rfl rfl (by decide +kernel) ⟨Nat.le_of_ble_eq_true rfl, Nat.le_of_ble_eq_true rfl⟩ rfl hl.1 rfl (Nat.le_of_ble_eq_true rfl) ⟨Nat.le_of_ble_eq_true rfl, Nat.le_of_ble_eq_true rfl⟩ dX0_fraction_51 h.2.2.1 (fun r51 H locs er51 hz1 hk1 hS1 => ?_)
  have h := h.same hk1 hS1
  clear hz1 hk1 hS1
  have he : f_X0_fraction σ p1 p3 = (σ47, r51) := (by have ev4 := ev4.symm; subst ev4; have ex5_9e := ex5_9e.symm; subst ex5_9e; have ex7_9e := ex7_9e.symm; subst ex7_9e; have eσ39 := eσ39.symm; subst eσ39; have eσ47 := eσ47.symm; subst eσ47; have er51 := er51.symm; subst er51; exact rfl)
  exact w_reti (wXL g) C h hr hlocks (congrArg Prod.fst he) (congrArg Prod.snd he) ⟨hlpq, hldq⟩ dX0_fraction_54
