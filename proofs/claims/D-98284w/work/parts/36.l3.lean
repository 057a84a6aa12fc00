/-! walks of methods by contract, printed by gen/mkwalk.py -/
set_option maxRecDepth 100000
def f_X0_evenOf (σ : MS × MS) (p1 : Int32) (p2 : Int32) (p3 : Int32) : Int32 := (let r4 := (f_X5_heads (ttb σ)); let r7 := (f_J11_bitCount r4); let v22 := ((p2 * p3) - (ga (own σ) 17 p1)); if v22 < (0 : Int32) then ((-1 : Int32)) else (if (v22 - ((v22 / (p2 * r7)) * (p2 * r7))) = (0 : Int32) then ((v22 / (p2 * r7))) else ((-1 : Int32))))
set_option maxHeartbeats 4000000 in
set_option maxRecDepth 100000 in
theorem k_X0_evenOf (l : Launch) (g : GL) (σ : MS × MS) (p1 : Int32) (p2 : Int32) (p3 : Int32) (hlp : 0 ≤ (gi (ttb σ) 1).toInt ∧ (gi (ttb σ) 1).toInt ≤ 6) (hld : 0 ≤ (gi (ttb σ) 3).toInt ∧ (gi (ttb σ) 3).toInt ≤ 16 ∧ (gi (ttb σ) 3).toInt ≤ (g.1.2.1 50 : Int)) (h1p : 0 ≤ p1.toInt ∧ p1.toInt < (gi (ttb σ) 1).toInt) (hn : 1 ≤ p2.toInt ∧ p2.toInt ≤ 99) (hbn : ¬ f_J11_bitCount (f_X5_heads (ttb σ)) = 0) : Met l yX0_evenOf (ws_ yX0_evenOf cX0_evenOf 6 (some .int)) ({ frames := 2, cells := 0, slots := 0, locals := 43 } : Room) (wPc (dL g) (g.2.2.1 99) σ [.int p1, .int p2, .int p3]) (wQi (dL g) σ (f_X0_evenOf σ p1 p2 p3) (fun u r => True)) 0 0 (dL g).2.2.2.1 := by
  refine met_W RX0 (by decide) rfl (Nat.le_of_ble_eq_true rfl) ?_
  intro p e s m args below meth c C hr hlocks h ls hl
  have hx := C.1.1
  have hb := C.1.2.1
  have hml := C.1.2.2.1
  have hown := C.1.2.2.2.1
  have hts := C.1.2.2.2.2
  have hl : lv_has ls 6 [(0, .ref (g.2.2.1 99)), (1, .int p1), (2, .int p2), (3, .int p3)] := hl
  have zlm1 : (-1 : Int32).toInt = -1 := rfl
  have zl0 : (0 : Int32).toInt = 0 := rfl
  refine lv_aload_n hx hb dX0_evenOf_0 rfl (lv_at hl 0 rfl) ?_
  refine L_at (rest := []) C h ⟨Nat.le_of_ble_eq_true rfl, Nat.le_of_ble_eq_true rfl⟩ hl.1 (Nat.le_of_ble_eq_true rfl) ⟨Nat.le_of_ble_eq_true rfl, Nat.le_of_ble_eq_true rfl⟩ dX0_evenOf_1 (fun H locs h => ?_)
  refine L_tcalli (As := []) (rest := []) 0 C h (k_X5_heads l g.1 (ttb σ) (by first | assumption | omega)) (lw_V q1001 q1002 q1003 q151 q1004) rfl rfl (by decide +kernel) ⟨Nat.le_of_ble_eq_true rfl, Nat.le_of_ble_eq_true rfl⟩ rfl hl.1 rfl (Nat.le_of_ble_eq_true rfl) ⟨Nat.le_of_ble_eq_true rfl, Nat.le_of_ble_eq_true rfl⟩ dX0_evenOf_4 (fun r4 σ4 H locs eσ4 er4 hE4 h => ?_)
  have h : wH (dL g) σ s H locs := by rw [eσ4] at h; exact h
  have hE4 : (0 ≤ r4.toInt ∧ r4.toInt ≤ 63) := hE4
  have hrg_4 := hE4
  clear eσ4
  refine s_calli (As := [.int r4]) (rest := []) 1 C.1 (k_J11_bitCount l r4) (lw_S q1009 q1010 q170 q1011) rfl rfl (by decide +kernel) ⟨Nat.le_of_ble_eq_true rfl, Nat.le_of_ble_eq_true rfl⟩ rfl hl.1 rfl (Nat.le_of_ble_eq_true rfl) ⟨Nat.le_of_ble_eq_true rfl, Nat.le_of_ble_eq_true rfl⟩ dX0_evenOf_7 h.2.2.1 (fun r7 H locs er7 hz1 hk1 hS1 => ?_)
  have h := h.same hk1 hS1
  clear hz1 hk1 hS1
  refine lv_istore (lv' := [(4, .int r7), (0, .ref (g.2.2.1 99)), (1, .int p1), (2, .int p2), (3, .int p3)]) hx hb dX0_evenOf_10 hl (by decide) rfl (fun ls hl => ?_)
  have b7 := bc_rng hrg_4
  rw [← er7] at b7
  refine lv_iload_n hx hb dX0_evenOf_12 rfl (lv_at hl 3 rfl) ?_
  refine lv_iload_n hx hb dX0_evenOf_13 rfl (lv_at hl 4 rfl) ?_
  refine lv_imul hx hb dX0_evenOf_14 ?_
  refine lv_aload_n hx hb dX0_evenOf_15 rfl (lv_at hl 1 rfl) ?_
  refine L_g17 C h dX0_evenOf_16 ?_
  refine lv_iload_n hx hb dX0_evenOf_19 rfl (lv_at hl 2 rfl) ?_
  refine L_l117 C h (ix_of (rfl : p1.toInt = p1.toInt) (by omega)) dX0_evenOf_20 ?_
  refine lv_isub hx hb dX0_evenOf_21 ?_
  refine lv_topi (fun v22 ev22 => ?_)
  refine lv_istore (lv' := [(5, .int v22), (4, .int r7), (0, .ref (g.2.2.1 99)), (1, .int p1), (2, .int p2), (3, .int p3)]) hx hb dX0_evenOf_22 hl (by decide) rfl (fun ls hl => ?_)
  refine lv_iload hx hb dX0_evenOf_24 (lv_at hl 0 rfl) ?_
  refine lv_if_lt (tgt := 39) hx hb dX0_evenOf_26 (by decide) (fun c26 => ?_) (fun c26 => ?_)
  · have i26 := c_lt c26
    refine lv_iconst (v := -1) hx hb dX0_evenOf_39 (by decide) ?_
    refine lv_goto (tgt := 50) hx hb dX0_evenOf_40 (by decide) ?_
    have he : f_X0_evenOf σ p1 p2 p3 = (-1 : Int32) := (by have er4 := er4.symm; subst er4; have er7 := er7.symm; subst er7; have ev22 := ev22.symm; subst ev22; exact ((if_pos c26).trans rfl))
    exact w_reti (wXL g) C h hr hlocks rfl he trivial dX0_evenOf_50
  · have i26 := c_nlt c26
    refine lv_iload hx hb dX0_evenOf_29 (lv_at hl 0 rfl) ?_
    refine lv_iload_n hx hb dX0_evenOf_31 rfl (lv_at hl 4 rfl) ?_
    refine lv_iload hx hb dX0_evenOf_32 (lv_at hl 1 rfl) ?_
    refine lv_imul hx hb dX0_evenOf_34 ?_
    refine lv_irem hx hb dX0_evenOf_35 (mul_ne99 hn b7 (by rw [er7, er4]; exact hbn)) ?_
    refine lv_if_eq (tgt := 43) hx hb dX0_evenOf_36 (by decide) (fun c36 => ?_) (fun c36 => ?_)
    · have i36 := c_eq c36
      refine lv_iload hx hb dX0_evenOf_43 (lv_at hl 0 rfl) ?_
      refine lv_iload_n hx hb dX0_evenOf_45 rfl (lv_at hl 4 rfl) ?_
      refine lv_iload hx hb dX0_evenOf_46 (lv_at hl 1 rfl) ?_
      refine lv_imul hx hb dX0_evenOf_48 ?_
      refine lv_idiv hx hb dX0_evenOf_49 (mul_ne99 hn b7 (by rw [er7, er4]; exact hbn)) ?_
      have he : f_X0_evenOf σ p1 p2 p3 = (v22 / (p2 * r7)) := (by have er4 := er4.symm; subst er4; have er7 := er7.symm; subst er7; have ev22 := ev22.symm; subst ev22; exact ((if_neg c26).trans ((if_pos c36).trans rfl)))
      exact w_reti (wXL g) C h hr hlocks rfl he trivial dX0_evenOf_50
    · have i36 := c_ne c36
      refine lv_iconst (v := -1) hx hb dX0_evenOf_39 (by decide) ?_
      refine lv_goto (tgt := 50) hx hb dX0_evenOf_40 (by decide) ?_
      have he : f_X0_evenOf σ p1 p2 p3 = (-1 : Int32) := (by have er4 := er4.symm; subst er4; have er7 := er7.symm; subst er7; have ev22 := ev22.symm; subst ev22; exact ((if_neg c26).trans ((if_neg c36).trans rfl)))
      exact w_reti (wXL g) C h hr hlocks rfl he trivial dX0_evenOf_50
def f_X0_dinnersFor_L17 (σ : MS × MS) (y1_17 : Int32) (y2_17 : Int32) : Nat → Int32 → Int32 → Int32 × Int32
  | 0, x3_17, x4_17 => (x3_17, x4_17)
  | n + 1, x3_17, x4_17 => if (gi (ttb σ) 1) ≤ x4_17 then ((x3_17, x4_17)) else (if x3_17 < (0 : Int32) then ((x3_17, x4_17)) else ((let r37 := (f_X5_heads (ttb σ)); let r42 := (f_X0_has r37 x4_17); if r42 = (0 : Int32) then (f_X0_dinnersFor_L17 σ y1_17 y2_17 n x3_17 (x4_17 + (1 : Int32))) else ((let r56 := (f_X0_evenOf σ x4_17 y1_17 y2_17); (let z74_ : Int32 := (if (0 : Int32) ≤ r56 then ((x3_17 + r56)) else ((-1 : Int32))); let t0_74 := z74_; f_X0_dinnersFor_L17 σ y1_17 y2_17 n t0_74 (x4_17 + (1 : Int32))))))))
def f_X0_dinnersFor_L6 (σ : MS × MS) (y1_6 : Int32) : Nat → Int32 → (MS × MS) × Int32
  | 0, x2_6 => ((m00, m00), 0)
  | n + 1, x2_6 => if (99 : Int32) < x2_6 then ((σ, (-1 : Int32))) else ((let zL17 := f_X0_dinnersFor_L17 σ y1_6 x2_6 (7) (0 : Int32) (0 : Int32); let x3_17e := zL17.1; let x4_17e := zL17.2; if x3_17e = x2_6 then ((σ, x2_6)) else (f_X0_dinnersFor_L6 σ y1_6 n (x2_6 + (1 : Int32)))))
def f_X0_dinnersFor (σ : MS × MS) (p1 : Int32) : (MS × MS) × Int32 := (let σ1 := (f_X0_balances σ); f_X0_dinnersFor_L6 σ1 p1 (101) (0 : Int32))
set_option maxHeartbeats 4000000 in
set_option maxRecDepth 100000 in
theorem k_X0_dinnersFor (l : Launch) (g : GL) (σ : MS × MS) (p1 : Int32) (hlp : 0 ≤ (gi (ttb σ) 1).toInt ∧ (gi (ttb σ) 1).toInt ≤ 6) (hld : 0 ≤ (gi (ttb σ) 3).toInt ∧ (gi (ttb σ) 3).toInt ≤ 16 ∧ (gi (ttb σ) 3).toInt ≤ (g.1.2.1 50 : Int)) (hn1 : 1 ≤ p1.toInt ∧ p1.toInt ≤ 99) : Met l yX0_dinnersFor (ws_ yX0_dinnersFor cX0_dinnersFor 6 (some .int)) ({ frames := 3, cells := 0, slots := 0, locals := 68 } : Room) (wPc (dL g) (g.2.2.1 99) σ [.int p1]) (wQi (dL g) (f_X0_dinnersFor σ p1).1 (f_X0_dinnersFor σ p1).2 (fun u r => ((gi (ttb u) 1).toInt = (gi (ttb σ) 1).toInt) ∧ ((gi (ttb u) 3).toInt = (gi (ttb σ) 3).toInt) ∧ (Fr [7, 13, 14, 15, 20] [16, 17, 18] (fun _ => False) (fun _ => False) (own σ) (own u)))) 0 0 (dL g).2.2.2.1 := by
  refine met_W RX0 (by decide) rfl (Nat.le_of_ble_eq_true rfl) ?_
  intro p e s m args below meth c C hr hlocks h ls hl
  have hx := C.1.1
  have hb := C.1.2.1
  have hml := C.1.2.2.1
  have hown := C.1.2.2.2.1
  have hts := C.1.2.2.2.2
  have hl : lv_has ls 6 [(0, .ref (g.2.2.1 99)), (1, .int p1)] := hl
  have hlpq : (gi (ttb σ) 1).toInt = (gi (ttb σ) 1).toInt := rfl
  have hldq : (gi (ttb σ) 3).toInt = (gi (ttb σ) 3).toInt := rfl
  have hBF : Fr [7, 13, 14, 15, 20] [16, 17, 18] (fun _ => False) (fun _ => False) (own σ) (own σ) := Fr.rf
  have zlm1 : (-1 : Int32).toInt = -1 := rfl
  have zl0 : (0 : Int32).toInt = 0 := rfl
  have zl1 : (1 : Int32).toInt = 1 := rfl
  have zl99 : (99 : Int32).toInt = 99 := rfl
  refine lv_aload_n hx hb dX0_dinnersFor_0 rfl (lv_at hl 0 rfl) ?_
  refine w_callv (ci := 0) (q0 := 6) (As := []) (rest := []) 0 (wXL g) C h (k_X0_balances l g σ (by first | assumption | omega) (by first | assumption | omega)) (lw_V q1268 q1270 qs54 q144 q1271) rfl rfl rfl rfl (by decide +kernel) ⟨Nat.le_of_ble_eq_true rfl, Nat.le_of_ble_eq_true rfl⟩ rfl hl.1 rfl (Nat.le_of_ble_eq_true rfl) ⟨Nat.le_of_ble_eq_true rfl, Nat.le_of_ble_eq_true rfl⟩ dX0_dinnersFor_1 (fun σ1 H locs eσ1 hE1 h => ?_)
  have hE1 : ((gi (ttb σ1) 1).toInt = (gi (ttb σ) 1).toInt) ∧ ((gi (ttb σ1) 3).toInt = (gi (ttb σ) 3).toInt) ∧ (Fr [7, 13, 14, 15, 20] [16, 17, 18] (fun _ => False) (fun _ => False) (own σ) (own σ1)) ∧ ((ttb σ1) = (ttb σ)) := hE1
  obtain ⟨hlpq_1, hldq_1, hBF_1, hB2_1⟩ := hE1
  have hNEW : (0 ≤ (gi (ttb σ1) 1).toInt ∧ (gi (ttb σ1) 1).toInt ≤ 6) ∧ (0 ≤ (gi (ttb σ1) 3).toInt ∧ (gi (ttb σ1) 3).toInt ≤ 16 ∧ (gi (ttb σ1) 3).toInt ≤ (g.1.2.1 50 : Int)) ∧ ((gi (ttb σ1) 1).toInt = (gi (ttb σ) 1).toInt) ∧ ((gi (ttb σ1) 3).toInt = (gi (ttb σ) 3).toInt) ∧ (Fr [7, 13, 14, 15, 20] [16, 17, 18] (fun _ => False) (fun _ => False) (own σ) (own σ1)) := ⟨(by first | assumption | omega), (by first | assumption | omega), (by first | assumption | omega), (by first | assumption | omega), (Fr.tr hBF hBF_1)⟩
  obtain ⟨hlp, hld, hlpq, hldq, hBF⟩ := hNEW
  refine lv_iconst (v := 0) hx hb dX0_dinnersFor_4 (by decide) ?_
  refine lv_istore_n (lv' := [(2, .int (0 : Int32)), (0, .ref (g.2.2.1 99)), (1, .int p1)]) hx hb dX0_dinnersFor_5 rfl hl (by decide) rfl (fun ls hl => ?_)
  have hL6 : ∀ (n : Nat) (x2_6 : Int32) (H : Heap) (locs : List Loc) (ls : Array Slot), (0 ≤ x2_6.toInt ∧ x2_6.toInt ≤ 100) → (100 - x2_6.toInt).toNat < n → f_X0_dinnersFor σ p1 = f_X0_dinnersFor_L6 σ1 p1 n x2_6 → wH (dL g) σ1 s H locs → lv_has ls 6 [(0, .ref (g.2.2.1 99)), (1, .int p1), (2, .int x2_6)] → W p l e ({ frames := 3, cells := 0, slots := 0, locals := 68 } : Room) s m args below meth c H locs 0 0 (MQ below (wQi (dL g) (f_X0_dinnersFor σ p1).1 (f_X0_dinnersFor σ p1).2 (fun u r => ((gi (ttb u) 1).toInt = (gi (ttb σ) 1).toInt) ∧ ((gi (ttb u) 3).toInt = (gi (ttb σ) 3).toInt) ∧ (Fr [7, 13, 14, 15, 20] [16, 17, 18] (fun _ => False) (fun _ => False) (own σ) (own u)))) args s 0 0 (dL g).2.2.2.1) (F0 m 6 ls []) := by
    intro n
    induction n with
    | zero =>
      intro x2_6 H locs ls _ hm; exact absurd hm (Nat.not_lt_zero _)
    | succ n ih =>
      intro x2_6 H locs ls hI6 hm hf6 h hl
      refine lv_iload_n hx hb dX0_dinnersFor_6 rfl (lv_at hl 2 rfl) ?_
      refine lv_bipush (v := 99) hx hb dX0_dinnersFor_7 (by decide) ?_
      refine lv_icmp_gt (tgt := 94) hx hb dX0_dinnersFor_9 (by decide) (fun c9 => ?_) (fun c9 => ?_)
      · have i9 := c_lt c9
        refine lv_iconst (v := -1) hx hb dX0_dinnersFor_94 (by decide) ?_
        have he : f_X0_dinnersFor σ p1 = (σ1, (-1 : Int32)) := (by exact (hf6.trans ((if_pos c9).trans rfl)))
        exact w_reti (wXL g) C h hr hlocks (congrArg Prod.fst he) (congrArg Prod.snd he) ⟨hlpq, hldq, hBF⟩ dX0_dinnersFor_95
      · have i9 := c_nlt c9
        refine lv_iconst (v := 0) hx hb dX0_dinnersFor_12 (by decide) ?_
        refine lv_istore_n (lv' := [(3, .int (0 : Int32)), (0, .ref (g.2.2.1 99)), (1, .int p1), (2, .int x2_6)]) hx hb dX0_dinnersFor_13 rfl hl (by decide) rfl (fun ls hl => ?_)
        refine lv_iconst (v := 0) hx hb dX0_dinnersFor_14 (by decide) ?_
        refine lv_istore (lv' := [(4, .int (0 : Int32)), (3, .int (0 : Int32)), (0, .ref (g.2.2.1 99)), (1, .int p1), (2, .int x2_6)]) hx hb dX0_dinnersFor_15 hl (by decide) rfl (fun ls hl => ?_)
        have hL17 : ∀ (n : Nat) (x3_17 : Int32) (x4_17 : Int32) (H : Heap) (locs : List Loc) (ls : Array Slot), (0 ≤ x4_17.toInt ∧ x4_17.toInt ≤ (gi (ttb σ1) 1).toInt) → ((gi (ttb σ1) 1).toInt - x4_17.toInt).toNat < n → wH (dL g) σ1 s H locs → lv_has ls 6 [(0, .ref (g.2.2.1 99)), (1, .int p1), (2, .int x2_6), (3, .int x3_17), (4, .int x4_17)] → (∀ (x3_17' : Int32) (x4_17' : Int32) (H : Heap) (locs : List Loc) (ls : Array Slot), f_X0_dinnersFor_L17 σ1 p1 x2_6 n x3_17 x4_17 = (x3_17', x4_17') → (0 ≤ x4_17'.toInt ∧ x4_17'.toInt ≤ (gi (ttb σ1) 1).toInt) → wH (dL g) σ1 s H locs → lv_has ls 6 [(0, .ref (g.2.2.1 99)), (1, .int p1), (2, .int x2_6), (3, .int x3_17')] → W p l e ({ frames := 3, cells := 0, slots := 0, locals := 68 } : Room) s m args below meth c H locs 0 0 (MQ below (wQi (dL g) (f_X0_dinnersFor σ p1).1 (f_X0_dinnersFor σ p1).2 (fun u r => ((gi (ttb u) 1).toInt = (gi (ttb σ) 1).toInt) ∧ ((gi (ttb u) 3).toInt = (gi (ttb σ) 3).toInt) ∧ (Fr [7, 13, 14, 15, 20] [16, 17, 18] (fun _ => False) (fun _ => False) (own σ) (own u)))) args s 0 0 (dL g).2.2.2.1) (F0 m 81 ls [])) → W p l e ({ frames := 3, cells := 0, slots := 0, locals := 68 } : Room) s m args below meth c H locs 0 0 (MQ below (wQi (dL g) (f_X0_dinnersFor σ p1).1 (f_X0_dinnersFor σ p1).2 (fun u r => ((gi (ttb u) 1).toInt = (gi (ttb σ) 1).toInt) ∧ ((gi (ttb u) 3).toInt = (gi (ttb σ) 3).toInt) ∧ (Fr [7, 13, 14, 15, 20] [16, 17, 18] (fun _ => False) (fun _ => False) (own σ) (own u)))) args s 0 0 (dL g).2.2.2.1) (F0 m 17 ls []) := by
          intro n
          induction n with
          | zero =>
            intro x3_17 x4_17 H locs ls _ hm; exact absurd hm (Nat.not_lt_zero _)
          | succ n ih =>
            intro x3_17 x4_17 H locs ls hI17 hm h hl kk
            refine lv_iload hx hb dX0_dinnersFor_17 (lv_at hl 4 rfl) ?_
            refine lv_aload_n hx hb dX0_dinnersFor_19 rfl (lv_at hl 0 rfl) ?_
            refine L_at (rest := [.int x4_17]) C h ⟨Nat.le_of_ble_eq_true rfl, Nat.le_of_ble_eq_true rfl⟩ hl.1 (Nat.le_of_ble_eq_true rfl) ⟨Nat.le_of_ble_eq_true rfl, Nat.le_of_ble_eq_true rfl⟩ dX0_dinnersFor_20 (fun H locs h => ?_)
            refine L_t1 C h dX0_dinnersFor_23 ?_
            refine lv_icmp_ge (tgt := 81) hx hb dX0_dinnersFor_26 (by decide) (fun c26 => ?_) (fun c26 => ?_)
            · have i26 := c_le c26
              exact kk x3_17 x4_17 _ _ _ (show f_X0_dinnersFor_L17 σ1 p1 x2_6 (n + 1) x3_17 x4_17 = (x3_17, x4_17) from (by exact ((if_pos c26).trans rfl)))  (by first | assumption | omega) h (lv_sub hl [0, 1, 2, 3] rfl)
            · have i26 := c_nle c26
              refine lv_iload_n hx hb dX0_dinnersFor_29 rfl (lv_at hl 3 rfl) ?_
              refine lv_if_lt (tgt := 81) hx hb dX0_dinnersFor_30 (by decide) (fun c30 => ?_) (fun c30 => ?_)
              · have i30 := c_lt c30
                exact kk x3_17 x4_17 _ _ _ (show f_X0_dinnersFor_L17 σ1 p1 x2_6 (n + 1) x3_17 x4_17 = (x3_17, x4_17) from (by exact ((if_neg c26).trans ((if_pos c30).trans rfl))))  (by first | assumption | omega) h (lv_sub hl [0, 1, 2, 3] rfl)
              · have i30 := c_nlt c30
                refine lv_aload_n hx hb dX0_dinnersFor_33 rfl (lv_at hl 0 rfl) ?_
                refine L_at (rest := []) C h ⟨Nat.le_of_ble_eq_true rfl, Nat.le_of_ble_eq_true rfl⟩ hl.1 (Nat.le_of_ble_eq_true rfl) ⟨Nat.le_of_ble_eq_true rfl, Nat.le_of_ble_eq_true rfl⟩ dX0_dinnersFor_34 (fun H locs h => ?_)
                refine L_tcalli (As := []) (rest := []) 0 C h (k_X5_heads l g.1 (ttb σ1) (by first | assumption | omega)) (lw_V q1001 q1002 q1003 q151 q1004) rfl rfl (by decide +kernel) ⟨Nat.le_of_ble_eq_true rfl, Nat.le_of_ble_eq_true rfl⟩ rfl hl.1 rfl (Nat.le_of_ble_eq_true rfl) ⟨Nat.le_of_ble_eq_true rfl, Nat.le_of_ble_eq_true rfl⟩ dX0_dinnersFor_37 (fun r37 σ37 H locs eσ37 er37 hE37 h => ?_)
                have h : wH (dL g) σ1 s H locs := by rw [eσ37] at h; exact h
                have hE37 : (0 ≤ r37.toInt ∧ r37.toInt ≤ 63) := hE37
                have hrg_37 := hE37
                clear eσ37
                refine lv_iload hx hb dX0_dinnersFor_40 (lv_at hl 4 rfl) ?_
                refine s_callz (As := [.int r37, .int x4_17]) (rest := []) 2 C.1 (k_X0_has l r37 x4_17) (lw_S q1219 q1220 q144 q1221) rfl rfl (by decide +kernel) ⟨Nat.le_of_ble_eq_true rfl, Nat.le_of_ble_eq_true rfl⟩ rfl hl.1 rfl (Nat.le_of_ble_eq_true rfl) ⟨Nat.le_of_ble_eq_true rfl, Nat.le_of_ble_eq_true rfl⟩ dX0_dinnersFor_42 h.2.2.1 (fun r42 H locs er42 br42 hz1 hk1 hS1 => ?_)
                have h := h.same hk1 hS1
                clear hz1 hk1 hS1
                refine lv_if_ne (tgt := 51) hx hb dX0_dinnersFor_45 (by decide) (fun c45 => ?_) (fun c45 => ?_)
                · have i45 := c_ne c45
                  have okr42 := lhas_ok er42 c45
                  refine lv_aload_n hx hb dX0_dinnersFor_51 rfl (lv_at hl 0 rfl) ?_
                  refine lv_iload hx hb dX0_dinnersFor_52 (lv_at hl 4 rfl) ?_
                  refine lv_iload_n hx hb dX0_dinnersFor_54 rfl (lv_at hl 1 rfl) ?_
                  refine lv_iload_n hx hb dX0_dinnersFor_55 rfl (lv_at hl 2 rfl) ?_
                  refine w_calli (ci := 0) (q0 := 6) (As := [.int x4_17, .int p1, .int x2_6]) (rest := []) 3 (wXL g) C h (k_X0_evenOf l g σ1 x4_17 p1 x2_6 (by first | assumption | omega) (by first | assumption | omega) (by first | assumption | omega) (by first | assumption | omega) (by rw [← er37]; exact bc_ne (p := x4_17) hrg_37 (by omega) (by rw [okr42]; decide))) (lw_V q1309 q1311 qs58 q144 q1312) rfl rfl rfl rfl (by decide +kernel) ⟨Nat.le_of_ble_eq_true rfl, Nat.le_of_ble_eq_true rfl⟩ rfl hl.1 rfl (Nat.le_of_ble_eq_true rfl) ⟨Nat.le_of_ble_eq_true rfl, Nat.le_of_ble_eq_true rfl⟩ dX0_dinnersFor_56 (fun r56 σ56 H locs eσ56 er56 hE56 h => ?_)
                  rw [eσ56] at h
                  clear hE56
                  clear eσ56
                  refine lv_istore (lv' := [(5, .int r56), (0, .ref (g.2.2.1 99)), (1, .int p1), (2, .int x2_6), (3, .int x3_17), (4, .int x4_17)]) hx hb dX0_dinnersFor_59 hl (by decide) rfl (fun ls hl => ?_)
                  refine lv_iload hx hb dX0_dinnersFor_61 (lv_at hl 0 rfl) ?_
                  have j74 : ∀ (t0_74 : Int32) (H : Heap) (locs : List Loc) (ls : Array Slot) (ej74 : (if (0 : Int32) ≤ r56 then ((x3_17 + r56)) else ((-1 : Int32))) = t0_74) (h : wH (dL g) σ1 s H locs) (hl : lv_has ls 6 [(0, .ref (g.2.2.1 99)), (1, .int p1), (2, .int x2_6), (4, .int x4_17)]), W p l e ({ frames := 3, cells := 0, slots := 0, locals := 68 } : Room) s m args below meth c H locs 0 0 (MQ below (wQi (dL g) (f_X0_dinnersFor σ p1).1 (f_X0_dinnersFor σ p1).2 (fun u r => ((gi (ttb u) 1).toInt = (gi (ttb σ) 1).toInt) ∧ ((gi (ttb u) 3).toInt = (gi (ttb σ) 3).toInt) ∧ (Fr [7, 13, 14, 15, 20] [16, 17, 18] (fun _ => False) (fun _ => False) (own σ) (own u)))) args s 0 0 (dL g).2.2.2.1) (F0 m 74 ls [.int t0_74]) := by
                    intro t0_74 H locs ls ej74 h hl
                    have et0_74 := ej74.symm
                    refine lv_istore_n (lv' := [(3, .int t0_74), (0, .ref (g.2.2.1 99)), (1, .int p1), (2, .int x2_6), (4, .int x4_17)]) hx hb dX0_dinnersFor_74 rfl hl (by decide) rfl (fun ls hl => ?_)
                    refine lv_iinc (v := (x4_17 + (1 : Int32))) (lv' := [(4, .int (x4_17 + (1 : Int32))), (3, .int t0_74), (0, .ref (g.2.2.1 99)), (1, .int p1), (2, .int x2_6)]) hx hb dX0_dinnersFor_75 hl (k := 4) rfl rfl (by decide) rfl (fun ls hl => ?_)
                    refine lv_goto (tgt := 17) hx hb dX0_dinnersFor_78 (by decide) ?_
                    have tt4 : (x4_17 + (1 : Int32)).toInt = (x4_17.toInt + (1)) := (i_add (rfl : x4_17.toInt = x4_17.toInt) zl1 (by omega))
                    exact ih t0_74 (x4_17 + (1 : Int32)) _ _ _  (by first | assumption | omega) (by omega) h (lv_sub hl [2, 3, 4, 1, 0] rfl) (fun x3_17' x4_17' H locs ls en hI h hl => kk x3_17' x4_17' H locs ls ((show f_X0_dinnersFor_L17 σ1 p1 x2_6 (n + 1) x3_17 x4_17 = f_X0_dinnersFor_L17 σ1 p1 x2_6 n t0_74 (x4_17 + (1 : Int32)) from (by have er37 := er37.symm; subst er37; have er42 := er42.symm; subst er42; have er56 := er56.symm; subst er56; have et0_74 := et0_74.symm; subst et0_74; exact ((if_neg c26).trans ((if_neg c30).trans ((if_neg c45).trans rfl))))).trans en) hI h hl)
                  refine lv_if_ge (tgt := 70) hx hb dX0_dinnersFor_63 (by decide) (fun c63 => ?_) (fun c63 => ?_)
                  · have i63 := c_le c63
                    refine lv_iload_n hx hb dX0_dinnersFor_70 rfl (lv_at hl 4 rfl) ?_
                    refine lv_iload hx hb dX0_dinnersFor_71 (lv_at hl 0 rfl) ?_
                    refine lv_iadd hx hb dX0_dinnersFor_73 ?_
                    exact j74 _ _ _ _ (by exact ((if_pos c63).trans rfl)) h (lv_sub hl [1, 2, 3, 5] rfl)
                  · have i63 := c_nle c63
                    refine lv_iconst (v := -1) hx hb dX0_dinnersFor_66 (by decide) ?_
                    refine lv_goto (tgt := 74) hx hb dX0_dinnersFor_67 (by decide) ?_
                    exact j74 _ _ _ _ (by exact ((if_neg c63).trans rfl)) h (lv_sub hl [1, 2, 3, 5] rfl)
                · have i45 := c_eq c45
                  refine lv_goto (tgt := 75) hx hb dX0_dinnersFor_48 (by decide) ?_
                  refine lv_iinc (v := (x4_17 + (1 : Int32))) (lv' := [(4, .int (x4_17 + (1 : Int32))), (0, .ref (g.2.2.1 99)), (1, .int p1), (2, .int x2_6), (3, .int x3_17)]) hx hb dX0_dinnersFor_75 hl (k := 4) rfl rfl (by decide) rfl (fun ls hl => ?_)
                  refine lv_goto (tgt := 17) hx hb dX0_dinnersFor_78 (by decide) ?_
                  have tt4 : (x4_17 + (1 : Int32)).toInt = (x4_17.toInt + (1)) := (i_add (rfl : x4_17.toInt = x4_17.toInt) zl1 (by omega))
                  exact ih x3_17 (x4_17 + (1 : Int32)) _ _ _  (by first | assumption | omega) (by omega) h (lv_sub hl [1, 2, 3, 4, 0] rfl) (fun x3_17' x4_17' H locs ls en hI h hl => kk x3_17' x4_17' H locs ls ((show f_X0_dinnersFor_L17 σ1 p1 x2_6 (n + 1) x3_17 x4_17 = f_X0_dinnersFor_L17 σ1 p1 x2_6 n x3_17 (x4_17 + (1 : Int32)) from (by have er37 := er37.symm; subst er37; have er42 := er42.symm; subst er42; exact ((if_neg c26).trans ((if_neg c30).trans ((if_pos c45).trans rfl))))).trans en) hI h hl)
        refine hL17 (7) (0 : Int32) (0 : Int32) _ _ _  (by first | assumption | omega) (by omega) h (lv_sub hl [2, 3, 4, 1, 0] rfl) (fun x3_17e x4_17e H locs ls eL17 hI17 h hl => ?_)
        have ex3_17e : x3_17e = (f_X0_dinnersFor_L17 σ1 p1 x2_6 (7) (0 : Int32) (0 : Int32)).1 := by rw [eL17]
        have ex4_17e : x4_17e = (f_X0_dinnersFor_L17 σ1 p1 x2_6 (7) (0 : Int32) (0 : Int32)).2 := by rw [eL17]
        refine lv_iload_n hx hb dX0_dinnersFor_81 rfl (lv_at hl 3 rfl) ?_
        refine lv_iload_n hx hb dX0_dinnersFor_82 rfl (lv_at hl 2 rfl) ?_
        refine lv_icmp_ne (tgt := 88) hx hb dX0_dinnersFor_83 (by decide) (fun c83 => ?_) (fun c83 => ?_)
        · have i83 := c_ne c83
          refine lv_iinc (v := (x2_6 + (1 : Int32))) (lv' := [(2, .int (x2_6 + (1 : Int32))), (0, .ref (g.2.2.1 99)), (1, .int p1), (3, .int x3_17e)]) hx hb dX0_dinnersFor_88 hl (k := 2) rfl rfl (by decide) rfl (fun ls hl => ?_)
          refine lv_goto (tgt := 6) hx hb dX0_dinnersFor_91 (by decide) ?_
          have tt2 : (x2_6 + (1 : Int32)).toInt = (x2_6.toInt + (1)) := (i_add (rfl : x2_6.toInt = x2_6.toInt) zl1 (by omega))
          exact ih (x2_6 + (1 : Int32)) _ _ _  (by first | assumption | omega) (by omega) (by have ex3_17e := ex3_17e.symm; subst ex3_17e; have ex4_17e := ex4_17e.symm; subst ex4_17e; exact (hf6.trans ((if_neg c9).trans ((if_neg c83).trans rfl)))) h (lv_sub hl [1, 2, 0] rfl)
        · have i83 := c_eq c83
          refine lv_iload_n hx hb dX0_dinnersFor_86 rfl (lv_at hl 2 rfl) ?_
          have he : f_X0_dinnersFor σ p1 = (σ1, x2_6) := (by have ex3_17e := ex3_17e.symm; subst ex3_17e; have ex4_17e := ex4_17e.symm; subst ex4_17e; exact (hf6.trans ((if_neg c9).trans ((if_pos c83).trans rfl))))
          exact w_reti (wXL g) C h hr hlocks (congrArg Prod.fst he) (congrArg Prod.snd he) ⟨hlpq, hldq, hBF⟩ dX0_dinnersFor_87
  exact hL6 (101) (0 : Int32) _ _ _  (by first | assumption | omega) (by omega) (by have eσ1 := eσ1.symm; subst eσ1; exact rfl) h (lv_sub hl [1, 2, 0] rfl)
def f_X0_even (σ : MS × MS) (p1 : Int32) : (MS × MS) × Int32 := (let r7 := (f_X0_isIn p1.toInt64 (1 : Int64) (99 : Int64)); (let z18_ : Int32 := (if r7 = (0 : Int32) then ((1 : Int32)) else ((0 : Int32))); let t0_18 := z18_; (let σ18 := lsi σ 7 t0_18; if (gi (own σ18) 7) ≤ (0 : Int32) then ((let z35 := (f_X0_dinnersFor σ18 p1); let σ35 := z35.1; let r35 := z35.2; let z38 := (f_X0_answer σ35 r35); let σ38 := z38.1; let r38 := z38.2; (σ38, r38))) else ((σ18, (-1 : Int32))))))
set_option maxHeartbeats 4000000 in
set_option maxRecDepth 100000 in
theorem k_X0_even (l : Launch) (g : GL) (σ : MS × MS) (p1 : Int32) (hlp : 0 ≤ (gi (ttb σ) 1).toInt ∧ (gi (ttb σ) 1).toInt ≤ 6) (hld : 0 ≤ (gi (ttb σ) 3).toInt ∧ (gi (ttb σ) 3).toInt ≤ 16 ∧ (gi (ttb σ) 3).toInt ≤ (g.1.2.1 50 : Int)) : Met l yX0_even (ws_ yX0_even cX0_even 2 (some .int)) ({ frames := 4, cells := 0, slots := 0, locals := 93 } : Room) (wPc (dL g) (g.2.2.1 99) σ [.int p1]) (wQi (dL g) (f_X0_even σ p1).1 (f_X0_even σ p1).2 (fun u r => ((gi (ttb u) 1).toInt = (gi (ttb σ) 1).toInt) ∧ ((gi (ttb u) 3).toInt = (gi (ttb σ) 3).toInt) ∧ (Fr [7, 13, 14, 15, 20] [16, 17, 18] (fun _ => False) (fun _ => False) (own σ) (own u)))) 0 0 (dL g).2.2.2.1 := by
  refine met_W RX0 (by decide) rfl (Nat.le_of_ble_eq_true rfl) ?_
  intro p e s m args below meth c C hr hlocks h ls hl
  have hx := C.1.1
  have hb := C.1.2.1
  have hml := C.1.2.2.1
  have hown := C.1.2.2.2.1
  have hts := C.1.2.2.2.2
  have hl : lv_has ls 2 [(0, .ref (g.2.2.1 99)), (1, .int p1)] := hl
  have hlpq : (gi (ttb σ) 1).toInt = (gi (ttb σ) 1).toInt := rfl
  have hldq : (gi (ttb σ) 3).toInt = (gi (ttb σ) 3).toInt := rfl
  have hBF : Fr [7, 13, 14, 15, 20] [16, 17, 18] (fun _ => False) (fun _ => False) (own σ) (own σ) := Fr.rf
  have zlm1 : (-1 : Int32).toInt = -1 := rfl
  have zl0 : (0 : Int32).toInt = 0 := rfl
  have zl1 : (1 : Int32).toInt = 1 := rfl
  refine lv_aload_n hx hb dX0_even_0 rfl (lv_at hl 0 rfl) ?_
  refine lv_iload_n hx hb dX0_even_1 rfl (lv_at hl 1 rfl) ?_
  refine lv_i2l (v := p1.toInt64) hx hb dX0_even_2 rfl ?_
  refine lv_lconst (v := 1) hx hb dX0_even_3 (by decide) ?_
  refine lv_ldc2 hx hb hown (hts _ q1304) dX0_even_4 ?_
  refine s_callz (As := [.long p1.toInt64, .long (1 : Int64), .long (99 : Int64)]) (rest := [.ref (g.2.2.1 99)]) 3 C.1 (k_X0_isIn l p1.toInt64 (1 : Int64) (99 : Int64)) (lw_S q994 q995 q144 q996) rfl rfl (by decide +kernel) ⟨Nat.le_of_ble_eq_true rfl, Nat.le_of_ble_eq_true rfl⟩ rfl hl.1 rfl (Nat.le_of_ble_eq_true rfl) ⟨Nat.le_of_ble_eq_true rfl, Nat.le_of_ble_eq_true rfl⟩ dX0_even_7 h.2.2.1 (fun r7 H locs er7 br7 hz1 hk1 hS1 => ?_)
  have h := h.same hk1 hS1
  clear hz1 hk1 hS1
  have j18 : ∀ (t0_18 : Int32) (H : Heap) (locs : List Loc) (ls : Array Slot) (ej18 : (if r7 = (0 : Int32) then ((1 : Int32)) else ((0 : Int32))) = t0_18) (bt0_18 : t0_18 = 0 ∨ t0_18 = 1) (hI18 : (0 < t0_18.toInt) ∨ (1 ≤ p1.toInt ∧ p1.toInt ≤ 99)) (h : wH (dL g) σ s H locs) (hl : lv_has ls 2 [(0, .ref (g.2.2.1 99)), (1, .int p1)]), W p l e ({ frames := 4, cells := 0, slots := 0, locals := 93 } : Room) s m args below meth c H locs 0 0 (MQ below (wQi (dL g) (f_X0_even σ p1).1 (f_X0_even σ p1).2 (fun u r => ((gi (ttb u) 1).toInt = (gi (ttb σ) 1).toInt) ∧ ((gi (ttb u) 3).toInt = (gi (ttb σ) 3).toInt) ∧ (Fr [7, 13, 14, 15, 20] [16, 17, 18] (fun _ => False) (fun _ => False) (own σ) (own u)))) args s 0 0 (dL g).2.2.2.1) (F0 m 18 ls [.int t0_18, .ref (g.2.2.1 99)]) := by
    intro t0_18 H locs ls ej18 bt0_18 hI18 h hl
    have et0_18 := ej18.symm
    refine L_p7 C h dX0_even_18 (fun σ18 H locs eσ18 h => ?_)
    have hNEW : (0 ≤ (gi (ttb σ18) 1).toInt ∧ (gi (ttb σ18) 1).toInt ≤ 6) ∧ (0 ≤ (gi (ttb σ18) 3).toInt ∧ (gi (ttb σ18) 3).toInt ≤ 16 ∧ (gi (ttb σ18) 3).toInt ≤ (g.1.2.1 50 : Int)) ∧ ((gi (ttb σ18) 1).toInt = (gi (ttb σ) 1).toInt) ∧ ((gi (ttb σ18) 3).toInt = (gi (ttb σ) 3).toInt) ∧ (Fr [7, 13, 14, 15, 20] [16, 17, 18] (fun _ => False) (fun _ => False) (own σ) (own σ18)) := ⟨(by rw [eσ18] <;> exact hlp), (by rw [eσ18] <;> exact hld), (by rw [eσ18] <;> exact hlpq), (by rw [eσ18] <;> exact hldq), (by rw [eσ18]; exact (Fr_si (by decide) hBF))⟩
    obtain ⟨hlp, hld, hlpq, hldq, hBF⟩ := hNEW
    have q7_18 : (gi (own σ18) 7).toInt = t0_18.toInt := by rw [eσ18]; rfl
    refine lv_aload_n hx hb dX0_even_21 rfl (lv_at hl 0 rfl) ?_
    refine L_g7 C h dX0_even_22 ?_
    refine lv_if_le (tgt := 32) hx hb dX0_even_25 (by decide) (fun c25 => ?_) (fun c25 => ?_)
    · have i25 := c_le c25
      refine lv_aload_n hx hb dX0_even_32 rfl (lv_at hl 0 rfl) ?_
      refine lv_aload_n hx hb dX0_even_33 rfl (lv_at hl 0 rfl) ?_
      refine lv_iload_n hx hb dX0_even_34 rfl (lv_at hl 1 rfl) ?_
      refine w_calli (ci := 0) (q0 := 6) (As := [.int p1]) (rest := [.ref (g.2.2.1 99)]) 1 (wXL g) C h (k_X0_dinnersFor l g σ18 p1 (by first | assumption | omega) (by first | assumption | omega) (by first | assumption | omega)) (lw_V q1305 q1307 qs57 q144 q1308) rfl rfl rfl rfl (by decide +kernel) ⟨Nat.le_of_ble_eq_true rfl, Nat.le_of_ble_eq_true rfl⟩ rfl hl.1 rfl (Nat.le_of_ble_eq_true rfl) ⟨Nat.le_of_ble_eq_true rfl, Nat.le_of_ble_eq_true rfl⟩ dX0_even_35 (fun r35 σ35 H locs eσ35 er35 hE35 h => ?_)
      have hE35 : ((gi (ttb σ35) 1).toInt = (gi (ttb σ18) 1).toInt) ∧ ((gi (ttb σ35) 3).toInt = (gi (ttb σ18) 3).toInt) ∧ (Fr [7, 13, 14, 15, 20] [16, 17, 18] (fun _ => False) (fun _ => False) (own σ18) (own σ35)) := hE35
      obtain ⟨hlpq_35, hldq_35, hBF_35⟩ := hE35
      have hNEW : (0 ≤ (gi (ttb σ35) 1).toInt ∧ (gi (ttb σ35) 1).toInt ≤ 6) ∧ (0 ≤ (gi (ttb σ35) 3).toInt ∧ (gi (ttb σ35) 3).toInt ≤ 16 ∧ (gi (ttb σ35) 3).toInt ≤ (g.1.2.1 50 : Int)) ∧ ((gi (ttb σ35) 1).toInt = (gi (ttb σ) 1).toInt) ∧ ((gi (ttb σ35) 3).toInt = (gi (ttb σ) 3).toInt) ∧ (Fr [7, 13, 14, 15, 20] [16, 17, 18] (fun _ => False) (fun _ => False) (own σ) (own σ35)) := ⟨(by first | assumption | omega), (by first | assumption | omega), (by first | assumption | omega), (by first | assumption | omega), (Fr.tr hBF hBF_35)⟩
      clear hlp hld hlpq hldq hBF
      obtain ⟨hlp, hld, hlpq, hldq, hBF⟩ := hNEW
      refine w_calli (ci := 0) (q0 := 6) (As := [.int r35]) (rest := []) 1 (wXL g) C h (k_X0_answer l g σ35 r35) (lw_V q1033 q1035 qs43 q144 q1036) rfl rfl rfl rfl (by decide +kernel) ⟨Nat.le_of_ble_eq_true rfl, Nat.le_of_ble_eq_true rfl⟩ rfl hl.1 rfl (Nat.le_of_ble_eq_true rfl) ⟨Nat.le_of_ble_eq_true rfl, Nat.le_of_ble_eq_true rfl⟩ dX0_even_38 (fun r38 σ38 H locs eσ38 er38 hE38 h => ?_)
      clear hE38
      have hNEW : (0 ≤ (gi (ttb σ38) 1).toInt ∧ (gi (ttb σ38) 1).toInt ≤ 6) ∧ (0 ≤ (gi (ttb σ38) 3).toInt ∧ (gi (ttb σ38) 3).toInt ≤ 16 ∧ (gi (ttb σ38) 3).toInt ≤ (g.1.2.1 50 : Int)) ∧ ((gi (ttb σ38) 1).toInt = (gi (ttb σ) 1).toInt) ∧ ((gi (ttb σ38) 3).toInt = (gi (ttb σ) 3).toInt) ∧ (Fr [7, 13, 14, 15, 20] [16, 17, 18] (fun _ => False) (fun _ => False) (own σ) (own σ38)) := ⟨(by rw [eσ38, lanswer_s] <;> exact hlp), (by rw [eσ38, lanswer_s] <;> exact hld), (by rw [eσ38, lanswer_s] <;> exact hlpq), (by rw [eσ38, lanswer_s] <;> exact hldq), (by rw [eσ38, lanswer_s]; exact Fr_si (by decide) hBF)⟩
      clear hlp hld hlpq hldq hBF
      obtain ⟨hlp, hld, hlpq, hldq, hBF⟩ := hNEW
      have he : f_X0_even σ p1 = (σ38, r38) := (by have er7 := er7.symm; subst er7; have et0_18 := et0_18.symm; subst et0_18; have eσ18 := eσ18.symm; subst eσ18; have eσ35 := eσ35.symm; subst eσ35; have er35 := er35.symm; subst er35; have eσ38 := eσ38.symm; subst eσ38; have er38 := er38.symm; subst er38; exact ((if_pos c25).trans rfl))
      exact w_reti (wXL g) C h hr hlocks (congrArg Prod.fst he) (congrArg Prod.snd he) ⟨hlpq, hldq, hBF⟩ dX0_even_41
    · have i25 := c_nle c25
      refine lv_iconst (v := -1) hx hb dX0_even_28 (by decide) ?_
      refine lv_goto (tgt := 41) hx hb dX0_even_29 (by decide) ?_
      have he : f_X0_even σ p1 = (σ18, (-1 : Int32)) := (by have er7 := er7.symm; subst er7; have et0_18 := et0_18.symm; subst et0_18; have eσ18 := eσ18.symm; subst eσ18; exact ((if_neg c25).trans rfl))
      exact w_reti (wXL g) C h hr hlocks (congrArg Prod.fst he) (congrArg Prod.snd he) ⟨hlpq, hldq, hBF⟩ dX0_even_41
  refine lv_if_eq (tgt := 17) hx hb dX0_even_10 (by decide) (fun c10 => ?_) (fun c10 => ?_)
  · have i10 := c_eq c10
    refine lv_iconst (v := 1) hx hb dX0_even_17 (by decide) ?_
    exact j18 _ _ _ _ (by exact ((if_pos c10).trans rfl)) (Or.inr rfl) (by first | assumption | omega) h hl
  · have i10 := c_ne c10
    have okr7 := lIsIn_ok er7 c10
    have kk7 := isFrom_i (A := 1) (B := 99) rfl rfl okr7
    refine lv_iconst (v := 0) hx hb dX0_even_13 (by decide) ?_
    refine lv_goto (tgt := 18) hx hb dX0_even_14 (by decide) ?_
    exact j18 _ _ _ _ (by exact ((if_neg c10).trans rfl)) (Or.inl rfl) (by first | assumption | omega) h hl
def f_X0_evenBy (σ : MS × MS) (p1 : Int32) (p2 : Int32) : (MS × MS) × Int32 := (let r7 := (f_X0_isIn p1.toInt64 (1 : Int64) (99 : Int64)); (let z26_ : Int32 := (if r7 = (0 : Int32) then ((1 : Int32)) else ((let r15 := (f_X0_isPerson σ p2); if r15 = (0 : Int32) then ((1 : Int32)) else ((0 : Int32))))); let t0_26 := z26_; (let σ26 := lsi σ 7 t0_26; if (gi (own σ26) 7) ≤ (0 : Int32) then ((let z40 := (f_X0_dinnersFor σ26 p1); let σ40 := z40.1; let r40 := z40.2; (let z78_ : Int32 := (if (0 : Int32) ≤ r40 then ((let r57 := (f_X5_heads (ttb σ40)); let r61 := (f_X0_has r57 p2); if r61 = (0 : Int32) then ((0 : Int32)) else ((let r71 := (f_X0_evenOf σ40 p2 p1 r40); r71)))) else ((-1 : Int32))); let t0_78 := z78_; (let z78 := (f_X0_answer σ40 t0_78); let σ78 := z78.1; let r78 := z78.2; (σ78, r78))))) else ((σ26, (-1 : Int32))))))
set_option maxHeartbeats 4000000 in
set_option maxRecDepth 100000 in
theorem k_X0_evenBy (l : Launch) (g : GL) (σ : MS × MS) (p1 : Int32) (p2 : Int32) (hlp : 0 ≤ (gi (ttb σ) 1).toInt ∧ (gi (ttb σ) 1).toInt ≤ 6) (hld : 0 ≤ (gi (ttb σ) 3).toInt ∧ (gi (ttb σ) 3).toInt ≤ 16 ∧ (gi (ttb σ) 3).toInt ≤ (g.1.2.1 50 : Int)) : Met l yX0_evenBy (ws_ yX0_evenBy cX0_evenBy 4 (some .int)) ({ frames := 4, cells := 0, slots := 0, locals := 93 } : Room) (wPc (dL g) (g.2.2.1 99) σ [.int p1, .int p2]) (wQi (dL g) (f_X0_evenBy σ p1 p2).1 (f_X0_evenBy σ p1 p2).2 (fun u r => ((gi (ttb u) 1).toInt = (gi (ttb σ) 1).toInt) ∧ ((gi (ttb u) 3).toInt = (gi (ttb σ) 3).toInt) ∧ (Fr [7, 13, 14, 15, 20] [16, 17, 18] (fun _ => False) (fun _ => False) (own σ) (own u)))) 0 0 (dL g).2.2.2.1 := by
  refine met_W RX0 (by decide) rfl (Nat.le_of_ble_eq_true rfl) ?_
  intro p e s m args below meth c C hr hlocks h ls hl
  have hx := C.1.1
  have hb := C.1.2.1
  have hml := C.1.2.2.1
  have hown := C.1.2.2.2.1
  have hts := C.1.2.2.2.2
  have hl : lv_has ls 4 [(0, .ref (g.2.2.1 99)), (1, .int p1), (2, .int p2)] := hl
  have hlpq : (gi (ttb σ) 1).toInt = (gi (ttb σ) 1).toInt := rfl
  have hldq : (gi (ttb σ) 3).toInt = (gi (ttb σ) 3).toInt := rfl
  have hBF : Fr [7, 13, 14, 15, 20] [16, 17, 18] (fun _ => False) (fun _ => False) (own σ) (own σ) := Fr.rf
  have zlm1 : (-1 : Int32).toInt = -1 := rfl
  have zl0 : (0 : Int32).toInt = 0 := rfl
  have zl1 : (1 : Int32).toInt = 1 := rfl
  refine lv_aload_n hx hb dX0_evenBy_0 rfl (lv_at hl 0 rfl) ?_
  refine lv_iload_n hx hb dX0_evenBy_1 rfl (lv_at hl 1 rfl) ?_
  refine lv_i2l (v := p1.toInt64) hx hb dX0_evenBy_2 rfl ?_
  refine lv_lconst (v := 1) hx hb dX0_evenBy_3 (by decide) ?_
  refine lv_ldc2 hx hb hown (hts _ q1304) dX0_evenBy_4 ?_
  refine s_callz (As := [.long p1.toInt64, .long (1 : Int64), .long (99 : Int64)]) (rest := [.ref (g.2.2.1 99)]) 3 C.1 (k_X0_isIn l p1.toInt64 (1 : Int64) (99 : Int64)) (lw_S q994 q995 q144 q996) rfl rfl (by decide +kernel) ⟨Nat.le_of_ble_eq_true rfl, Nat.le_of_ble_eq_true rfl⟩ rfl hl.1 rfl (Nat.le_of_ble_eq_true rfl) ⟨Nat.le_of_ble_eq_true rfl, Nat.le_of_ble_eq_true rfl⟩ dX0_evenBy_7 h.2.2.1 (fun r7 H locs er7 br7 hz1 hk1 hS1 => ?_)
  have h := h.same hk1 hS1
  clear hz1 hk1 hS1
  have j26 : ∀ (t0_26 : Int32) (H : Heap) (locs : List Loc) (ls : Array Slot) (ej26 : (if r7 = (0 : Int32) then ((1 : Int32)) else ((let r15 := (f_X0_isPerson σ p2); if r15 = (0 : Int32) then ((1 : Int32)) else ((0 : Int32))))) = t0_26) (bt0_26 : t0_26 = 0 ∨ t0_26 = 1) (hI26 : (0 < t0_26.toInt) ∨ ((1 ≤ p1.toInt ∧ p1.toInt ≤ 99) ∧ 0 ≤ p2.toInt ∧ p2.toInt < (gi (ttb σ) 1).toInt)) (h : wH (dL g) σ s H locs) (hl : lv_has ls 4 [(0, .ref (g.2.2.1 99)), (1, .int p1), (2, .int p2)]), W p l e ({ frames := 4, cells := 0, slots := 0, locals := 93 } : Room) s m args below meth c H locs 0 0 (MQ below (wQi (dL g) (f_X0_evenBy σ p1 p2).1 (f_X0_evenBy σ p1 p2).2 (fun u r => ((gi (ttb u) 1).toInt = (gi (ttb σ) 1).toInt) ∧ ((gi (ttb u) 3).toInt = (gi (ttb σ) 3).toInt) ∧ (Fr [7, 13, 14, 15, 20] [16, 17, 18] (fun _ => False) (fun _ => False) (own σ) (own u)))) args s 0 0 (dL g).2.2.2.1) (F0 m 26 ls [.int t0_26, .ref (g.2.2.1 99)]) := by
    intro t0_26 H locs ls ej26 bt0_26 hI26 h hl
    have et0_26 := ej26.symm
    refine L_p7 C h dX0_evenBy_26 (fun σ26 H locs eσ26 h => ?_)
    have hNEW : (0 ≤ (gi (ttb σ26) 1).toInt ∧ (gi (ttb σ26) 1).toInt ≤ 6) ∧ (0 ≤ (gi (ttb σ26) 3).toInt ∧ (gi (ttb σ26) 3).toInt ≤ 16 ∧ (gi (ttb σ26) 3).toInt ≤ (g.1.2.1 50 : Int)) ∧ ((gi (ttb σ26) 1).toInt = (gi (ttb σ) 1).toInt) ∧ ((gi (ttb σ26) 3).toInt = (gi (ttb σ) 3).toInt) ∧ (Fr [7, 13, 14, 15, 20] [16, 17, 18] (fun _ => False) (fun _ => False) (own σ) (own σ26)) := ⟨(by rw [eσ26] <;> exact hlp), (by rw [eσ26] <;> exact hld), (by rw [eσ26] <;> exact hlpq), (by rw [eσ26] <;> exact hldq), (by rw [eσ26]; exact (Fr_si (by decide) hBF))⟩
    obtain ⟨hlp, hld, hlpq, hldq, hBF⟩ := hNEW
    have q7_26 : (gi (own σ26) 7).toInt = t0_26.toInt := by rw [eσ26]; rfl
    refine lv_aload_n hx hb dX0_evenBy_29 rfl (lv_at hl 0 rfl) ?_
    refine L_g7 C h dX0_evenBy_30 ?_
    refine lv_if_le (tgt := 38) hx hb dX0_evenBy_33 (by decide) (fun c33 => ?_) (fun c33 => ?_)
    · have i33 := c_le c33
      refine lv_aload_n hx hb dX0_evenBy_38 rfl (lv_at hl 0 rfl) ?_
      refine lv_iload_n hx hb dX0_evenBy_39 rfl (lv_at hl 1 rfl) ?_
      refine w_calli (ci := 0) (q0 := 6) (As := [.int p1]) (rest := []) 1 (wXL g) C h (k_X0_dinnersFor l g σ26 p1 (by first | assumption | omega) (by first | assumption | omega) (by first | assumption | omega)) (lw_V q1305 q1307 qs57 q144 q1308) rfl rfl rfl rfl (by decide +kernel) ⟨Nat.le_of_ble_eq_true rfl, Nat.le_of_ble_eq_true rfl⟩ rfl hl.1 rfl (Nat.le_of_ble_eq_true rfl) ⟨Nat.le_of_ble_eq_true rfl, Nat.le_of_ble_eq_true rfl⟩ dX0_evenBy_40 (fun r40 σ40 H locs eσ40 er40 hE40 h => ?_)
      have hE40 : ((gi (ttb σ40) 1).toInt = (gi (ttb σ26) 1).toInt) ∧ ((gi (ttb σ40) 3).toInt = (gi (ttb σ26) 3).toInt) ∧ (Fr [7, 13, 14, 15, 20] [16, 17, 18] (fun _ => False) (fun _ => False) (own σ26) (own σ40)) := hE40
      obtain ⟨hlpq_40, hldq_40, hBF_40⟩ := hE40
      have hNEW : (0 ≤ (gi (ttb σ40) 1).toInt ∧ (gi (ttb σ40) 1).toInt ≤ 6) ∧ (0 ≤ (gi (ttb σ40) 3).toInt ∧ (gi (ttb σ40) 3).toInt ≤ 16 ∧ (gi (ttb σ40) 3).toInt ≤ (g.1.2.1 50 : Int)) ∧ ((gi (ttb σ40) 1).toInt = (gi (ttb σ) 1).toInt) ∧ ((gi (ttb σ40) 3).toInt = (gi (ttb σ) 3).toInt) ∧ (Fr [7, 13, 14, 15, 20] [16, 17, 18] (fun _ => False) (fun _ => False) (own σ) (own σ40)) := ⟨(by first | assumption | omega), (by first | assumption | omega), (by first | assumption | omega), (by first | assumption | omega), (Fr.tr hBF hBF_40)⟩
      clear hlp hld hlpq hldq hBF
      obtain ⟨hlp, hld, hlpq, hldq, hBF⟩ := hNEW
      refine lv_istore_n (lv' := [(3, .int r40), (0, .ref (g.2.2.1 99)), (1, .int p1), (2, .int p2)]) hx hb dX0_evenBy_43 rfl hl (by decide) rfl (fun ls hl => ?_)
      refine lv_aload_n hx hb dX0_evenBy_44 rfl (lv_at hl 1 rfl) ?_
      refine lv_iload_n hx hb dX0_evenBy_45 rfl (lv_at hl 0 rfl) ?_
      have j78 : ∀ (t0_78 : Int32) (H : Heap) (locs : List Loc) (ls : Array Slot) (ej78 : (if (0 : Int32) ≤ r40 then ((let r57 := (f_X5_heads (ttb σ40)); let r61 := (f_X0_has r57 p2); if r61 = (0 : Int32) then ((0 : Int32)) else ((let r71 := (f_X0_evenOf σ40 p2 p1 r40); r71)))) else ((-1 : Int32))) = t0_78) (h : wH (dL g) σ40 s H locs) (hl : lv_has ls 4 []), W p l e ({ frames := 4, cells := 0, slots := 0, locals := 93 } : Room) s m args below meth c H locs 0 0 (MQ below (wQi (dL g) (f_X0_evenBy σ p1 p2).1 (f_X0_evenBy σ p1 p2).2 (fun u r => ((gi (ttb u) 1).toInt = (gi (ttb σ) 1).toInt) ∧ ((gi (ttb u) 3).toInt = (gi (ttb σ) 3).toInt) ∧ (Fr [7, 13, 14, 15, 20] [16, 17, 18] (fun _ => False) (fun _ => False) (own σ) (own u)))) args s 0 0 (dL g).2.2.2.1) (F0 m 78 ls [.int t0_78, .ref (g.2.2.1 99)]) := by
        intro t0_78 H locs ls ej78 h hl
        have et0_78 := ej78.symm
        refine w_calli (ci := 0) (q0 := 6) (As := [.int t0_78]) (rest := []) 1 (wXL g) C h (k_X0_answer l g σ40 t0_78) (lw_V q1033 q1035 qs43 q144 q1036) rfl rfl rfl rfl (by decide +kernel) ⟨Nat.le_of_ble_eq_true rfl, Nat.le_of_ble_eq_true rfl⟩ rfl hl.1 rfl (Nat.le_of_ble_eq_true rfl) ⟨Nat.le_of_ble_eq_true rfl, Nat.le_of_ble_eq_true rfl⟩ dX0_evenBy_78 (fun r78 σ78 H locs eσ78 er78 hE78 h => ?_)
        clear hE78
        have hNEW : (0 ≤ (gi (ttb σ78) 1).toInt ∧ (gi (ttb σ78) 1).toInt ≤ 6) ∧ (0 ≤ (gi (ttb σ78) 3).toInt ∧ (gi (ttb σ78) 3).toInt ≤ 16 ∧ (gi (ttb σ78) 3).toInt ≤ (g.1.2.1 50 : Int)) ∧ ((gi (ttb σ78) 1).toInt = (gi (ttb σ) 1).toInt) ∧ ((gi (ttb σ78) 3).toInt = (gi (ttb σ) 3).toInt) ∧ (Fr [7, 13, 14, 15, 20] [16, 17, 18] (fun _ => False) (fun _ => False) (own σ) (own σ78)) := ⟨(by rw [eσ78, lanswer_s] <;> exact hlp), (by rw [eσ78, lanswer_s] <;> exact hld), (by rw [eσ78, lanswer_s] <;> exact hlpq), (by rw [eσ78, lanswer_s] <;> exact hldq), (by rw [eσ78, lanswer_s]; exact Fr_si (by decide) hBF)⟩
        obtain ⟨hlp, hld, hlpq, hldq, hBF⟩ := hNEW
        have he : f_X0_evenBy σ p1 p2 = (σ78, r78) := (by have er7 := er7.symm; subst er7; have et0_26 := et0_26.symm; subst et0_26; have eσ26 := eσ26.symm; subst eσ26; have eσ40 := eσ40.symm; subst eσ40; have er40 := er40.symm; subst er40; have et0_78 := et0_78.symm; subst et0_78; have eσ78 := eσ78.symm; subst eσ78; have er78 := er78.symm; subst er78; exact ((if_pos c33).trans rfl))
        exact w_reti (wXL g) C h hr hlocks (congrArg Prod.fst he) (congrArg Prod.snd he) ⟨hlpq, hldq, hBF⟩ dX0_evenBy_81
      refine lv_if_ge (tgt := 53) hx hb dX0_evenBy_46 (by decide) (fun c46 => ?_) (fun c46 => ?_)
      · have i46 := c_le c46
        refine lv_aload_n hx hb dX0_evenBy_53 rfl (lv_at hl 1 rfl) ?_
        refine L_at (rest := [.ref (g.2.2.1 99)]) C h ⟨Nat.le_of_ble_eq_true rfl, Nat.le_of_ble_eq_true rfl⟩ hl.1 (Nat.le_of_ble_eq_true rfl) ⟨Nat.le_of_ble_eq_true rfl, Nat.le_of_ble_eq_true rfl⟩ dX0_evenBy_54 (fun H locs h => ?_)
        refine L_tcalli (As := []) (rest := [.ref (g.2.2.1 99)]) 0 C h (k_X5_heads l g.1 (ttb σ40) (by first | assumption | omega)) (lw_V q1001 q1002 q1003 q151 q1004) rfl rfl (by decide +kernel) ⟨Nat.le_of_ble_eq_true rfl, Nat.le_of_ble_eq_true rfl⟩ rfl hl.1 rfl (Nat.le_of_ble_eq_true rfl) ⟨Nat.le_of_ble_eq_true rfl, Nat.le_of_ble_eq_true rfl⟩ dX0_evenBy_57 (fun r57 σ57 H locs eσ57 er57 hE57 h => ?_)
        have h : wH (dL g) σ40 s H locs := by rw [eσ57] at h; exact h
        have hE57 : (0 ≤ r57.toInt ∧ r57.toInt ≤ 63) := hE57
        have hrg_57 := hE57
        clear eσ57
        refine lv_iload_n hx hb dX0_evenBy_60 rfl (lv_at hl 3 rfl) ?_
        refine s_callz (As := [.int r57, .int p2]) (rest := [.ref (g.2.2.1 99)]) 2 C.1 (k_X0_has l r57 p2) (lw_S q1219 q1220 q144 q1221) rfl rfl (by decide +kernel) ⟨Nat.le_of_ble_eq_true rfl, Nat.le_of_ble_eq_true rfl⟩ rfl hl.1 rfl (Nat.le_of_ble_eq_true rfl) ⟨Nat.le_of_ble_eq_true rfl, Nat.le_of_ble_eq_true rfl⟩ dX0_evenBy_61 h.2.2.1 (fun r61 H locs er61 br61 hz1 hk1 hS1 => ?_)
        have h := h.same hk1 hS1
        clear hz1 hk1 hS1
        refine lv_if_eq (tgt := 77) hx hb dX0_evenBy_64 (by decide) (fun c64 => ?_) (fun c64 => ?_)
        · have i64 := c_eq c64
          refine lv_iconst (v := 0) hx hb dX0_evenBy_77 (by decide) ?_
          exact j78 _ _ _ _ (by have er57 := er57.symm; subst er57; have er61 := er61.symm; subst er61; exact ((if_pos c46).trans ((if_pos c64).trans rfl))) h (lv_sub hl [] rfl)
        · have i64 := c_ne c64
          have okr61 := lhas_ok er61 c64
          refine lv_aload_n hx hb dX0_evenBy_67 rfl (lv_at hl 1 rfl) ?_
          refine lv_iload_n hx hb dX0_evenBy_68 rfl (lv_at hl 3 rfl) ?_
          refine lv_iload_n hx hb dX0_evenBy_69 rfl (lv_at hl 2 rfl) ?_
          refine lv_iload_n hx hb dX0_evenBy_70 rfl (lv_at hl 0 rfl) ?_
          refine w_calli (ci := 0) (q0 := 6) (As := [.int p2, .int p1, .int r40]) (rest := [.ref (g.2.2.1 99)]) 3 (wXL g) C h (k_X0_evenOf l g σ40 p2 p1 r40 (by first | assumption | omega) (by first | assumption | omega) (by first | assumption | omega) (by first | assumption | omega) (by rw [← er57]; exact bc_ne (p := p2) hrg_57 (by omega) (by rw [okr61]; decide))) (lw_V q1309 q1311 qs58 q144 q1312) rfl rfl rfl rfl (by decide +kernel) ⟨Nat.le_of_ble_eq_true rfl, Nat.le_of_ble_eq_true rfl⟩ rfl hl.1 rfl (Nat.le_of_ble_eq_true rfl) ⟨Nat.le_of_ble_eq_true rfl, Nat.le_of_ble_eq_true rfl⟩ dX0_evenBy_71 (fun r71 σ71 H locs eσ71 er71 hE71 h => ?_)
          rw [eσ71] at h
          clear hE71
          clear eσ71
          refine lv_goto (tgt := 78) hx hb dX0_evenBy_74 (by decide) ?_
          exact j78 _ _ _ _ (by have er57 := er57.symm; subst er57; have er61 := er61.symm; subst er61; have er71 := er71.symm; subst er71; exact ((if_pos c46).trans ((if_neg c64).trans rfl))) h (lv_sub hl [] rfl)
      · have i46 := c_nle c46
        refine lv_iconst (v := -1) hx hb dX0_evenBy_49 (by decide) ?_
        refine lv_goto (tgt := 78) hx hb dX0_evenBy_50 (by decide) ?_
        exact j78 _ _ _ _ (by exact ((if_neg c46).trans rfl)) h (lv_sub hl [] rfl)
    · have i33 := c_nle c33
      refine lv_iconst (v := -1) hx hb dX0_evenBy_36 (by decide) ?_
      have he : f_X0_evenBy σ p1 p2 = (σ26, (-1 : Int32)) := (by have er7 := er7.symm; subst er7; have et0_26 := et0_26.symm; subst et0_26; have eσ26 := eσ26.symm; subst eσ26; exact ((if_neg c33).trans rfl))
      exact w_reti (wXL g) C h hr hlocks (congrArg Prod.fst he) (congrArg Prod.snd he) ⟨hlpq, hldq, hBF⟩ dX0_evenBy_37
  refine lv_if_eq (tgt := 25) hx hb dX0_evenBy_10 (by decide) (fun c10 => ?_) (fun c10 => ?_)
  · have i10 := c_eq c10
    refine lv_iconst (v := 1) hx hb dX0_evenBy_25 (by decide) ?_
    exact j26 _ _ _ _ (by exact ((if_pos c10).trans rfl)) (Or.inr rfl) (by first | assumption | omega) h hl
  · have i10 := c_ne c10
    have okr7 := lIsIn_ok er7 c10
    have kk7 := isFrom_i (A := 1) (B := 99) rfl rfl okr7
    refine lv_aload_n hx hb dX0_evenBy_13 rfl (lv_at hl 0 rfl) ?_
    refine lv_iload_n hx hb dX0_evenBy_14 rfl (lv_at hl 2 rfl) ?_
    refine w_callz (ci := 0) (q0 := 6) (As := [.int p2]) (rest := [.ref (g.2.2.1 99)]) 1 (wXL g) C h (k_X0_isPerson l g σ p2 (by first | assumption | omega)) (lw_V q1024 q1026 qs41 q144 q1027) rfl rfl rfl rfl (by decide +kernel) ⟨Nat.le_of_ble_eq_true rfl, Nat.le_of_ble_eq_true rfl⟩ rfl hl.1 rfl (Nat.le_of_ble_eq_true rfl) ⟨Nat.le_of_ble_eq_true rfl, Nat.le_of_ble_eq_true rfl⟩ dX0_evenBy_15 (fun r15 σ15 H locs eσ15 er15 br15 hE15 h => ?_)
    rw [eσ15] at h
    clear hE15
    clear eσ15
    refine lv_if_eq (tgt := 25) hx hb dX0_evenBy_18 (by decide) (fun c18 => ?_) (fun c18 => ?_)
    · have i18 := c_eq c18
      refine lv_iconst (v := 1) hx hb dX0_evenBy_25 (by decide) ?_
      exact j26 _ _ _ _ (by have er15 := er15.symm; subst er15; exact ((if_neg c10).trans ((if_pos c18).trans rfl))) (Or.inr rfl) (by first | assumption | omega) h hl
    · have i18 := c_ne c18
      have okr15 := lIsPerson_ok hlp er15 c18
      refine lv_iconst (v := 0) hx hb dX0_evenBy_21 (by decide) ?_
      refine lv_goto (tgt := 26) hx hb dX0_evenBy_22 (by decide) ?_
      exact j26 _ _ _ _ (by have er15 := er15.symm; subst er15; exact ((if_neg c10).trans ((if_neg c18).trans rfl))) (Or.inl rfl) (by first | assumption | omega) h hl
def f_X0_comes (σ : MS × MS) (p1 : Int32) (p2 : Int32) : (MS × MS) × Int32 := (let r3 := (f_X0_isPerson σ p1); (let z53_ : Int32 := (if r3 = (0 : Int32) then ((1 : Int32)) else ((let r13 := (f_X0_isIn p2.toInt64 (0 : Int64) (1 : Int64)); if r13 = (0 : Int32) then ((1 : Int32)) else ((let r31 := (f_X0_has (gi (ttb σ) 8) p1); (let z44_ : Int32 := (if p2 = (1 : Int32) then ((1 : Int32)) else ((0 : Int32))); let t0_44 := z44_; if r31 = t0_44 then ((7 : Int32)) else ((0 : Int32)))))))); let t0_53 := z53_; (let σ53 := lsi σ 7 t0_53; if (gi (own σ53) 7) ≤ (0 : Int32) then ((let σ77 := tsi σ53 8 ((gi (ttb σ53) 8) ^^^ ((1 : Int32) <<< (p1 &&& (31 : Int32)))); let r87 := (f_J11_bitCount (gi (ttb σ77) 8)); (σ77, r87))) else ((σ53, (-1 : Int32))))))
set_option maxHeartbeats 4000000 in
set_option maxRecDepth 100000 in
theorem k_X0_comes (l : Launch) (g : GL) (σ : MS × MS) (p1 : Int32) (p2 : Int32) (hlp : 0 ≤ (gi (ttb σ) 1).toInt ∧ (gi (ttb σ) 1).toInt ≤ 6) (hld : 0 ≤ (gi (ttb σ) 3).toInt ∧ (gi (ttb σ) 3).toInt ≤ 16 ∧ (gi (ttb σ) 3).toInt ≤ (g.1.2.1 50 : Int)) : Met l yX0_comes (ws_ yX0_comes cX0_comes 3 (some .int)) ({ frames := 2, cells := 0, slots := 0, locals := 46 } : Room) (wPc (dL g) (g.2.2.1 99) σ [.int p1, .int p2]) (wQi (dL g) (f_X0_comes σ p1 p2).1 (f_X0_comes σ p1 p2).2 (fun u r => ((gi (ttb u) 1).toInt = (gi (ttb σ) 1).toInt) ∧ ((gi (ttb u) 3).toInt = (gi (ttb σ) 3).toInt))) 0 0 (dL g).2.2.2.1 := by
  refine met_W RX0 (by decide) rfl (Nat.le_of_ble_eq_true rfl) ?_
  intro p e s m args below meth c C hr hlocks h ls hl
  have hx := C.1.1
  have hb := C.1.2.1
  have hml := C.1.2.2.1
  have hown := C.1.2.2.2.1
  have hts := C.1.2.2.2.2
  have hl : lv_has ls 3 [(0, .ref (g.2.2.1 99)), (1, .int p1), (2, .int p2)] := hl
  have hlpq : (gi (ttb σ) 1).toInt = (gi (ttb σ) 1).toInt := rfl
  have hldq : (gi (ttb σ) 3).toInt = (gi (ttb σ) 3).toInt := rfl
  have zlm1 : (-1 : Int32).toInt = -1 := rfl
  have zl0 : (0 : Int32).toInt = 0 := rfl
  have zl1 : (1 : Int32).toInt = 1 := rfl
  have zl7 : (7 : Int32).toInt = 7 := rfl
  refine lv_aload_n hx hb dX0_comes_0 rfl (lv_at hl 0 rfl) ?_
  refine lv_aload_n hx hb dX0_comes_1 rfl (lv_at hl 0 rfl) ?_
  refine lv_iload_n hx hb dX0_comes_2 rfl (lv_at hl 1 rfl) ?_
  refine w_callz (ci := 0) (q0 := 6) (As := [.int p1]) (rest := [.ref (g.2.2.1 99)]) 1 (wXL g) C h (k_X0_isPerson l g σ p1 (by first | assumption | omega)) (lw_V q1024 q1026 qs41 q144 q1027) rfl rfl rfl rfl (by decide +kernel) ⟨Nat.le_of_ble_eq_true rfl, Nat.le_of_ble_eq_true rfl⟩ rfl hl.1 rfl (Nat.le_of_ble_eq_true rfl) ⟨Nat.le_of_ble_eq_true rfl, Nat.le_of_ble_eq_true rfl⟩ dX0_comes_3 (fun r3 σ3 H locs eσ3 er3 br3 hE3 h => ?_)
  rw [eσ3] at h
  clear hE3
  clear eσ3
  have j53 : ∀ (t0_53 : Int32) (H : Heap) (locs : List Loc) (ls : Array Slot) (ej53 : (if r3 = (0 : Int32) then ((1 : Int32)) else ((let r13 := (f_X0_isIn p2.toInt64 (0 : Int64) (1 : Int64)); if r13 = (0 : Int32) then ((1 : Int32)) else ((let r31 := (f_X0_has (gi (ttb σ) 8) p1); (let z44_ : Int32 := (if p2 = (1 : Int32) then ((1 : Int32)) else ((0 : Int32))); let t0_44 := z44_; if r31 = t0_44 then ((7 : Int32)) else ((0 : Int32)))))))) = t0_53) (hI53 : (0 < t0_53.toInt) ∨ (0 ≤ p1.toInt ∧ p1.toInt < (gi (ttb σ) 1).toInt)) (h : wH (dL g) σ s H locs) (hl : lv_has ls 3 [(0, .ref (g.2.2.1 99)), (1, .int p1)]), W p l e ({ frames := 2, cells := 0, slots := 0, locals := 46 } : Room) s m args below meth c H locs 0 0 (MQ below (wQi (dL g) (f_X0_comes σ p1 p2).1 (f_X0_comes σ p1 p2).2 (fun u r => ((gi (ttb u) 1).toInt = (gi (ttb σ) 1).toInt) ∧ ((gi (ttb u) 3).toInt = (gi (ttb σ) 3).toInt))) args s 0 0 (dL g).2.2.2.1) (F0 m 53 ls [.int t0_53, .ref (g.2.2.1 99)]) := by
    intro t0_53 H locs ls ej53 hI53 h hl
    have et0_53 := ej53.symm
    refine L_p7 C h dX0_comes_53 (fun σ53 H locs eσ53 h => ?_)
    have hNEW : (0 ≤ (gi (ttb σ53) 1).toInt ∧ (gi (ttb σ53) 1).toInt ≤ 6) ∧ (0 ≤ (gi (ttb σ53) 3).toInt ∧ (gi (ttb σ53) 3).toInt ≤ 16 ∧ (gi (ttb σ53) 3).toInt ≤ (g.1.2.1 50 : Int)) ∧ ((gi (ttb σ53) 1).toInt = (gi (ttb σ) 1).toInt) ∧ ((gi (ttb σ53) 3).toInt = (gi (ttb σ) 3).toInt) := ⟨(by rw [eσ53] <;> exact hlp), (by rw [eσ53] <;> exact hld), (by rw [eσ53] <;> exact hlpq), (by rw [eσ53] <;> exact hldq)⟩
    obtain ⟨hlp, hld, hlpq, hldq⟩ := hNEW
    have q7_53 : (gi (own σ53) 7).toInt = t0_53.toInt := by rw [eσ53]; rfl
    refine lv_aload_n hx hb dX0_comes_56 rfl (lv_at hl 0 rfl) ?_
    refine L_g7 C h dX0_comes_57 ?_
    refine lv_if_le (tgt := 65) hx hb dX0_comes_60 (by decide) (fun c60 => ?_) (fun c60 => ?_)
    · have i60 := c_le c60
      refine lv_aload_n hx hb dX0_comes_65 rfl (lv_at hl 0 rfl) ?_
      refine L_at (rest := []) C h ⟨Nat.le_of_ble_eq_true rfl, Nat.le_of_ble_eq_true rfl⟩ hl.1 (Nat.le_of_ble_eq_true rfl) ⟨Nat.le_of_ble_eq_true rfl, Nat.le_of_ble_eq_true rfl⟩ dX0_comes_66 (fun H locs h => ?_)
      refine lv_dup hx hb dX0_comes_69 rfl ?_
      refine L_t8 C h dX0_comes_70 ?_
      refine lv_iconst (v := 1) hx hb dX0_comes_73 (by decide) ?_
      refine lv_iload_n hx hb dX0_comes_74 rfl (lv_at hl 1 rfl) ?_
      refine lv_ishl hx hb dX0_comes_75 ?_
      refine lv_ixor hx hb dX0_comes_76 ?_
      refine L_u8 C h dX0_comes_77 (fun σ77 H locs eσ77 h => ?_)
      have hNEW : (0 ≤ (gi (ttb σ77) 1).toInt ∧ (gi (ttb σ77) 1).toInt ≤ 6) ∧ (0 ≤ (gi (ttb σ77) 3).toInt ∧ (gi (ttb σ77) 3).toInt ≤ 16 ∧ (gi (ttb σ77) 3).toInt ≤ (g.1.2.1 50 : Int)) ∧ ((gi (ttb σ77) 1).toInt = (gi (ttb σ) 1).toInt) ∧ ((gi (ttb σ77) 3).toInt = (gi (ttb σ) 3).toInt) := ⟨(by rw [eσ77] <;> exact hlp), (by rw [eσ77] <;> exact hld), (by rw [eσ77] <;> exact hlpq), (by rw [eσ77] <;> exact hldq)⟩
      clear hlp hld hlpq hldq
      obtain ⟨hlp, hld, hlpq, hldq⟩ := hNEW
      refine lv_aload_n hx hb dX0_comes_80 rfl (lv_at hl 0 rfl) ?_
      refine L_at (rest := []) C h ⟨Nat.le_of_ble_eq_true rfl, Nat.le_of_ble_eq_true rfl⟩ hl.1 (Nat.le_of_ble_eq_true rfl) ⟨Nat.le_of_ble_eq_true rfl, Nat.le_of_ble_eq_true rfl⟩ dX0_comes_81 (fun H locs h => ?_)
      refine L_t8 C h dX0_comes_84 ?_
      refine s_calli (As := [.int (gi (ttb σ77) 8)]) (rest := []) 1 C.1 (k_J11_bitCount l (gi (ttb σ77) 8)) (lw_S q1009 q1010 q170 q1011) rfl rfl (by decide +kernel) ⟨Nat.le_of_ble_eq_true rfl, Nat.le_of_ble_eq_true rfl⟩ rfl hl.1 rfl (Nat.le_of_ble_eq_true rfl) ⟨Nat.le_of_ble_eq_true rfl, Nat.le_of_ble_eq_true rfl⟩ dX0_comes_87 h.2.2.1 (fun r87 H locs er87 hz1 hk1 hS1 => ?_)
      have h := h.same hk1 hS1
      clear hz1 hk1 hS1
      have he : f_X0_comes σ p1 p2 = (σ77, r87) := (by have er3 := er3.symm; subst er3; have et0_53 := et0_53.symm; subst et0_53; have eσ53 := eσ53.symm; subst eσ53; have eσ77 := eσ77.symm; subst eσ77; have er87 := er87.symm; subst er87; exact ((if_pos c60).trans rfl))
      exact w_reti (wXL g) C h hr hlocks (congrArg Prod.fst he) (congrArg Prod.snd he) ⟨hlpq, hldq⟩ dX0_comes_90
    · have i60 := c_nle c60
      refine lv_iconst (v := -1) hx hb dX0_comes_63 (by decide) ?_
      have he : f_X0_comes σ p1 p2 = (σ53, (-1 : Int32)) := (by have er3 := er3.symm; subst er3; have et0_53 := et0_53.symm; subst et0_53; have eσ53 := eσ53.symm; subst eσ53; exact ((if_neg c60).trans rfl))
      exact w_reti (wXL g) C h hr hlocks (congrArg Prod.fst he) (congrArg Prod.snd he) ⟨hlpq, hldq⟩ dX0_comes_64
  refine lv_if_eq (tgt := 19) hx hb dX0_comes_6 (by decide) (fun c6 => ?_) (fun c6 => ?_)
  · have i6 := c_eq c6
    refine lv_iconst (v := 1) hx hb dX0_comes_19 (by decide) ?_
    refine lv_goto (tgt := 53) hx hb dX0_comes_20 (by decide) ?_
    exact j53 _ _ _ _ (by exact ((if_pos c6).trans rfl)) (by first | assumption | omega) h (lv_sub hl [0, 1] rfl)
  · have i6 := c_ne c6
    have okr3 := lIsPerson_ok hlp er3 c6
    refine lv_iload_n hx hb dX0_comes_9 rfl (lv_at hl 2 rfl) ?_
    refine lv_i2l (v := p2.toInt64) hx hb dX0_comes_10 rfl ?_
    refine lv_lconst (v := 0) hx hb dX0_comes_11 (by decide) ?_
    refine lv_lconst (v := 1) hx hb dX0_comes_12 (by decide) ?_
    refine s_callz (As := [.long p2.toInt64, .long (0 : Int64), .long (1 : Int64)]) (rest := [.ref (g.2.2.1 99)]) 3 C.1 (k_X0_isIn l p2.toInt64 (0 : Int64) (1 : Int64)) (lw_S q994 q995 q144 q996) rfl rfl (by decide +kernel) ⟨Nat.le_of_ble_eq_true rfl, Nat.le_of_ble_eq_true rfl⟩ rfl hl.1 rfl (Nat.le_of_ble_eq_true rfl) ⟨Nat.le_of_ble_eq_true rfl, Nat.le_of_ble_eq_true rfl⟩ dX0_comes_13 h.2.2.1 (fun r13 H locs er13 br13 hz1 hk1 hS1 => ?_)
    have h := h.same hk1 hS1
    clear hz1 hk1 hS1
    refine lv_if_ne (tgt := 23) hx hb dX0_comes_16 (by decide) (fun c16 => ?_) (fun c16 => ?_)
    · have i16 := c_ne c16
      have okr13 := lIsIn_ok er13 c16
      refine lv_aload_n hx hb dX0_comes_23 rfl (lv_at hl 0 rfl) ?_
      refine L_at (rest := [.ref (g.2.2.1 99)]) C h ⟨Nat.le_of_ble_eq_true rfl, Nat.le_of_ble_eq_true rfl⟩ hl.1 (Nat.le_of_ble_eq_true rfl) ⟨Nat.le_of_ble_eq_true rfl, Nat.le_of_ble_eq_true rfl⟩ dX0_comes_24 (fun H locs h => ?_)
      refine L_t8 C h dX0_comes_27 ?_
      refine lv_iload_n hx hb dX0_comes_30 rfl (lv_at hl 1 rfl) ?_
      refine s_callz (As := [.int (gi (ttb σ) 8), .int p1]) (rest := [.ref (g.2.2.1 99)]) 2 C.1 (k_X0_has l (gi (ttb σ) 8) p1) (lw_S q1219 q1220 q144 q1221) rfl rfl (by decide +kernel) ⟨Nat.le_of_ble_eq_true rfl, Nat.le_of_ble_eq_true rfl⟩ rfl hl.1 rfl (Nat.le_of_ble_eq_true rfl) ⟨Nat.le_of_ble_eq_true rfl, Nat.le_of_ble_eq_true rfl⟩ dX0_comes_31 h.2.2.1 (fun r31 H locs er31 br31 hz1 hk1 hS1 => ?_)
      have h := h.same hk1 hS1
      clear hz1 hk1 hS1
      refine lv_iload_n hx hb dX0_comes_34 rfl (lv_at hl 2 rfl) ?_
      refine lv_iconst (v := 1) hx hb dX0_comes_35 (by decide) ?_
      have j44 : ∀ (t0_44 : Int32) (H : Heap) (locs : List Loc) (ls : Array Slot) (ej44 : (if p2 = (1 : Int32) then ((1 : Int32)) else ((0 : Int32))) = t0_44) (bt0_44 : t0_44 = 0 ∨ t0_44 = 1) (h : wH (dL g) σ s H locs) (hl : lv_has ls 3 [(0, .ref (g.2.2.1 99)), (1, .int p1)]), W p l e ({ frames := 2, cells := 0, slots := 0, locals := 46 } : Room) s m args below meth c H locs 0 0 (MQ below (wQi (dL g) (f_X0_comes σ p1 p2).1 (f_X0_comes σ p1 p2).2 (fun u r => ((gi (ttb u) 1).toInt = (gi (ttb σ) 1).toInt) ∧ ((gi (ttb u) 3).toInt = (gi (ttb σ) 3).toInt))) args s 0 0 (dL g).2.2.2.1) (F0 m 44 ls [.int t0_44, .int r31, .ref (g.2.2.1 99)]) := by
        intro t0_44 H locs ls ej44 bt0_44 h hl
        have et0_44 := ej44.symm
        refine lv_icmp_ne (tgt := 52) hx hb dX0_comes_44 (by decide) (fun c44 => ?_) (fun c44 => ?_)
        · have i44 := c_ne c44
          refine lv_iconst (v := 0) hx hb dX0_comes_52 (by decide) ?_
          exact j53 _ _ _ _ (by have er13 := er13.symm; subst er13; have er31 := er31.symm; subst er31; have et0_44 := et0_44.symm; subst et0_44; exact ((if_neg c6).trans ((if_neg c16).trans ((if_neg c44).trans rfl)))) (by first | assumption | omega) h hl
        · have i44 := c_eq c44
          refine lv_bipush (v := 7) hx hb dX0_comes_47 (by decide) ?_
          refine lv_goto (tgt := 53) hx hb dX0_comes_49 (by decide) ?_
          exact j53 _ _ _ _ (by have er13 := er13.symm; subst er13; have er31 := er31.symm; subst er31; have et0_44 := et0_44.symm; subst et0_44; exact ((if_neg c6).trans ((if_neg c16).trans ((if_pos c44).trans rfl)))) (by first | assumption | omega) h hl
      refine lv_icmp_ne (tgt := 43) hx hb dX0_comes_36 (by decide) (fun c36 => ?_) (fun c36 => ?_)
      · have i36 := c_ne c36
        refine lv_iconst (v := 0) hx hb dX0_comes_43 (by decide) ?_
        exact j44 _ _ _ _ (by exact ((if_neg c36).trans rfl)) (Or.inl rfl) h (lv_sub hl [0, 1] rfl)
      · have i36 := c_eq c36
        refine lv_iconst (v := 1) hx hb dX0_comes_39 (by decide) ?_
        refine lv_goto (tgt := 44) hx hb dX0_comes_40 (by decide) ?_
        exact j44 _ _ _ _ (by exact ((if_pos c36).trans rfl)) (Or.inr rfl) h (lv_sub hl [0, 1] rfl)
    · have i16 := c_eq c16
      refine lv_iconst (v := 1) hx hb dX0_comes_19 (by decide) ?_
      refine lv_goto (tgt := 53) hx hb dX0_comes_20 (by decide) ?_
      exact j53 _ _ _ _ (by have er13 := er13.symm; subst er13; exact ((if_neg c6).trans ((if_pos c16).trans rfl))) (by first | assumption | omega) h (lv_sub hl [0, 1] rfl)
def f_X0_buys (σ : MS × MS) : (MS × MS) × Int32 := (let r5 := (f_X5_buys (ttb σ)); let z8 := (f_X0_answer σ r5); let σ8 := z8.1; let r8 := z8.2; (σ8, r8))
set_option maxHeartbeats 4000000 in
set_option maxRecDepth 100000 in
theorem k_X0_buys (l : Launch) (g : GL) (σ : MS × MS) (hlp : 0 ≤ (gi (ttb σ) 1).toInt ∧ (gi (ttb σ) 1).toInt ≤ 6) (hld : 0 ≤ (gi (ttb σ) 3).toInt ∧ (gi (ttb σ) 3).toInt ≤ 16 ∧ (gi (ttb σ) 3).toInt ≤ (g.1.2.1 50 : Int)) : Met l yX0_buys (ws_ yX0_buys cX0_buys 1 (some .int)) ({ frames := 1, cells := 0, slots := 0, locals := 22 } : Room) (wPc (dL g) (g.2.2.1 99) σ []) (wQi (dL g) (f_X0_buys σ).1 (f_X0_buys σ).2 (fun u r => ((gi (ttb u) 1).toInt = (gi (ttb σ) 1).toInt) ∧ ((gi (ttb u) 3).toInt = (gi (ttb σ) 3).toInt))) 0 0 (dL g).2.2.2.1 := by
  refine met_W RX0 (by decide) rfl (Nat.le_of_ble_eq_true rfl) ?_
  intro p e s m args below meth c C hr hlocks h ls hl
  have hx := C.1.1
  have hb := C.1.2.1
  have hml := C.1.2.2.1
  have hown := C.1.2.2.2.1
  have hts := C.1.2.2.2.2
  have hl : lv_has ls 1 [(0, .ref (g.2.2.1 99))] := hl
  have hlpq : (gi (ttb σ) 1).toInt = (gi (ttb σ) 1).toInt := rfl
  have hldq : (gi (ttb σ) 3).toInt = (gi (ttb σ) 3).toInt := rfl
  refine lv_aload_n hx hb dX0_buys_0 rfl (lv_at hl 0 rfl) ?_
  refine lv_aload_n hx hb dX0_buys_1 rfl (lv_at hl 0 rfl) ?_
  refine L_at (rest := [.ref (g.2.2.1 99)]) C h ⟨Nat.le_of_ble_eq_true rfl, Nat.le_of_ble_eq_true rfl⟩ hl.1 (Nat.le_of_ble_eq_true rfl) ⟨Nat.le_of_ble_eq_true rfl, Nat.le_of_ble_eq_true rfl⟩ dX0_buys_2 (fun H locs h => ?_)
  refine L_tcalli (As := []) (rest := [.ref (g.2.2.1 99)]) 0 C h (k_X5_buys l g.1 (ttb σ) (by first | assumption | omega)) (lw_V q1325 q1326 q1327 q151 q1328) rfl rfl (by decide +kernel) ⟨Nat.le_of_ble_eq_true rfl, Nat.le_of_ble_eq_true rfl⟩ rfl hl.1 rfl (Nat.le_of_ble_eq_true rfl) ⟨Nat.le_of_ble_eq_true rfl, Nat.le_of_ble_eq_true rfl⟩ dX0_buys_5 (fun r5 σ5 H locs eσ5 er5 hE5 h => ?_)
  have h : wH (dL g) σ s H locs := by rw [eσ5] at h; exact h
  have hE5 : (-1 ≤ r5.toInt ∧ r5.toInt < (gi (ttb σ) 1).toInt) := hE5
  have brng_5 := hE5
  clear eσ5
  refine w_calli (ci := 0) (q0 := 6) (As := [.int r5]) (rest := []) 1 (wXL g) C h (k_X0_answer l g σ r5) (lw_V q1033 q1035 qs43 q144 q1036) rfl rfl rfl rfl (by decide +kernel) ⟨Nat.le_of_ble_eq_true rfl, Nat.le_of_ble_eq_true rfl⟩ rfl hl.1 rfl (Nat.le_of_ble_eq_true rfl) ⟨Nat.le_of_ble_eq_true rfl, Nat.le_of_ble_eq_true rfl⟩ dX0_buys_8 (fun r8 σ8 H locs eσ8 er8 hE8 h => ?_)
  clear hE8
  have hNEW : (0 ≤ (gi (ttb σ8) 1).toInt ∧ (gi (ttb σ8) 1).toInt ≤ 6) ∧ (0 ≤ (gi (ttb σ8) 3).toInt ∧ (gi (ttb σ8) 3).toInt ≤ 16 ∧ (gi (ttb σ8) 3).toInt ≤ (g.1.2.1 50 : Int)) ∧ ((gi (ttb σ8) 1).toInt = (gi (ttb σ) 1).toInt) ∧ ((gi (ttb σ8) 3).toInt = (gi (ttb σ) 3).toInt) := ⟨(by rw [eσ8, lanswer_s] <;> exact hlp), (by rw [eσ8, lanswer_s] <;> exact hld), (by rw [eσ8, lanswer_s] <;> exact hlpq), (by rw [eσ8, lanswer_s] <;> exact hldq)⟩
  obtain ⟨hlp, hld, hlpq, hldq⟩ := hNEW
  have he : f_X0_buys σ = (σ8, r8) := (by have er5 := er5.symm; subst er5; have eσ8 := eσ8.symm; subst eσ8; have er8 := er8.symm; subst er8; exact rfl)
  exact w_reti (wXL g) C h hr hlocks (congrArg Prod.fst he) (congrArg Prod.snd he) ⟨hlpq, hldq⟩ dX0_buys_11
def f_X0_round (σ : MS × MS) : (MS × MS) × Int32 := (let z5 := (f_X5_round (ttb σ)); let σ5 := tput σ z5.1; let r5 := z5.2; let z8 := (f_X0_answer σ5 r5); let σ8 := z8.1; let r8 := z8.2; (σ8, r8))
set_option maxHeartbeats 4000000 in
set_option maxRecDepth 100000 in
theorem k_X0_round (l : Launch) (g : GL) (σ : MS × MS) (hlp : 0 ≤ (gi (ttb σ) 1).toInt ∧ (gi (ttb σ) 1).toInt ≤ 6) (hld : 0 ≤ (gi (ttb σ) 3).toInt ∧ (gi (ttb σ) 3).toInt ≤ 16 ∧ (gi (ttb σ) 3).toInt ≤ (g.1.2.1 50 : Int)) : Met l yX0_round (ws_ yX0_round cX0_round 1 (some .int)) ({ frames := 2, cells := 0, slots := 0, locals := 44 } : Room) (wPc (dL g) (g.2.2.1 99) σ []) (wQi (dL g) (f_X0_round σ).1 (f_X0_round σ).2 (fun u r => ((gi (ttb u) 1).toInt = (gi (ttb σ) 1).toInt) ∧ ((gi (ttb u) 3).toInt = (gi (ttb σ) 3).toInt))) 0 0 (dL g).2.2.2.1 := by
  refine met_W RX0 (by decide) rfl (Nat.le_of_ble_eq_true rfl) ?_
  intro p e s m args below meth c C hr hlocks h ls hl
  have hx := C.1.1
  have hb := C.1.2.1
  have hml := C.1.2.2.1
  have hown := C.1.2.2.2.1
  have hts := C.1.2.2.2.2
  have hl : lv_has ls 1 [(0, .ref (g.2.2.1 99))] := hl
  have hlpq : (gi (ttb σ) 1).toInt = (gi (ttb σ) 1).toInt := rfl
  have hldq : (gi (ttb σ) 3).toInt = (gi (ttb σ) 3).toInt := rfl
  refine lv_aload_n hx hb dX0_round_0 rfl (lv_at hl 0 rfl) ?_
  refine lv_aload_n hx hb dX0_round_1 rfl (lv_at hl 0 rfl) ?_
  refine L_at (rest := [.ref (g.2.2.1 99)]) C h ⟨Nat.le_of_ble_eq_true rfl, Nat.le_of_ble_eq_true rfl⟩ hl.1 (Nat.le_of_ble_eq_true rfl) ⟨Nat.le_of_ble_eq_true rfl, Nat.le_of_ble_eq_true rfl⟩ dX0_round_2 (fun H locs h => ?_)
  refine L_tcalli (As := []) (rest := [.ref (g.2.2.1 99)]) 0 C h (k_X5_round l g.1 (ttb σ) (by first | assumption | omega) (by first | assumption | omega)) (lw_V q1333 q1334 q1335 q151 q1336) rfl rfl (by decide +kernel) ⟨Nat.le_of_ble_eq_true rfl, Nat.le_of_ble_eq_true rfl⟩ rfl hl.1 rfl (Nat.le_of_ble_eq_true rfl) ⟨Nat.le_of_ble_eq_true rfl, Nat.le_of_ble_eq_true rfl⟩ dX0_round_5 (fun r5 σ5 H locs eσ5 er5 hE5 h => ?_)
  have hE5 : ((gi (ttb σ5) 1).toInt = (gi (ttb σ) 1).toInt) ∧ ((gi (ttb σ5) 3).toInt = (gi (ttb σ) 3).toInt) ∧ (Fr [6, 7] [11, 12, 13] (fun _ => False) (fun _ => False) (ttb σ) (ttb σ5)) := hE5
  obtain ⟨htpq_5, htdq_5, hXF_5⟩ := hE5
  have hNEW : (0 ≤ (gi (ttb σ5) 1).toInt ∧ (gi (ttb σ5) 1).toInt ≤ 6) ∧ (0 ≤ (gi (ttb σ5) 3).toInt ∧ (gi (ttb σ5) 3).toInt ≤ 16 ∧ (gi (ttb σ5) 3).toInt ≤ (g.1.2.1 50 : Int)) ∧ ((gi (ttb σ5) 1).toInt = (gi (ttb σ) 1).toInt) ∧ ((gi (ttb σ5) 3).toInt = (gi (ttb σ) 3).toInt) := ⟨(by first | assumption | omega), (by first | assumption | omega), (by first | assumption | omega), (by first | assumption | omega)⟩
  obtain ⟨hlp, hld, hlpq, hldq⟩ := hNEW
  refine w_calli (ci := 0) (q0 := 6) (As := [.int r5]) (rest := []) 1 (wXL g) C h (k_X0_answer l g σ5 r5) (lw_V q1033 q1035 qs43 q144 q1036) rfl rfl rfl rfl (by decide +kernel) ⟨Nat.le_of_ble_eq_true rfl, Nat.le_of_ble_eq_true rfl⟩ rfl hl.1 rfl (Nat.le_of_ble_eq_true rfl) ⟨Nat.le_of_ble_eq_true rfl, Nat.le_of_ble_eq_true rfl⟩ dX0_round_8 (fun r8 σ8 H locs eσ8 er8 hE8 h => ?_)
  clear hE8
  have hNEW : (0 ≤ (gi (ttb σ8) 1).toInt ∧ (gi (ttb σ8) 1).toInt ≤ 6) ∧ (0 ≤ (gi (ttb σ8) 3).toInt ∧ (gi (ttb σ8) 3).toInt ≤ 16 ∧ (gi (ttb σ8) 3).toInt ≤ (g.1.2.1 50 : Int)) ∧ ((gi (ttb σ8) 1).toInt = (gi (ttb σ) 1).toInt) ∧ ((gi (ttb σ8) 3).toInt = (gi (ttb σ) 3).toInt) := ⟨(by rw [eσ8, lanswer_s] <;> exact hlp), (by rw [eσ8, lanswer_s] <;> exact hld), (by rw [eσ8, lanswer_s] <;> exact hlpq), (by rw [eσ8, lanswer_s] <;> exact hldq)⟩
  clear hlp hld hlpq hldq
  obtain ⟨hlp, hld, hlpq, hldq⟩ := hNEW
  have he : f_X0_round σ = (σ8, r8) := (by have eσ5 := eσ5.symm; subst eσ5; have er5 := er5.symm; subst er5; have eσ8 := eσ8.symm; subst eσ8; have er8 := er8.symm; subst er8; exact rfl)
  exact w_reti (wXL g) C h hr hlocks (congrArg Prod.fst he) (congrArg Prod.snd he) ⟨hlpq, hldq⟩ dX0_round_11
def f_X0_drinks (σ : MS × MS) (p1 : Int32) : (MS × MS) × Int32 := (let r3 := (f_X0_isPerson σ p1); (let z14_ : Int32 := (if r3 = (0 : Int32) then ((1 : Int32)) else ((0 : Int32))); let t0_14 := z14_; (let σ14 := lsi σ 7 t0_14; if (gi (own σ14) 7) ≤ (0 : Int32) then ((σ14, (ga (ttb σ14) 13 p1))) else ((σ14, (-1 : Int32))))))
set_option maxHeartbeats 4000000 in
set_option maxRecDepth 100000 in
theorem k_X0_drinks (l : Launch) (g : GL) (σ : MS × MS) (p1 : Int32) (hlp : 0 ≤ (gi (ttb σ) 1).toInt ∧ (gi (ttb σ) 1).toInt ≤ 6) (hld : 0 ≤ (gi (ttb σ) 3).toInt ∧ (gi (ttb σ) 3).toInt ≤ 16 ∧ (gi (ttb σ) 3).toInt ≤ (g.1.2.1 50 : Int)) : Met l yX0_drinks (ws_ yX0_drinks cX0_drinks 2 (some .int)) ({ frames := 2, cells := 0, slots := 0, locals := 46 } : Room) (wPc (dL g) (g.2.2.1 99) σ [.int p1]) (wQi (dL g) (f_X0_drinks σ p1).1 (f_X0_drinks σ p1).2 (fun u r => ((gi (ttb u) 1).toInt = (gi (ttb σ) 1).toInt) ∧ ((gi (ttb u) 3).toInt = (gi (ttb σ) 3).toInt))) 0 0 (dL g).2.2.2.1 := by
  refine met_W RX0 (by decide) rfl (Nat.le_of_ble_eq_true rfl) ?_
  intro p e s m args below meth c C hr hlocks h ls hl
  have hx := C.1.1
  have hb := C.1.2.1
  have hml := C.1.2.2.1
  have hown := C.1.2.2.2.1
  have hts := C.1.2.2.2.2
  have hl : lv_has ls 2 [(0, .ref (g.2.2.1 99)), (1, .int p1)] := hl
  have hlpq : (gi (ttb σ) 1).toInt = (gi (ttb σ) 1).toInt := rfl
  have hldq : (gi (ttb σ) 3).toInt = (gi (ttb σ) 3).toInt := rfl
  have zlm1 : (-1 : Int32).toInt = -1 := rfl
  have zl0 : (0 : Int32).toInt = 0 := rfl
  have zl1 : (1 : Int32).toInt = 1 := rfl
  refine lv_aload_n hx hb dX0_drinks_0 rfl (lv_at hl 0 rfl) ?_
  refine lv_aload_n hx hb dX0_drinks_1 rfl (lv_at hl 0 rfl) ?_
  refine lv_iload_n hx hb dX0_drinks_2 rfl (lv_at hl 1 rfl) ?_
  refine w_callz (ci := 0) (q0 := 6) (As := [.int p1]) (rest := [.ref (g.2.2.1 99)]) 1 (wXL g) C h (k_X0_isPerson l g σ p1 (by first | assumption | omega)) (lw_V q1024 q1026 qs41 q144 q1027) rfl rfl rfl rfl (by decide +kernel) ⟨Nat.le_of_ble_eq_true rfl, Nat.le_of_ble_eq_true rfl⟩ rfl hl.1 rfl (Nat.le_of_ble_eq_true rfl) ⟨Nat.le_of_ble_eq_true rfl, Nat.le_of_ble_eq_true rfl⟩ dX0_drinks_3 (fun r3 σ3 H locs eσ3 er3 br3 hE3 h => ?_)
  rw [eσ3] at h
  clear hE3
  clear eσ3
  have j14 : ∀ (t0_14 : Int32) (H : Heap) (locs : List Loc) (ls : Array Slot) (ej14 : (if r3 = (0 : Int32) then ((1 : Int32)) else ((0 : Int32))) = t0_14) (bt0_14 : t0_14 = 0 ∨ t0_14 = 1) (hI14 : (0 < t0_14.toInt) ∨ (0 ≤ p1.toInt ∧ p1.toInt < (gi (ttb σ) 1).toInt)) (h : wH (dL g) σ s H locs) (hl : lv_has ls 2 [(0, .ref (g.2.2.1 99)), (1, .int p1)]), W p l e ({ frames := 2, cells := 0, slots := 0, locals := 46 } : Room) s m args below meth c H locs 0 0 (MQ below (wQi (dL g) (f_X0_drinks σ p1).1 (f_X0_drinks σ p1).2 (fun u r => ((gi (ttb u) 1).toInt = (gi (ttb σ) 1).toInt) ∧ ((gi (ttb u) 3).toInt = (gi (ttb σ) 3).toInt))) args s 0 0 (dL g).2.2.2.1) (F0 m 14 ls [.int t0_14, .ref (g.2.2.1 99)]) := by
    intro t0_14 H locs ls ej14 bt0_14 hI14 h hl
    have et0_14 := ej14.symm
    refine L_p7 C h dX0_drinks_14 (fun σ14 H locs eσ14 h => ?_)
    have hNEW : (0 ≤ (gi (ttb σ14) 1).toInt ∧ (gi (ttb σ14) 1).toInt ≤ 6) ∧ (0 ≤ (gi (ttb σ14) 3).toInt ∧ (gi (ttb σ14) 3).toInt ≤ 16 ∧ (gi (ttb σ14) 3).toInt ≤ (g.1.2.1 50 : Int)) ∧ ((gi (ttb σ14) 1).toInt = (gi (ttb σ) 1).toInt) ∧ ((gi (ttb σ14) 3).toInt = (gi (ttb σ) 3).toInt) := ⟨(by rw [eσ14] <;> exact hlp), (by rw [eσ14] <;> exact hld), (by rw [eσ14] <;> exact hlpq), (by rw [eσ14] <;> exact hldq)⟩
    obtain ⟨hlp, hld, hlpq, hldq⟩ := hNEW
    have q7_14 : (gi (own σ14) 7).toInt = t0_14.toInt := by rw [eσ14]; rfl
    refine lv_aload_n hx hb dX0_drinks_17 rfl (lv_at hl 0 rfl) ?_
    refine L_g7 C h dX0_drinks_18 ?_
    refine lv_if_le (tgt := 28) hx hb dX0_drinks_21 (by decide) (fun c21 => ?_) (fun c21 => ?_)
    · have i21 := c_le c21
      refine lv_aload_n hx hb dX0_drinks_28 rfl (lv_at hl 0 rfl) ?_
      refine L_at (rest := []) C h ⟨Nat.le_of_ble_eq_true rfl, Nat.le_of_ble_eq_true rfl⟩ hl.1 (Nat.le_of_ble_eq_true rfl) ⟨Nat.le_of_ble_eq_true rfl, Nat.le_of_ble_eq_true rfl⟩ dX0_drinks_29 (fun H locs h => ?_)
      refine L_t13 C h dX0_drinks_32 ?_
      refine lv_iload_n hx hb dX0_drinks_35 rfl (lv_at hl 1 rfl) ?_
      refine L_l213 C h (ix_of (rfl : p1.toInt = p1.toInt) (by omega)) dX0_drinks_36 ?_
      have he : f_X0_drinks σ p1 = (σ14, (ga (ttb σ14) 13 p1)) := (by have er3 := er3.symm; subst er3; have et0_14 := et0_14.symm; subst et0_14; have eσ14 := eσ14.symm; subst eσ14; exact ((if_pos c21).trans rfl))
      exact w_reti (wXL g) C h hr hlocks (congrArg Prod.fst he) (congrArg Prod.snd he) ⟨hlpq, hldq⟩ dX0_drinks_37
    · have i21 := c_nle c21
      refine lv_iconst (v := -1) hx hb dX0_drinks_24 (by decide) ?_
      refine lv_goto (tgt := 37) hx hb dX0_drinks_25 (by decide) ?_
      have he : f_X0_drinks σ p1 = (σ14, (-1 : Int32)) := (by have er3 := er3.symm; subst er3; have et0_14 := et0_14.symm; subst et0_14; have eσ14 := eσ14.symm; subst eσ14; exact ((if_neg c21).trans rfl))
      exact w_reti (wXL g) C h hr hlocks (congrArg Prod.fst he) (congrArg Prod.snd he) ⟨hlpq, hldq⟩ dX0_drinks_37
  refine lv_if_eq (tgt := 13) hx hb dX0_drinks_6 (by decide) (fun c6 => ?_) (fun c6 => ?_)
  · have i6 := c_eq c6
    refine lv_iconst (v := 1) hx hb dX0_drinks_13 (by decide) ?_
    exact j14 _ _ _ _ (by exact ((if_pos c6).trans rfl)) (Or.inr rfl) (by first | assumption | omega) h hl
  · have i6 := c_ne c6
    have okr3 := lIsPerson_ok hlp er3 c6
    refine lv_iconst (v := 0) hx hb dX0_drinks_9 (by decide) ?_
    refine lv_goto (tgt := 14) hx hb dX0_drinks_10 (by decide) ?_
    exact j14 _ _ _ _ (by exact ((if_neg c6).trans rfl)) (Or.inl rfl) (by first | assumption | omega) h hl
def f_X0_next (p0 : Int32) (p1 : Int32) : Int32 := ((p0 + ((p0 * p1) / (100 : Int32))) + (1 : Int32))
set_option maxHeartbeats 4000000 in
set_option maxRecDepth 100000 in
theorem k_X0_next (l : Launch) (p0 : Int32) (p1 : Int32) : Met l yX0_next (ws_ yX0_next cX0_next 2 (some .int)) ({ frames := 0, cells := 0, slots := 0, locals := 0 } : Room) (sPc [.int p0, .int p1]) (sQi (f_X0_next p0 p1)) 0 0 (fun _ => False) := by
  refine met_S RX0 (by decide) rfl rfl (Nat.le_of_ble_eq_true rfl) ?_
  intro p e s m args below meth c C hr hlocks _ _ _ ls hl
  have hx := C.1
  have hb := C.2.1
  have hml := C.2.2.1
  have hown := C.2.2.2.1
  have hts := C.2.2.2.2
  have h : va_S (fun _ => False) s.heap s.heap [] := va_S.rf
  have hl : lv_has ls 2 [(0, .int p0), (1, .int p1)] := hl
  have zl1 : (1 : Int32).toInt = 1 := rfl
  have zl100 : (100 : Int32).toInt = 100 := rfl
  refine lv_iload_n hx hb dX0_next_0 rfl (lv_at hl 0 rfl) ?_
  refine lv_iload_n hx hb dX0_next_1 rfl (lv_at hl 0 rfl) ?_
  refine lv_iload_n hx hb dX0_next_2 rfl (lv_at hl 1 rfl) ?_
  refine lv_imul hx hb dX0_next_3 ?_
  refine lv_bipush (v := 100) hx hb dX0_next_4 (by decide) ?_
  refine lv_idiv hx hb dX0_next_6 (by decide) ?_
  refine lv_iadd hx hb dX0_next_7 ?_
  refine lv_iconst (v := 1) hx hb dX0_next_8 (by decide) ?_
  refine lv_iadd hx hb dX0_next_9 ?_
  have he : f_X0_next p0 p1 = ((p0 + ((p0 * p1) / (100 : Int32))) + (1 : Int32)) := (by exact rfl)
  exact s_reti C hr hlocks h he dX0_next_10
theorem lnext_rng {g h r : Int32} (hg : 1 ≤ g.toInt ∧ g.toInt ≤ 999999) (hh : 0 ≤ h.toInt ∧ h.toInt ≤ 100) (e : r = f_X0_next g h) : g.toInt + 1 ≤ r.toInt ∧ r.toInt ≤ 2 * g.toInt + 1 := by
  have h1 : 0 ≤ g.toInt * h.toInt := Int.mul_nonneg (by omega) (by omega)
  have h2 : g.toInt * h.toInt ≤ g.toInt * 100 := Int.mul_le_mul_of_nonneg_left (by omega) (by omega)
  have m : (g * h).toInt = g.toInt * h.toInt := i_mul rfl rfl (by omega)
  have t : ((g * h) / 100).toInt = g.toInt * h.toInt / 100 := by
    rw [idiv_toInt (by omega) (by decide), m]; rfl
  have q : r.toInt = g.toInt + g.toInt * h.toInt / 100 + 1 := by
    rw [e]; exact i_add (i_add rfl t (by omega)) (show (1 : Int32).toInt = 1 from rfl) (by omega)
  omega
def f_X0_isGift (p0 : Int32) (p1 : Int32) : Int32 := (let r6 := (f_X0_isIn p0.toInt64 (1 : Int64) (999 : Int64)); if r6 = (0 : Int32) then ((0 : Int32)) else ((let r18 := (f_X0_isIn p1.toInt64 (0 : Int64) (100 : Int64)); if r18 = (0 : Int32) then ((0 : Int32)) else ((1 : Int32)))))
set_option maxHeartbeats 4000000 in
set_option maxRecDepth 100000 in
theorem k_X0_isGift (l : Launch) (p0 : Int32) (p1 : Int32) : Met l yX0_isGift (ws_ yX0_isGift cX0_isGift 2 (some .boolean)) ({ frames := 1, cells := 0, slots := 0, locals := 25 } : Room) (sPc [.int p0, .int p1]) (sQz (f_X0_isGift p0 p1)) 0 0 (fun _ => False) := by
  refine met_S RX0 (by decide) rfl rfl (Nat.le_of_ble_eq_true rfl) ?_
  intro p e s m args below meth c C hr hlocks _ _ _ ls hl
  have hx := C.1
  have hb := C.2.1
  have hml := C.2.2.1
  have hown := C.2.2.2.1
  have hts := C.2.2.2.2
  have h : va_S (fun _ => False) s.heap s.heap [] := va_S.rf
  have hl : lv_has ls 2 [(0, .int p0), (1, .int p1)] := hl
  have zl0 : (0 : Int32).toInt = 0 := rfl
  have zl1 : (1 : Int32).toInt = 1 := rfl
  refine lv_iload_n hx hb dX0_isGift_0 rfl (lv_at hl 0 rfl) ?_
  refine lv_i2l (v := p0.toInt64) hx hb dX0_isGift_1 rfl ?_
  refine lv_lconst (v := 1) hx hb dX0_isGift_2 (by decide) ?_
  refine lv_ldc2 hx hb hown (hts _ q1103) dX0_isGift_3 ?_
  refine s_callz (As := [.long p0.toInt64, .long (1 : Int64), .long (999 : Int64)]) (rest := []) 3 C (k_X0_isIn l p0.toInt64 (1 : Int64) (999 : Int64)) (lw_S q994 q995 q144 q996) rfl rfl (by decide +kernel) ⟨Nat.le_of_ble_eq_true rfl, Nat.le_of_ble_eq_true rfl⟩ rfl hl.1 rfl (Nat.le_of_ble_eq_true rfl) ⟨Nat.le_of_ble_eq_true rfl, Nat.le_of_ble_eq_true rfl⟩ dX0_isGift_6 h (fun r6 H locs er6 br6 hz1 hk1 hS1 => ?_)
  have h := hS1
  clear hz1 hk1 hS1
  refine lv_if_eq (tgt := 28) hx hb dX0_isGift_9 (by decide) (fun c9 => ?_) (fun c9 => ?_)
  · have i9 := c_eq c9
    refine lv_iconst (v := 0) hx hb dX0_isGift_28 (by decide) ?_
    have he : f_X0_isGift p0 p1 = (0 : Int32) := (by have er6 := er6.symm; subst er6; exact ((if_pos c9).trans rfl))
    exact s_retz C hr hlocks h he (Or.inl rfl) dX0_isGift_29
  · have i9 := c_ne c9
    have okr6 := lIsIn_ok er6 c9
    refine lv_iload_n hx hb dX0_isGift_12 rfl (lv_at hl 1 rfl) ?_
    refine lv_i2l (v := p1.toInt64) hx hb dX0_isGift_13 rfl ?_
    refine lv_lconst (v := 0) hx hb dX0_isGift_14 (by decide) ?_
    refine lv_ldc2 hx hb hown (hts _ q1356) dX0_isGift_15 ?_
    refine s_callz (As := [.long p1.toInt64, .long (0 : Int64), .long (100 : Int64)]) (rest := []) 3 C (k_X0_isIn l p1.toInt64 (0 : Int64) (100 : Int64)) (lw_S q994 q995 q144 q996) rfl rfl (by decide +kernel) ⟨Nat.le_of_ble_eq_true rfl, Nat.le_of_ble_eq_true rfl⟩ rfl hl.1 rfl (Nat.le_of_ble_eq_true rfl) ⟨Nat.le_of_ble_eq_true rfl, Nat.le_of_ble_eq_true rfl⟩ dX0_isGift_18 h (fun r18 H locs er18 br18 hz1 hk1 hS1 => ?_)
    have h := hS1
    clear hz1 hk1 hS1
    refine lv_if_eq (tgt := 28) hx hb dX0_isGift_21 (by decide) (fun c21 => ?_) (fun c21 => ?_)
    · have i21 := c_eq c21
      refine lv_iconst (v := 0) hx hb dX0_isGift_28 (by decide) ?_
      have he : f_X0_isGift p0 p1 = (0 : Int32) := (by have er6 := er6.symm; subst er6; have er18 := er18.symm; subst er18; exact ((if_neg c9).trans ((if_pos c21).trans rfl)))
      exact s_retz C hr hlocks h he (Or.inl rfl) dX0_isGift_29
    · have i21 := c_ne c21
      have okr18 := lIsIn_ok er18 c21
      refine lv_iconst (v := 1) hx hb dX0_isGift_24 (by decide) ?_
      refine lv_goto (tgt := 29) hx hb dX0_isGift_25 (by decide) ?_
      have he : f_X0_isGift p0 p1 = (1 : Int32) := (by have er6 := er6.symm; subst er6; have er18 := er18.symm; subst er18; exact ((if_neg c9).trans ((if_neg c21).trans rfl)))
      exact s_retz C hr hlocks h he (Or.inr rfl) dX0_isGift_29
theorem lIsGift_ok {a b r : Int32} (h : r = f_X0_isGift a b) (hr : ¬ r = 0) : (1 ≤ a.toInt ∧ a.toInt ≤ 999) ∧ (0 ≤ b.toInt ∧ b.toInt ≤ 100) := by
  unfold f_X0_isGift at h
  dsimp only at h
  split at h
  · exact absurd h hr
  · rename_i h1
    split at h
    · exact absurd h hr
    · rename_i h2
      exact ⟨isFrom_i (A := 1) (B := 999) rfl rfl (lIsIn_ok rfl h1), isFrom_i (A := 0) (B := 100) rfl rfl (lIsIn_ok rfl h2)⟩
def f_X0_giftAt_L35 (y2_35 : Int32) (y3_35 : Int32) : Nat → Int32 → Int32 → (MS × MS) → Int32 × Int32 × (MS × MS)
  | 0, x4_35, x5_35, σL35 => (x4_35, x5_35, σL35)
  | n + 1, x4_35, x5_35, σL35 => if y3_35 ≤ x5_35 then ((x4_35, x5_35, σL35)) else (if (gi (own σL35) 7) = (0 : Int32) then ((let r51 := (f_X0_next x4_35 y2_35); (let z71_ : Int32 := (if r51 ≤ (999999 : Int32) then ((0 : Int32)) else ((7 : Int32))); let t0_71 := z71_; (let σ71 := lsi σL35 7 t0_71; f_X0_giftAt_L35 y2_35 y3_35 n r51 (x5_35 + (1 : Int32)) σ71)))) else ((x4_35, x5_35, σL35)))
def f_X0_giftAt (σ : MS × MS) (p1 : Int32) (p2 : Int32) (p3 : Int32) : (MS × MS) × Int32 := (let r3 := (f_X0_isGift p1 p2); (let z26_ : Int32 := (if r3 = (0 : Int32) then ((1 : Int32)) else ((let r15 := (f_X0_isIn p3.toInt64 (0 : Int64) (60 : Int64)); if r15 = (0 : Int32) then ((1 : Int32)) else ((0 : Int32))))); let t0_26 := z26_; (let σ26 := lsi σ 7 t0_26; (let zL35 := f_X0_giftAt_L35 p2 p3 (61) p1 (0 : Int32) σ26; let x4_35e := zL35.1; let x5_35e := zL35.2.1; let σL35e := zL35.2.2; if (gi (own σL35e) 7) ≤ (0 : Int32) then ((σL35e, x4_35e)) else ((σL35e, (-1 : Int32)))))))
set_option maxHeartbeats 4000000 in
set_option maxRecDepth 100000 in
theorem k_X0_giftAt (l : Launch) (g : GL) (σ : MS × MS) (p1 : Int32) (p2 : Int32) (p3 : Int32) (hlp : 0 ≤ (gi (ttb σ) 1).toInt ∧ (gi (ttb σ) 1).toInt ≤ 6) (hld : 0 ≤ (gi (ttb σ) 3).toInt ∧ (gi (ttb σ) 3).toInt ≤ 16 ∧ (gi (ttb σ) 3).toInt ≤ (g.1.2.1 50 : Int)) : Met l yX0_giftAt (ws_ yX0_giftAt cX0_giftAt 6 (some .int)) ({ frames := 2, cells := 0, slots := 0, locals := 46 } : Room) (wPc (dL g) (g.2.2.1 99) σ [.int p1, .int p2, .int p3]) (wQi (dL g) (f_X0_giftAt σ p1 p2 p3).1 (f_X0_giftAt σ p1 p2 p3).2 (fun u r => ((gi (ttb u) 1).toInt = (gi (ttb σ) 1).toInt) ∧ ((gi (ttb u) 3).toInt = (gi (ttb σ) 3).toInt) ∧ (Fr [7, 13, 14, 15, 20] [16, 17, 18] (fun _ => False) (fun _ => False) (own σ) (own u)))) 0 0 (dL g).2.2.2.1 := by
  refine met_W RX0 (by decide) rfl (Nat.le_of_ble_eq_true rfl) ?_
  intro p e s m args below meth c C hr hlocks h ls hl
  have hx := C.1.1
  have hb := C.1.2.1
  have hml := C.1.2.2.1
  have hown := C.1.2.2.2.1
  have hts := C.1.2.2.2.2
  have hl : lv_has ls 6 [(0, .ref (g.2.2.1 99)), (1, .int p1), (2, .int p2), (3, .int p3)] := hl
  have hlpq : (gi (ttb σ) 1).toInt = (gi (ttb σ) 1).toInt := rfl
  have hldq : (gi (ttb σ) 3).toInt = (gi (ttb σ) 3).toInt := rfl
  have hBF : Fr [7, 13, 14, 15, 20] [16, 17, 18] (fun _ => False) (fun _ => False) (own σ) (own σ) := Fr.rf
  have zlm1 : (-1 : Int32).toInt = -1 := rfl
  have zl0 : (0 : Int32).toInt = 0 := rfl
  have zl1 : (1 : Int32).toInt = 1 := rfl
  have zl7 : (7 : Int32).toInt = 7 := rfl
  have zl999999 : (999999 : Int32).toInt = 999999 := rfl
  refine lv_aload_n hx hb dX0_giftAt_0 rfl (lv_at hl 0 rfl) ?_
  refine lv_iload_n hx hb dX0_giftAt_1 rfl (lv_at hl 1 rfl) ?_
  refine lv_iload_n hx hb dX0_giftAt_2 rfl (lv_at hl 2 rfl) ?_
  refine s_callz (As := [.int p1, .int p2]) (rest := [.ref (g.2.2.1 99)]) 2 C.1 (k_X0_isGift l p1 p2) (lw_S q1353 q1354 q144 q1355) rfl rfl (by decide +kernel) ⟨Nat.le_of_ble_eq_true rfl, Nat.le_of_ble_eq_true rfl⟩ rfl hl.1 rfl (Nat.le_of_ble_eq_true rfl) ⟨Nat.le_of_ble_eq_true rfl, Nat.le_of_ble_eq_true rfl⟩ dX0_giftAt_3 h.2.2.1 (fun r3 H locs er3 br3 hz1 hk1 hS1 => ?_)
  have h := h.same hk1 hS1
  clear hz1 hk1 hS1
  have j26 : ∀ (t0_26 : Int32) (H : Heap) (locs : List Loc) (ls : Array Slot) (ej26 : (if r3 = (0 : Int32) then ((1 : Int32)) else ((let r15 := (f_X0_isIn p3.toInt64 (0 : Int64) (60 : Int64)); if r15 = (0 : Int32) then ((1 : Int32)) else ((0 : Int32))))) = t0_26) (bt0_26 : t0_26 = 0 ∨ t0_26 = 1) (hI26 : (0 < t0_26.toInt) ∨ (p3.toInt ≤ 60)) (h : wH (dL g) σ s H locs) (hl : lv_has ls 6 [(0, .ref (g.2.2.1 99)), (1, .int p1), (2, .int p2), (3, .int p3)]), W p l e ({ frames := 2, cells := 0, slots := 0, locals := 46 } : Room) s m args below meth c H locs 0 0 (MQ below (wQi (dL g) (f_X0_giftAt σ p1 p2 p3).1 (f_X0_giftAt σ p1 p2 p3).2 (fun u r => ((gi (ttb u) 1).toInt = (gi (ttb σ) 1).toInt) ∧ ((gi (ttb u) 3).toInt = (gi (ttb σ) 3).toInt) ∧ (Fr [7, 13, 14, 15, 20] [16, 17, 18] (fun _ => False) (fun _ => False) (own σ) (own u)))) args s 0 0 (dL g).2.2.2.1) (F0 m 26 ls [.int t0_26, .ref (g.2.2.1 99)]) := by
    intro t0_26 H locs ls ej26 bt0_26 hI26 h hl
    have et0_26 := ej26.symm
    refine L_p7 C h dX0_giftAt_26 (fun σ26 H locs eσ26 h => ?_)
    have hNEW : (0 ≤ (gi (ttb σ26) 1).toInt ∧ (gi (ttb σ26) 1).toInt ≤ 6) ∧ (0 ≤ (gi (ttb σ26) 3).toInt ∧ (gi (ttb σ26) 3).toInt ≤ 16 ∧ (gi (ttb σ26) 3).toInt ≤ (g.1.2.1 50 : Int)) ∧ ((gi (ttb σ26) 1).toInt = (gi (ttb σ) 1).toInt) ∧ ((gi (ttb σ26) 3).toInt = (gi (ttb σ) 3).toInt) ∧ (Fr [7, 13, 14, 15, 20] [16, 17, 18] (fun _ => False) (fun _ => False) (own σ) (own σ26)) := ⟨(by rw [eσ26] <;> exact hlp), (by rw [eσ26] <;> exact hld), (by rw [eσ26] <;> exact hlpq), (by rw [eσ26] <;> exact hldq), (by rw [eσ26]; exact (Fr_si (by decide) hBF))⟩
    obtain ⟨hlp, hld, hlpq, hldq, hBF⟩ := hNEW
    have q7_26 : (gi (own σ26) 7).toInt = t0_26.toInt := by rw [eσ26]; rfl
    refine lv_iload_n hx hb dX0_giftAt_29 rfl (lv_at hl 1 rfl) ?_
    refine lv_istore (lv' := [(4, .int p1), (0, .ref (g.2.2.1 99)), (1, .int p1), (2, .int p2), (3, .int p3)]) hx hb dX0_giftAt_30 hl (by decide) rfl (fun ls hl => ?_)
    refine lv_iconst (v := 0) hx hb dX0_giftAt_32 (by decide) ?_
    refine lv_istore (lv' := [(5, .int (0 : Int32)), (4, .int p1), (0, .ref (g.2.2.1 99)), (1, .int p1), (2, .int p2), (3, .int p3)]) hx hb dX0_giftAt_33 hl (by decide) rfl (fun ls hl => ?_)
    have hL35 : ∀ (n : Nat) (x4_35 : Int32) (x5_35 : Int32) (σL35 : (MS × MS)) (H : Heap) (locs : List Loc) (ls : Array Slot), (0 ≤ (gi (ttb σL35) 1).toInt ∧ (gi (ttb σL35) 1).toInt ≤ 6) → (0 ≤ (gi (ttb σL35) 3).toInt ∧ (gi (ttb σL35) 3).toInt ≤ 16 ∧ (gi (ttb σL35) 3).toInt ≤ (g.1.2.1 50 : Int)) → ((gi (ttb σL35) 1).toInt = (gi (ttb σ) 1).toInt) → ((gi (ttb σL35) 3).toInt = (gi (ttb σ) 3).toInt) → (Fr [7, 13, 14, 15, 20] [16, 17, 18] (fun _ => False) (fun _ => False) (own σ) (own σL35)) → (0 ≤ x5_35.toInt ∧ x5_35.toInt ≤ 60 ∧ ((gi (own σL35) 7).toInt = 0 → p3.toInt ≤ 60)) → (60 - x5_35.toInt).toNat < n → wH (dL g) σL35 s H locs → lv_has ls 6 [(0, .ref (g.2.2.1 99)), (2, .int p2), (3, .int p3), (4, .int x4_35), (5, .int x5_35)] → (∀ (x4_35' : Int32) (x5_35' : Int32) (σL35' : (MS × MS)) (H : Heap) (locs : List Loc) (ls : Array Slot), f_X0_giftAt_L35 p2 p3 n x4_35 x5_35 σL35 = (x4_35', x5_35', σL35') → (0 ≤ (gi (ttb σL35') 1).toInt ∧ (gi (ttb σL35') 1).toInt ≤ 6) → (0 ≤ (gi (ttb σL35') 3).toInt ∧ (gi (ttb σL35') 3).toInt ≤ 16 ∧ (gi (ttb σL35') 3).toInt ≤ (g.1.2.1 50 : Int)) → ((gi (ttb σL35') 1).toInt = (gi (ttb σ) 1).toInt) → ((gi (ttb σL35') 3).toInt = (gi (ttb σ) 3).toInt) → (Fr [7, 13, 14, 15, 20] [16, 17, 18] (fun _ => False) (fun _ => False) (own σ) (own σL35')) → (0 ≤ x5_35'.toInt ∧ x5_35'.toInt ≤ 60 ∧ ((gi (own σL35') 7).toInt = 0 → p3.toInt ≤ 60)) → wH (dL g) σL35' s H locs → lv_has ls 6 [(0, .ref (g.2.2.1 99)), (4, .int x4_35')] → W p l e ({ frames := 2, cells := 0, slots := 0, locals := 46 } : Room) s m args below meth c H locs 0 0 (MQ below (wQi (dL g) (f_X0_giftAt σ p1 p2 p3).1 (f_X0_giftAt σ p1 p2 p3).2 (fun u r => ((gi (ttb u) 1).toInt = (gi (ttb σ) 1).toInt) ∧ ((gi (ttb u) 3).toInt = (gi (ttb σ) 3).toInt) ∧ (Fr [7, 13, 14, 15, 20] [16, 17, 18] (fun _ => False) (fun _ => False) (own σ) (own u)))) args s 0 0 (dL g).2.2.2.1) (F0 m 80 ls [])) → W p l e ({ frames := 2, cells := 0, slots := 0, locals := 46 } : Room) s m args below meth c H locs 0 0 (MQ below (wQi (dL g) (f_X0_giftAt σ p1 p2 p3).1 (f_X0_giftAt σ p1 p2 p3).2 (fun u r => ((gi (ttb u) 1).toInt = (gi (ttb σ) 1).toInt) ∧ ((gi (ttb u) 3).toInt = (gi (ttb σ) 3).toInt) ∧ (Fr [7, 13, 14, 15, 20] [16, 17, 18] (fun _ => False) (fun _ => False) (own σ) (own u)))) args s 0 0 (dL g).2.2.2.1) (F0 m 35 ls []) := by
      intro n
      induction n with
      | zero =>
        intro x4_35 x5_35 σL35 H locs ls hlp hld hlpq hldq hBF _ hm; exact absurd hm (Nat.not_lt_zero _)
      | succ n ih =>
        intro x4_35 x5_35 σL35 H locs ls hlp hld hlpq hldq hBF hI35 hm h hl kk
        refine lv_iload hx hb dX0_giftAt_35 (lv_at hl 4 rfl) ?_
        refine lv_iload_n hx hb dX0_giftAt_37 rfl (lv_at hl 2 rfl) ?_
        refine lv_icmp_ge (tgt := 80) hx hb dX0_giftAt_38 (by decide) (fun c38 => ?_) (fun c38 => ?_)
        · have i38 := c_le c38
          exact kk x4_35 x5_35 σL35 _ _ _ (show f_X0_giftAt_L35 p2 p3 (n + 1) x4_35 x5_35 σL35 = (x4_35, x5_35, σL35) from (by exact ((if_pos c38).trans rfl))) hlp hld hlpq hldq hBF hI35 h (lv_sub hl [0, 3] rfl)
        · have i38 := c_nle c38
          refine lv_aload_n hx hb dX0_giftAt_41 rfl (lv_at hl 0 rfl) ?_
          refine L_g7 C h dX0_giftAt_42 ?_
          refine lv_if_ne (tgt := 80) hx hb dX0_giftAt_45 (by decide) (fun c45 => ?_) (fun c45 => ?_)
          · have i45 := c_ne c45
            exact kk x4_35 x5_35 σL35 _ _ _ (show f_X0_giftAt_L35 p2 p3 (n + 1) x4_35 x5_35 σL35 = (x4_35, x5_35, σL35) from (by exact ((if_neg c38).trans ((if_neg c45).trans rfl)))) hlp hld hlpq hldq hBF hI35 h (lv_sub hl [0, 3] rfl)
          · have i45 := c_eq c45
            have k60 : p3.toInt ≤ 60 := hI35.2.2 (by omega)
            refine lv_iload hx hb dX0_giftAt_48 (lv_at hl 3 rfl) ?_
            refine lv_iload_n hx hb dX0_giftAt_50 rfl (lv_at hl 1 rfl) ?_
            refine s_calli (As := [.int x4_35, .int p2]) (rest := []) 2 C.1 (k_X0_next l x4_35 p2) (lw_S q1358 q1359 q144 q1360) rfl rfl (by decide +kernel) ⟨Nat.le_of_ble_eq_true rfl, Nat.le_of_ble_eq_true rfl⟩ rfl hl.1 rfl (Nat.le_of_ble_eq_true rfl) ⟨Nat.le_of_ble_eq_true rfl, Nat.le_of_ble_eq_true rfl⟩ dX0_giftAt_51 h.2.2.1 (fun r51 H locs er51 hz1 hk1 hS1 => ?_)
            have h := h.same hk1 hS1
            clear hz1 hk1 hS1
            refine lv_istore (lv' := [(4, .int r51), (0, .ref (g.2.2.1 99)), (2, .int p2), (3, .int p3), (5, .int x5_35)]) hx hb dX0_giftAt_54 hl (by decide) rfl (fun ls hl => ?_)
            refine lv_aload_n hx hb dX0_giftAt_56 rfl (lv_at hl 1 rfl) ?_
            refine lv_iload hx hb dX0_giftAt_57 (lv_at hl 0 rfl) ?_
            refine lv_ldcw hx hb hown (hts _ q1295) dX0_giftAt_59 ?_
            have j71 : ∀ (t0_71 : Int32) (H : Heap) (locs : List Loc) (ls : Array Slot) (ej71 : (if r51 ≤ (999999 : Int32) then ((0 : Int32)) else ((7 : Int32))) = t0_71) (h : wH (dL g) σL35 s H locs) (hl : lv_has ls 6 [(0, .ref (g.2.2.1 99)), (2, .int p2), (3, .int p3), (4, .int r51), (5, .int x5_35)]), W p l e ({ frames := 2, cells := 0, slots := 0, locals := 46 } : Room) s m args below meth c H locs 0 0 (MQ below (wQi (dL g) (f_X0_giftAt σ p1 p2 p3).1 (f_X0_giftAt σ p1 p2 p3).2 (fun u r => ((gi (ttb u) 1).toInt = (gi (ttb σ) 1).toInt) ∧ ((gi (ttb u) 3).toInt = (gi (ttb σ) 3).toInt) ∧ (Fr [7, 13, 14, 15, 20] [16, 17, 18] (fun _ => False) (fun _ => False) (own σ) (own u)))) args s 0 0 (dL g).2.2.2.1) (F0 m 71 ls [.int t0_71, .ref (g.2.2.1 99)]) := by
              intro t0_71 H locs ls ej71 h hl
              have et0_71 := ej71.symm
              refine L_p7 C h dX0_giftAt_71 (fun σ71 H locs eσ71 h => ?_)
              have hNEW : (0 ≤ (gi (ttb σ71) 1).toInt ∧ (gi (ttb σ71) 1).toInt ≤ 6) ∧ (0 ≤ (gi (ttb σ71) 3).toInt ∧ (gi (ttb σ71) 3).toInt ≤ 16 ∧ (gi (ttb σ71) 3).toInt ≤ (g.1.2.1 50 : Int)) ∧ ((gi (ttb σ71) 1).toInt = (gi (ttb σ) 1).toInt) ∧ ((gi (ttb σ71) 3).toInt = (gi (ttb σ) 3).toInt) ∧ (Fr [7, 13, 14, 15, 20] [16, 17, 18] (fun _ => False) (fun _ => False) (own σ) (own σ71)) := ⟨(by rw [eσ71] <;> exact hlp), (by rw [eσ71] <;> exact hld), (by rw [eσ71] <;> exact hlpq), (by rw [eσ71] <;> exact hldq), (by rw [eσ71]; exact (Fr_si (by decide) hBF))⟩
              obtain ⟨hlp, hld, hlpq, hldq, hBF⟩ := hNEW
              refine lv_iinc (v := (x5_35 + (1 : Int32))) (lv' := [(5, .int (x5_35 + (1 : Int32))), (0, .ref (g.2.2.1 99)), (2, .int p2), (3, .int p3), (4, .int r51)]) hx hb dX0_giftAt_74 hl (k := 4) rfl rfl (by decide) rfl (fun ls hl => ?_)
              refine lv_goto (tgt := 35) hx hb dX0_giftAt_77 (by decide) ?_
              have tt5 : (x5_35 + (1 : Int32)).toInt = (x5_35.toInt + (1)) := (i_add (rfl : x5_35.toInt = x5_35.toInt) zl1 (by omega))
              exact ih r51 (x5_35 + (1 : Int32)) σ71 _ _ _ hlp hld hlpq hldq hBF ⟨by omega, by omega, fun _ => k60⟩ (by omega) h (lv_sub hl [1, 2, 3, 4, 0] rfl) (fun x4_35' x5_35' σL35' H locs ls en hlp hld hlpq hldq hBF hI h hl => kk x4_35' x5_35' σL35' H locs ls ((show f_X0_giftAt_L35 p2 p3 (n + 1) x4_35 x5_35 σL35 = f_X0_giftAt_L35 p2 p3 n r51 (x5_35 + (1 : Int32)) σ71 from (by have er51 := er51.symm; subst er51; have et0_71 := et0_71.symm; subst et0_71; have eσ71 := eσ71.symm; subst eσ71; exact ((if_neg c38).trans ((if_pos c45).trans rfl)))).trans en) hlp hld hlpq hldq hBF hI h hl)
            refine lv_icmp_le (tgt := 70) hx hb dX0_giftAt_62 (by decide) (fun c62 => ?_) (fun c62 => ?_)
            · have i62 := c_le c62
              refine lv_iconst (v := 0) hx hb dX0_giftAt_70 (by decide) ?_
              exact j71 _ _ _ _ (by exact ((if_pos c62).trans rfl)) h (lv_sub hl [1, 2, 3, 0, 4] rfl)
            · have i62 := c_nle c62
              refine lv_bipush (v := 7) hx hb dX0_giftAt_65 (by decide) ?_
              refine lv_goto (tgt := 71) hx hb dX0_giftAt_67 (by decide) ?_
              exact j71 _ _ _ _ (by exact ((if_neg c62).trans rfl)) h (lv_sub hl [1, 2, 3, 0, 4] rfl)
    refine hL35 (61) p1 (0 : Int32) σ26 _ _ _ hlp hld hlpq hldq hBF ⟨by omega, by omega, fun _ => by omega⟩ (by omega) h (lv_sub hl [2, 4, 5, 1, 0] rfl) (fun x4_35e x5_35e σL35e H locs ls eL35 hlp hld hlpq hldq hBF hI35 h hl => ?_)
    have ex4_35e : x4_35e = (f_X0_giftAt_L35 p2 p3 (61) p1 (0 : Int32) σ26).1 := by rw [eL35]
    have ex5_35e : x5_35e = (f_X0_giftAt_L35 p2 p3 (61) p1 (0 : Int32) σ26).2.1 := by rw [eL35]
    have eσL35e : σL35e = (f_X0_giftAt_L35 p2 p3 (61) p1 (0 : Int32) σ26).2.2 := by rw [eL35]
    refine lv_aload_n hx hb dX0_giftAt_80 rfl (lv_at hl 0 rfl) ?_
    refine L_g7 C h dX0_giftAt_81 ?_
    refine lv_if_le (tgt := 91) hx hb dX0_giftAt_84 (by decide) (fun c84 => ?_) (fun c84 => ?_)
    · have i84 := c_le c84
      refine lv_iload hx hb dX0_giftAt_91 (lv_at hl 1 rfl) ?_
      have he : f_X0_giftAt σ p1 p2 p3 = (σL35e, x4_35e) := (by have er3 := er3.symm; subst er3; have et0_26 := et0_26.symm; subst et0_26; have eσ26 := eσ26.symm; subst eσ26; have ex4_35e := ex4_35e.symm; subst ex4_35e; have ex5_35e := ex5_35e.symm; subst ex5_35e; have eσL35e := eσL35e.symm; subst eσL35e; exact ((if_pos c84).trans rfl))
      exact w_reti (wXL g) C h hr hlocks (congrArg Prod.fst he) (congrArg Prod.snd he) ⟨hlpq, hldq, hBF⟩ dX0_giftAt_93
    · have i84 := c_nle c84
      refine lv_iconst (v := -1) hx hb dX0_giftAt_87 (by decide) ?_
      refine lv_goto (tgt := 93) hx hb dX0_giftAt_88 (by decide) ?_
      have he : f_X0_giftAt σ p1 p2 p3 = (σL35e, (-1 : Int32)) := (by have er3 := er3.symm; subst er3; have et0_26 := et0_26.symm; subst et0_26; have eσ26 := eσ26.symm; subst eσ26; have ex4_35e := ex4_35e.symm; subst ex4_35e; have ex5_35e := ex5_35e.symm; subst ex5_35e; have eσL35e := eσL35e.symm; subst eσL35e; exact ((if_neg c84).trans rfl))
      exact w_reti (wXL g) C h hr hlocks (congrArg Prod.fst he) (congrArg Prod.snd he) ⟨hlpq, hldq, hBF⟩ dX0_giftAt_93
  refine lv_if_eq (tgt := 25) hx hb dX0_giftAt_6 (by decide) (fun c6 => ?_) (fun c6 => ?_)
  · have i6 := c_eq c6
    refine lv_iconst (v := 1) hx hb dX0_giftAt_25 (by decide) ?_
    exact j26 _ _ _ _ (by exact ((if_pos c6).trans rfl)) (Or.inr rfl) (by first | assumption | omega) h hl
  · have i6 := c_ne c6
    have okr3 := lIsGift_ok er3 c6
    refine lv_iload_n hx hb dX0_giftAt_9 rfl (lv_at hl 3 rfl) ?_
    refine lv_i2l (v := p3.toInt64) hx hb dX0_giftAt_10 rfl ?_
    refine lv_lconst (v := 0) hx hb dX0_giftAt_11 (by decide) ?_
    refine lv_ldc2 hx hb hown (hts _ q1357) dX0_giftAt_12 ?_
    refine s_callz (As := [.long p3.toInt64, .long (0 : Int64), .long (60 : Int64)]) (rest := [.ref (g.2.2.1 99)]) 3 C.1 (k_X0_isIn l p3.toInt64 (0 : Int64) (60 : Int64)) (lw_S q994 q995 q144 q996) rfl rfl (by decide +kernel) ⟨Nat.le_of_ble_eq_true rfl, Nat.le_of_ble_eq_true rfl⟩ rfl hl.1 rfl (Nat.le_of_ble_eq_true rfl) ⟨Nat.le_of_ble_eq_true rfl, Nat.le_of_ble_eq_true rfl⟩ dX0_giftAt_15 h.2.2.1 (fun r15 H locs er15 br15 hz1 hk1 hS1 => ?_)
    have h := h.same hk1 hS1
    clear hz1 hk1 hS1
    refine lv_if_eq (tgt := 25) hx hb dX0_giftAt_18 (by decide) (fun c18 => ?_) (fun c18 => ?_)
    · have i18 := c_eq c18
      refine lv_iconst (v := 1) hx hb dX0_giftAt_25 (by decide) ?_
      exact j26 _ _ _ _ (by have er15 := er15.symm; subst er15; exact ((if_neg c6).trans ((if_pos c18).trans rfl))) (Or.inr rfl) (by first | assumption | omega) h hl
    · have i18 := c_ne c18
      have okr15 := lIsIn_ok er15 c18
      have kk15 := isFrom_i (A := 0) (B := 60) rfl rfl okr15
      refine lv_iconst (v := 0) hx hb dX0_giftAt_21 (by decide) ?_
      refine lv_goto (tgt := 26) hx hb dX0_giftAt_22 (by decide) ?_
      exact j26 _ _ _ _ (by have er15 := er15.symm; subst er15; exact ((if_neg c6).trans ((if_neg c18).trans rfl))) (Or.inl rfl) (by first | assumption | omega) h hl
def f_X0_endOf_L11 (y1_11 : Int32) (y2_11 : Int32) (y4_11 : Int32) : Nat → Int32 → Int32 → (MS × MS) → Int32 × Int32 × (MS × MS)
  | 0, x5_11, x6_11, σL11 => (x5_11, x6_11, σL11)
  | n + 1, x5_11, x6_11, σL11 => (let z26_ : Int32 := (if (x6_11 - ((x6_11 / (2 : Int32)) * (2 : Int32))) = (0 : Int32) then (y1_11) else (y2_11)); let t0_26 := z26_; if x5_11 ≤ (ga (ttb σL11) 24 t0_26) then ((let σ46 := lsi σL11 20 ((gi (own σL11) 20) + x5_11); let r53 := (f_X0_next x5_11 y4_11); f_X0_endOf_L11 y1_11 y2_11 y4_11 n r53 (x6_11 + (1 : Int32)) σ46)) else ((x5_11, x6_11, σL11)))
def f_X0_endOf (σ : MS × MS) (p1 : Int32) (p2 : Int32) (p3 : Int32) (p4 : Int32) : (MS × MS) × Int32 := (let σ2 := lsi σ 20 (0 : Int32); (let zL11 := f_X0_endOf_L11 p1 p2 p4 (2101) p3 (0 : Int32) σ2; let x5_11e := zL11.1; let x6_11e := zL11.2.1; let σL11e := zL11.2.2; (σL11e, x6_11e)))
set_option maxHeartbeats 4000000 in
set_option maxRecDepth 100000 in
theorem k_X0_endOf (l : Launch) (g : GL) (σ : MS × MS) (p1 : Int32) (p2 : Int32) (p3 : Int32) (p4 : Int32) (hlp : 0 ≤ (gi (ttb σ) 1).toInt ∧ (gi (ttb σ) 1).toInt ≤ 6) (hld : 0 ≤ (gi (ttb σ) 3).toInt ∧ (gi (ttb σ) 3).toInt ≤ 16 ∧ (gi (ttb σ) 3).toInt ≤ (g.1.2.1 50 : Int)) (hLM : ∀ x : Int32, (0 ≤ x.toInt ∧ x.toInt < (gi (ttb σ) 1).toInt) → (ga (ttb σ) 24 x).toInt ≤ 999) (h1p : 0 ≤ p1.toInt ∧ p1.toInt < (gi (ttb σ) 1).toInt) (h2p : 0 ≤ p2.toInt ∧ p2.toInt < (gi (ttb σ) 1).toInt) (h3p : 1 ≤ p3.toInt ∧ p3.toInt ≤ 999) (h4p : 0 ≤ p4.toInt ∧ p4.toInt ≤ 100) : Met l yX0_endOf (ws_ yX0_endOf cX0_endOf 7 (some .int)) ({ frames := 1, cells := 0, slots := 0, locals := 21 } : Room) (wPc (dL g) (g.2.2.1 99) σ [.int p1, .int p2, .int p3, .int p4]) (wQi (dL g) (f_X0_endOf σ p1 p2 p3 p4).1 (f_X0_endOf σ p1 p2 p3 p4).2 (fun u r => ((gi (ttb u) 1).toInt = (gi (ttb σ) 1).toInt) ∧ ((gi (ttb u) 3).toInt = (gi (ttb σ) 3).toInt) ∧ (Fr [7, 13, 14, 15, 20] [16, 17, 18] (fun _ => False) (fun _ => False) (own σ) (own u)))) 0 0 (dL g).2.2.2.1 := by
  refine met_W RX0 (by decide) rfl (Nat.le_of_ble_eq_true rfl) ?_
  intro p e s m args below meth c C hr hlocks h ls hl
  have hx := C.1.1
  have hb := C.1.2.1
  have hml := C.1.2.2.1
  have hown := C.1.2.2.2.1
  have hts := C.1.2.2.2.2
  have hl : lv_has ls 7 [(0, .ref (g.2.2.1 99)), (1, .int p1), (2, .int p2), (3, .int p3), (4, .int p4)] := hl
  have hlpq : (gi (ttb σ) 1).toInt = (gi (ttb σ) 1).toInt := rfl
  have hldq : (gi (ttb σ) 3).toInt = (gi (ttb σ) 3).toInt := rfl
  have hBF : Fr [7, 13, 14, 15, 20] [16, 17, 18] (fun _ => False) (fun _ => False) (own σ) (own σ) := Fr.rf
  have zl0 : (0 : Int32).toInt = 0 := rfl
  have zl1 : (1 : Int32).toInt = 1 := rfl
  have zl2 : (2 : Int32).toInt = 2 := rfl
  refine lv_aload_n hx hb dX0_endOf_0 rfl (lv_at hl 0 rfl) ?_
  refine lv_iconst (v := 0) hx hb dX0_endOf_1 (by decide) ?_
  refine L_p20 C h dX0_endOf_2 (fun σ2 H locs eσ2 h => ?_)
  have hNEW : (0 ≤ (gi (ttb σ2) 1).toInt ∧ (gi (ttb σ2) 1).toInt ≤ 6) ∧ (0 ≤ (gi (ttb σ2) 3).toInt ∧ (gi (ttb σ2) 3).toInt ≤ 16 ∧ (gi (ttb σ2) 3).toInt ≤ (g.1.2.1 50 : Int)) ∧ (∀ x : Int32, (0 ≤ x.toInt ∧ x.toInt < (gi (ttb σ2) 1).toInt) → (ga (ttb σ2) 24 x).toInt ≤ 999) ∧ ((gi (ttb σ2) 1).toInt = (gi (ttb σ) 1).toInt) ∧ ((gi (ttb σ2) 3).toInt = (gi (ttb σ) 3).toInt) ∧ (Fr [7, 13, 14, 15, 20] [16, 17, 18] (fun _ => False) (fun _ => False) (own σ) (own σ2)) := ⟨(by rw [eσ2] <;> exact hlp), (by rw [eσ2] <;> exact hld), (by rw [eσ2] <;> exact hLM), (by rw [eσ2] <;> exact hlpq), (by rw [eσ2] <;> exact hldq), (by rw [eσ2]; exact (Fr_si (by decide) hBF))⟩
  obtain ⟨hlp, hld, hLM, hlpq, hldq, hBF⟩ := hNEW
  refine lv_iload_n hx hb dX0_endOf_5 rfl (lv_at hl 3 rfl) ?_
  refine lv_istore (lv' := [(5, .int p3), (0, .ref (g.2.2.1 99)), (1, .int p1), (2, .int p2), (3, .int p3), (4, .int p4)]) hx hb dX0_endOf_6 hl (by decide) rfl (fun ls hl => ?_)
  refine lv_iconst (v := 0) hx hb dX0_endOf_8 (by decide) ?_
  refine lv_istore (lv' := [(6, .int (0 : Int32)), (5, .int p3), (0, .ref (g.2.2.1 99)), (1, .int p1), (2, .int p2), (3, .int p3), (4, .int p4)]) hx hb dX0_endOf_9 hl (by decide) rfl (fun ls hl => ?_)
  have hL11 : ∀ (n : Nat) (x5_11 : Int32) (x6_11 : Int32) (σL11 : (MS × MS)) (H : Heap) (locs : List Loc) (ls : Array Slot), (0 ≤ (gi (ttb σL11) 1).toInt ∧ (gi (ttb σL11) 1).toInt ≤ 6) → (0 ≤ (gi (ttb σL11) 3).toInt ∧ (gi (ttb σL11) 3).toInt ≤ 16 ∧ (gi (ttb σL11) 3).toInt ≤ (g.1.2.1 50 : Int)) → (∀ x : Int32, (0 ≤ x.toInt ∧ x.toInt < (gi (ttb σL11) 1).toInt) → (ga (ttb σL11) 24 x).toInt ≤ 999) → ((gi (ttb σL11) 1).toInt = (gi (ttb σ) 1).toInt) → ((gi (ttb σL11) 3).toInt = (gi (ttb σ) 3).toInt) → (Fr [7, 13, 14, 15, 20] [16, 17, 18] (fun _ => False) (fun _ => False) (own σ) (own σL11)) → (1 ≤ x5_11.toInt ∧ x5_11.toInt ≤ 2100 ∧ 0 ≤ x6_11.toInt ∧ x6_11.toInt < x5_11.toInt) → (2100 - x5_11.toInt).toNat < n → wH (dL g) σL11 s H locs → lv_has ls 7 [(0, .ref (g.2.2.1 99)), (1, .int p1), (2, .int p2), (4, .int p4), (5, .int x5_11), (6, .int x6_11)] → (∀ (x5_11' : Int32) (x6_11' : Int32) (σL11' : (MS × MS)) (H : Heap) (locs : List Loc) (ls : Array Slot), f_X0_endOf_L11 p1 p2 p4 n x5_11 x6_11 σL11 = (x5_11', x6_11', σL11') → (0 ≤ (gi (ttb σL11') 1).toInt ∧ (gi (ttb σL11') 1).toInt ≤ 6) → (0 ≤ (gi (ttb σL11') 3).toInt ∧ (gi (ttb σL11') 3).toInt ≤ 16 ∧ (gi (ttb σL11') 3).toInt ≤ (g.1.2.1 50 : Int)) → (∀ x : Int32, (0 ≤ x.toInt ∧ x.toInt < (gi (ttb σL11') 1).toInt) → (ga (ttb σL11') 24 x).toInt ≤ 999) → ((gi (ttb σL11') 1).toInt = (gi (ttb σ) 1).toInt) → ((gi (ttb σL11') 3).toInt = (gi (ttb σ) 3).toInt) → (Fr [7, 13, 14, 15, 20] [16, 17, 18] (fun _ => False) (fun _ => False) (own σ) (own σL11')) → (1 ≤ x5_11'.toInt ∧ x5_11'.toInt ≤ 2100 ∧ 0 ≤ x6_11'.toInt ∧ x6_11'.toInt < x5_11'.toInt) → wH (dL g) σL11' s H locs → lv_has ls 7 [(6, .int x6_11')] → W p l e ({ frames := 1, cells := 0, slots := 0, locals := 21 } : Room) s m args below meth c H locs 0 0 (MQ below (wQi (dL g) (f_X0_endOf σ p1 p2 p3 p4).1 (f_X0_endOf σ p1 p2 p3 p4).2 (fun u r => ((gi (ttb u) 1).toInt = (gi (ttb σ) 1).toInt) ∧ ((gi (ttb u) 3).toInt = (gi (ttb σ) 3).toInt) ∧ (Fr [7, 13, 14, 15, 20] [16, 17, 18] (fun _ => False) (fun _ => False) (own σ) (own u)))) args s 0 0 (dL g).2.2.2.1) (F0 m 35 ls [])) → W p l e ({ frames := 1, cells := 0, slots := 0, locals := 21 } : Room) s m args below meth c H locs 0 0 (MQ below (wQi (dL g) (f_X0_endOf σ p1 p2 p3 p4).1 (f_X0_endOf σ p1 p2 p3 p4).2 (fun u r => ((gi (ttb u) 1).toInt = (gi (ttb σ) 1).toInt) ∧ ((gi (ttb u) 3).toInt = (gi (ttb σ) 3).toInt) ∧ (Fr [7, 13, 14, 15, 20] [16, 17, 18] (fun _ => False) (fun _ => False) (own σ) (own u)))) args s 0 0 (dL g).2.2.2.1) (F0 m 11 ls []) := by
    intro n
    induction n with
    | zero =>
      intro x5_11 x6_11 σL11 H locs ls hlp hld hLM hlpq hldq hBF _ hm; exact absurd hm (Nat.not_lt_zero _)
    | succ n ih =>
      intro x5_11 x6_11 σL11 H locs ls hlp hld hLM hlpq hldq hBF hI11 hm h hl kk
      refine lv_iload hx hb dX0_endOf_11 (lv_at hl 4 rfl) ?_
      refine lv_aload_n hx hb dX0_endOf_13 rfl (lv_at hl 0 rfl) ?_
      refine lv_iload hx hb dX0_endOf_14 (lv_at hl 5 rfl) ?_
      refine lv_iconst (v := 2) hx hb dX0_endOf_16 (by decide) ?_
      refine lv_irem hx hb dX0_endOf_17 (by decide) ?_
      have j26 : ∀ (t0_26 : Int32) (H : Heap) (locs : List Loc) (ls : Array Slot) (ej26 : (if (x6_11 - ((x6_11 / (2 : Int32)) * (2 : Int32))) = (0 : Int32) then (p1) else (p2)) = t0_26) (hI26 : 0 ≤ t0_26.toInt ∧ t0_26.toInt < (gi (ttb σL11) 1).toInt) (h : wH (dL g) σL11 s H locs) (hl : lv_has ls 7 [(0, .ref (g.2.2.1 99)), (1, .int p1), (2, .int p2), (4, .int p4), (5, .int x5_11), (6, .int x6_11)]), W p l e ({ frames := 1, cells := 0, slots := 0, locals := 21 } : Room) s m args below meth c H locs 0 0 (MQ below (wQi (dL g) (f_X0_endOf σ p1 p2 p3 p4).1 (f_X0_endOf σ p1 p2 p3 p4).2 (fun u r => ((gi (ttb u) 1).toInt = (gi (ttb σ) 1).toInt) ∧ ((gi (ttb u) 3).toInt = (gi (ttb σ) 3).toInt) ∧ (Fr [7, 13, 14, 15, 20] [16, 17, 18] (fun _ => False) (fun _ => False) (own σ) (own u)))) args s 0 0 (dL g).2.2.2.1) (F0 m 26 ls [.int t0_26, .ref (g.2.2.1 99), .int x5_11]) := by
        intro t0_26 H locs ls ej26 hI26 h hl
        have et0_26 := ej26.symm
        refine L_one (rest := [.int x5_11]) C h (by omega) ⟨Nat.le_of_ble_eq_true rfl, Nat.le_of_ble_eq_true rfl⟩ hl.1 (Nat.le_of_ble_eq_true rfl) ⟨Nat.le_of_ble_eq_true rfl, Nat.le_of_ble_eq_true rfl⟩ dX0_endOf_26 (fun H locs h => ?_)
        refine L_f4 C h (by omega) dX0_endOf_29 ?_
        have hmm := hLM t0_26 hI26
        refine lv_icmp_le (tgt := 38) hx hb dX0_endOf_32 (by decide) (fun c32 => ?_) (fun c32 => ?_)
        · have i32 := c_le c32
          refine lv_aload_n hx hb dX0_endOf_38 rfl (lv_at hl 0 rfl) ?_
          refine lv_dup hx hb dX0_endOf_39 rfl ?_
          refine L_g20 C h dX0_endOf_40 ?_
          refine lv_iload hx hb dX0_endOf_43 (lv_at hl 4 rfl) ?_
          refine lv_iadd hx hb dX0_endOf_45 ?_
          refine L_p20 C h dX0_endOf_46 (fun σ46 H locs eσ46 h => ?_)
          have hNEW : (0 ≤ (gi (ttb σ46) 1).toInt ∧ (gi (ttb σ46) 1).toInt ≤ 6) ∧ (0 ≤ (gi (ttb σ46) 3).toInt ∧ (gi (ttb σ46) 3).toInt ≤ 16 ∧ (gi (ttb σ46) 3).toInt ≤ (g.1.2.1 50 : Int)) ∧ (∀ x : Int32, (0 ≤ x.toInt ∧ x.toInt < (gi (ttb σ46) 1).toInt) → (ga (ttb σ46) 24 x).toInt ≤ 999) ∧ ((gi (ttb σ46) 1).toInt = (gi (ttb σ) 1).toInt) ∧ ((gi (ttb σ46) 3).toInt = (gi (ttb σ) 3).toInt) ∧ (Fr [7, 13, 14, 15, 20] [16, 17, 18] (fun _ => False) (fun _ => False) (own σ) (own σ46)) := ⟨(by rw [eσ46] <;> exact hlp), (by rw [eσ46] <;> exact hld), (by rw [eσ46] <;> exact hLM), (by rw [eσ46] <;> exact hlpq), (by rw [eσ46] <;> exact hldq), (by rw [eσ46]; exact (Fr_si (by decide) hBF))⟩
          obtain ⟨hlp, hld, hLM, hlpq, hldq, hBF⟩ := hNEW
          refine lv_iload hx hb dX0_endOf_49 (lv_at hl 4 rfl) ?_
          refine lv_iload hx hb dX0_endOf_51 (lv_at hl 3 rfl) ?_
          refine s_calli (As := [.int x5_11, .int p4]) (rest := []) 2 C.1 (k_X0_next l x5_11 p4) (lw_S q1358 q1359 q144 q1360) rfl rfl (by decide +kernel) ⟨Nat.le_of_ble_eq_true rfl, Nat.le_of_ble_eq_true rfl⟩ rfl hl.1 rfl (Nat.le_of_ble_eq_true rfl) ⟨Nat.le_of_ble_eq_true rfl, Nat.le_of_ble_eq_true rfl⟩ dX0_endOf_53 h.2.2.1 (fun r53 H locs er53 hz1 hk1 hS1 => ?_)
          have h := h.same hk1 hS1
          clear hz1 hk1 hS1
          have ng := lnext_rng (by omega) (by omega) er53
          refine lv_istore (lv' := [(5, .int r53), (0, .ref (g.2.2.1 99)), (1, .int p1), (2, .int p2), (4, .int p4), (6, .int x6_11)]) hx hb dX0_endOf_56 hl (by decide) rfl (fun ls hl => ?_)
          refine lv_iinc (v := (x6_11 + (1 : Int32))) (lv' := [(6, .int (x6_11 + (1 : Int32))), (5, .int r53), (0, .ref (g.2.2.1 99)), (1, .int p1), (2, .int p2), (4, .int p4)]) hx hb dX0_endOf_58 hl (k := 5) rfl rfl (by decide) rfl (fun ls hl => ?_)
          refine lv_goto (tgt := 11) hx hb dX0_endOf_61 (by decide) ?_
          have tt6 : (x6_11 + (1 : Int32)).toInt = (x6_11.toInt + (1)) := (i_add (rfl : x6_11.toInt = x6_11.toInt) zl1 (by omega))
          exact ih r53 (x6_11 + (1 : Int32)) σ46 _ _ _ hlp hld hLM hlpq hldq hBF (by first | assumption | omega) (by omega) h (lv_sub hl [2, 3, 4, 5, 1, 0] rfl) (fun x5_11' x6_11' σL11' H locs ls en hlp hld hLM hlpq hldq hBF hI h hl => kk x5_11' x6_11' σL11' H locs ls ((show f_X0_endOf_L11 p1 p2 p4 (n + 1) x5_11 x6_11 σL11 = f_X0_endOf_L11 p1 p2 p4 n r53 (x6_11 + (1 : Int32)) σ46 from (by have et0_26 := et0_26.symm; subst et0_26; have eσ46 := eσ46.symm; subst eσ46; have er53 := er53.symm; subst er53; exact ((if_pos c32).trans rfl))).trans en) hlp hld hLM hlpq hldq hBF hI h hl)
        · have i32 := c_nle c32
          exact kk x5_11 x6_11 σL11 _ _ _ (show f_X0_endOf_L11 p1 p2 p4 (n + 1) x5_11 x6_11 σL11 = (x5_11, x6_11, σL11) from (by have et0_26 := et0_26.symm; subst et0_26; exact ((if_neg c32).trans rfl))) hlp hld hLM hlpq hldq hBF (by first | assumption | omega) h (lv_sub hl [5] rfl)
      refine lv_if_ne (tgt := 25) hx hb dX0_endOf_18 (by decide) (fun c18 => ?_) (fun c18 => ?_)
      · have i18 := c_ne c18
        refine lv_iload_n hx hb dX0_endOf_25 rfl (lv_at hl 2 rfl) ?_
        exact j26 _ _ _ _ (by exact ((if_neg c18).trans rfl)) (by first | assumption | omega) h hl
      · have i18 := c_eq c18
        refine lv_iload_n hx hb dX0_endOf_21 rfl (lv_at hl 1 rfl) ?_
        refine lv_goto (tgt := 26) hx hb dX0_endOf_22 (by decide) ?_
        exact j26 _ _ _ _ (by exact ((if_pos c18).trans rfl)) (by first | assumption | omega) h hl
  refine hL11 (2101) p3 (0 : Int32) σ2 _ _ _ hlp hld hLM hlpq hldq hBF (by first | assumption | omega) (by omega) h (lv_sub hl [2, 3, 4, 6, 1, 0] rfl) (fun x5_11e x6_11e σL11e H locs ls eL11 hlp hld hLM hlpq hldq hBF hI11 h hl => ?_)
  have ex5_11e : x5_11e = (f_X0_endOf_L11 p1 p2 p4 (2101) p3 (0 : Int32) σ2).1 := by rw [eL11]
  have ex6_11e : x6_11e = (f_X0_endOf_L11 p1 p2 p4 (2101) p3 (0 : Int32) σ2).2.1 := by rw [eL11]
  have eσL11e : σL11e = (f_X0_endOf_L11 p1 p2 p4 (2101) p3 (0 : Int32) σ2).2.2 := by rw [eL11]
  refine lv_iload hx hb dX0_endOf_35 (lv_at hl 0 rfl) ?_
  have he : f_X0_endOf σ p1 p2 p3 p4 = (σL11e, x6_11e) := (by have eσ2 := eσ2.symm; subst eσ2; have ex5_11e := ex5_11e.symm; subst ex5_11e; have ex6_11e := ex6_11e.symm; subst ex6_11e; have eσL11e := eσL11e.symm; subst eσL11e; exact rfl)
  exact w_reti (wXL g) C h hr hlocks (congrArg Prod.fst he) (congrArg Prod.snd he) ⟨hlpq, hldq, hBF⟩ dX0_endOf_37
def f_X0_ends (σ : MS × MS) (p1 : Int32) (p2 : Int32) (p3 : Int32) (p4 : Int32) : (MS × MS) × Int32 := (let r4 := (f_X0_areTwo σ p1 p2); (let z24_ : Int32 := (if r4 = (0 : Int32) then ((1 : Int32)) else ((let r13 := (f_X0_isGift p3 p4); if r13 = (0 : Int32) then ((1 : Int32)) else ((0 : Int32))))); let t0_24 := z24_; (let σ24 := lsi σ 7 t0_24; if (gi (own σ24) 7) ≤ (0 : Int32) then ((let z44 := (f_X0_endOf σ24 p1 p2 p3 p4); let σ44 := z44.1; let r44 := z44.2; (σ44, r44))) else ((σ24, (-1 : Int32))))))
set_option maxHeartbeats 4000000 in
set_option maxRecDepth 100000 in
theorem k_X0_ends (l : Launch) (g : GL) (σ : MS × MS) (p1 : Int32) (p2 : Int32) (p3 : Int32) (p4 : Int32) (hlp : 0 ≤ (gi (ttb σ) 1).toInt ∧ (gi (ttb σ) 1).toInt ≤ 6) (hld : 0 ≤ (gi (ttb σ) 3).toInt ∧ (gi (ttb σ) 3).toInt ≤ 16 ∧ (gi (ttb σ) 3).toInt ≤ (g.1.2.1 50 : Int)) (hLM : ∀ x : Int32, (0 ≤ x.toInt ∧ x.toInt < (gi (ttb σ) 1).toInt) → (ga (ttb σ) 24 x).toInt ≤ 999) : Met l yX0_ends (ws_ yX0_ends cX0_ends 5 (some .int)) ({ frames := 3, cells := 0, slots := 0, locals := 68 } : Room) (wPc (dL g) (g.2.2.1 99) σ [.int p1, .int p2, .int p3, .int p4]) (wQi (dL g) (f_X0_ends σ p1 p2 p3 p4).1 (f_X0_ends σ p1 p2 p3 p4).2 (fun u r => ((gi (ttb u) 1).toInt = (gi (ttb σ) 1).toInt) ∧ ((gi (ttb u) 3).toInt = (gi (ttb σ) 3).toInt) ∧ (Fr [7, 13, 14, 15, 20] [16, 17, 18] (fun _ => False) (fun _ => False) (own σ) (own u)))) 0 0 (dL g).2.2.2.1 := by
  refine met_W RX0 (by decide) rfl (Nat.le_of_ble_eq_true rfl) ?_
  intro p e s m args below meth c C hr hlocks h ls hl
  have hx := C.1.1
  have hb := C.1.2.1
  have hml := C.1.2.2.1
  have hown := C.1.2.2.2.1
  have hts := C.1.2.2.2.2
  have hl : lv_has ls 5 [(0, .ref (g.2.2.1 99)), (1, .int p1), (2, .int p2), (3, .int p3), (4, .int p4)] := hl
  have hlpq : (gi (ttb σ) 1).toInt = (gi (ttb σ) 1).toInt := rfl
  have hldq : (gi (ttb σ) 3).toInt = (gi (ttb σ) 3).toInt := rfl
  have hBF : Fr [7, 13, 14, 15, 20] [16, 17, 18] (fun _ => False) (fun _ => False) (own σ) (own σ) := Fr.rf
  have zlm1 : (-1 : Int32).toInt = -1 := rfl
  have zl0 : (0 : Int32).toInt = 0 := rfl
  have zl1 : (1 : Int32).toInt = 1 := rfl
  refine lv_aload_n hx hb dX0_ends_0 rfl (lv_at hl 0 rfl) ?_
  refine lv_aload_n hx hb dX0_ends_1 rfl (lv_at hl 0 rfl) ?_
  refine lv_iload_n hx hb dX0_ends_2 rfl (lv_at hl 1 rfl) ?_
  refine lv_iload_n hx hb dX0_ends_3 rfl (lv_at hl 2 rfl) ?_
  refine w_callz (ci := 0) (q0 := 6) (As := [.int p1, .int p2]) (rest := [.ref (g.2.2.1 99)]) 2 (wXL g) C h (k_X0_areTwo l g σ p1 p2 (by first | assumption | omega)) (lw_V q1178 q1180 qs48 q144 q1181) rfl rfl rfl rfl (by decide +kernel) ⟨Nat.le_of_ble_eq_true rfl, Nat.le_of_ble_eq_true rfl⟩ rfl hl.1 rfl (Nat.le_of_ble_eq_true rfl) ⟨Nat.le_of_ble_eq_true rfl, Nat.le_of_ble_eq_true rfl⟩ dX0_ends_4 (fun r4 σ4 H locs eσ4 er4 br4 hE4 h => ?_)
  rw [eσ4] at h
  clear hE4
  clear eσ4
  have j24 : ∀ (t0_24 : Int32) (H : Heap) (locs : List Loc) (ls : Array Slot) (ej24 : (if r4 = (0 : Int32) then ((1 : Int32)) else ((let r13 := (f_X0_isGift p3 p4); if r13 = (0 : Int32) then ((1 : Int32)) else ((0 : Int32))))) = t0_24) (bt0_24 : t0_24 = 0 ∨ t0_24 = 1) (hI24 : (0 < t0_24.toInt) ∨ (0 ≤ p1.toInt ∧ p1.toInt < (gi (ttb σ) 1).toInt ∧ 0 ≤ p2.toInt ∧ p2.toInt < (gi (ttb σ) 1).toInt ∧ (1 ≤ p3.toInt ∧ p3.toInt ≤ 999) ∧ (0 ≤ p4.toInt ∧ p4.toInt ≤ 100))) (h : wH (dL g) σ s H locs) (hl : lv_has ls 5 [(0, .ref (g.2.2.1 99)), (1, .int p1), (2, .int p2), (3, .int p3), (4, .int p4)]), W p l e ({ frames := 3, cells := 0, slots := 0, locals := 68 } : Room) s m args below meth c H locs 0 0 (MQ below (wQi (dL g) (f_X0_ends σ p1 p2 p3 p4).1 (f_X0_ends σ p1 p2 p3 p4).2 (fun u r => ((gi (ttb u) 1).toInt = (gi (ttb σ) 1).toInt) ∧ ((gi (ttb u) 3).toInt = (gi (ttb σ) 3).toInt) ∧ (Fr [7, 13, 14, 15, 20] [16, 17, 18] (fun _ => False) (fun _ => False) (own σ) (own u)))) args s 0 0 (dL g).2.2.2.1) (F0 m 24 ls [.int t0_24, .ref (g.2.2.1 99)]) := by
    intro t0_24 H locs ls ej24 bt0_24 hI24 h hl
    have et0_24 := ej24.symm
    refine L_p7 C h dX0_ends_24 (fun σ24 H locs eσ24 h => ?_)
    have hNEW : (0 ≤ (gi (ttb σ24) 1).toInt ∧ (gi (ttb σ24) 1).toInt ≤ 6) ∧ (0 ≤ (gi (ttb σ24) 3).toInt ∧ (gi (ttb σ24) 3).toInt ≤ 16 ∧ (gi (ttb σ24) 3).toInt ≤ (g.1.2.1 50 : Int)) ∧ (∀ x : Int32, (0 ≤ x.toInt ∧ x.toInt < (gi (ttb σ24) 1).toInt) → (ga (ttb σ24) 24 x).toInt ≤ 999) ∧ ((gi (ttb σ24) 1).toInt = (gi (ttb σ) 1).toInt) ∧ ((gi (ttb σ24) 3).toInt = (gi (ttb σ) 3).toInt) ∧ (Fr [7, 13, 14, 15, 20] [16, 17, 18] (fun _ => False) (fun _ => False) (own σ) (own σ24)) := ⟨(by rw [eσ24] <;> exact hlp), (by rw [eσ24] <;> exact hld), (by rw [eσ24] <;> exact hLM), (by rw [eσ24] <;> exact hlpq), (by rw [eσ24] <;> exact hldq), (by rw [eσ24]; exact (Fr_si (by decide) hBF))⟩
    obtain ⟨hlp, hld, hLM, hlpq, hldq, hBF⟩ := hNEW
    have q7_24 : (gi (own σ24) 7).toInt = t0_24.toInt := by rw [eσ24]; rfl
    refine lv_aload_n hx hb dX0_ends_27 rfl (lv_at hl 0 rfl) ?_
    refine L_g7 C h dX0_ends_28 ?_
    refine lv_if_le (tgt := 38) hx hb dX0_ends_31 (by decide) (fun c31 => ?_) (fun c31 => ?_)
    · have i31 := c_le c31
      refine lv_aload_n hx hb dX0_ends_38 rfl (lv_at hl 0 rfl) ?_
      refine lv_iload_n hx hb dX0_ends_39 rfl (lv_at hl 1 rfl) ?_
      refine lv_iload_n hx hb dX0_ends_40 rfl (lv_at hl 2 rfl) ?_
      refine lv_iload_n hx hb dX0_ends_41 rfl (lv_at hl 3 rfl) ?_
      refine lv_iload hx hb dX0_ends_42 (lv_at hl 4 rfl) ?_
      refine w_calli (ci := 0) (q0 := 6) (As := [.int p1, .int p2, .int p3, .int p4]) (rest := []) 4 (wXL g) C h (k_X0_endOf l g σ24 p1 p2 p3 p4 (by first | assumption | omega) (by first | assumption | omega) (by first | assumption | omega) (by first | assumption | omega) (by first | assumption | omega) (by first | assumption | omega) (by first | assumption | omega)) (lw_V q1365 q1367 qs59 q144 q1368) rfl rfl rfl rfl (by decide +kernel) ⟨Nat.le_of_ble_eq_true rfl, Nat.le_of_ble_eq_true rfl⟩ rfl hl.1 rfl (Nat.le_of_ble_eq_true rfl) ⟨Nat.le_of_ble_eq_true rfl, Nat.le_of_ble_eq_true rfl⟩ dX0_ends_44 (fun r44 σ44 H locs eσ44 er44 hE44 h => ?_)
      have hE44 : ((gi (ttb σ44) 1).toInt = (gi (ttb σ24) 1).toInt) ∧ ((gi (ttb σ44) 3).toInt = (gi (ttb σ24) 3).toInt) ∧ (Fr [7, 13, 14, 15, 20] [16, 17, 18] (fun _ => False) (fun _ => False) (own σ24) (own σ44)) := hE44
      obtain ⟨hlpq_44, hldq_44, hBF_44⟩ := hE44
      have hNEW : (0 ≤ (gi (ttb σ44) 1).toInt ∧ (gi (ttb σ44) 1).toInt ≤ 6) ∧ (0 ≤ (gi (ttb σ44) 3).toInt ∧ (gi (ttb σ44) 3).toInt ≤ 16 ∧ (gi (ttb σ44) 3).toInt ≤ (g.1.2.1 50 : Int)) ∧ ((gi (ttb σ44) 1).toInt = (gi (ttb σ) 1).toInt) ∧ ((gi (ttb σ44) 3).toInt = (gi (ttb σ) 3).toInt) ∧ (Fr [7, 13, 14, 15, 20] [16, 17, 18] (fun _ => False) (fun _ => False) (own σ) (own σ44)) := ⟨(by first | assumption | omega), (by first | assumption | omega), (by first | assumption | omega), (by first | assumption | omega), (Fr.tr hBF hBF_44)⟩
      clear hlp hld hlpq hldq hBF
      obtain ⟨hlp, hld, hlpq, hldq, hBF⟩ := hNEW
      have he : f_X0_ends σ p1 p2 p3 p4 = (σ44, r44) := (by have er4 := er4.symm; subst er4; have et0_24 := et0_24.symm; subst et0_24; have eσ24 := eσ24.symm; subst eσ24; have eσ44 := eσ44.symm; subst eσ44; have er44 := er44.symm; subst er44; exact ((if_pos c31).trans rfl))
      exact w_reti (wXL g) C h hr hlocks (congrArg Prod.fst he) (congrArg Prod.snd he) ⟨hlpq, hldq, hBF⟩ dX0_ends_47
    · have i31 := c_nle c31
      refine lv_iconst (v := -1) hx hb dX0_ends_34 (by decide) ?_
      refine lv_goto (tgt := 47) hx hb dX0_ends_35 (by decide) ?_
      have he : f_X0_ends σ p1 p2 p3 p4 = (σ24, (-1 : Int32)) := (by have er4 := er4.symm; subst er4; have et0_24 := et0_24.symm; subst et0_24; have eσ24 := eσ24.symm; subst eσ24; exact ((if_neg c31).trans rfl))
      exact w_reti (wXL g) C h hr hlocks (congrArg Prod.fst he) (congrArg Prod.snd he) ⟨hlpq, hldq, hBF⟩ dX0_ends_47
  refine lv_if_eq (tgt := 23) hx hb dX0_ends_7 (by decide) (fun c7 => ?_) (fun c7 => ?_)
  · have i7 := c_eq c7
    refine lv_iconst (v := 1) hx hb dX0_ends_23 (by decide) ?_
    exact j24 _ _ _ _ (by exact ((if_pos c7).trans rfl)) (Or.inr rfl) (by first | assumption | omega) h hl
  · have i7 := c_ne c7
    have okr4 := lAreTwo_ok hlp er4 c7
    refine lv_iload_n hx hb dX0_ends_10 rfl (lv_at hl 3 rfl) ?_
    refine lv_iload hx hb dX0_ends_11 (lv_at hl 4 rfl) ?_
    refine s_callz (As := [.int p3, .int p4]) (rest := [.ref (g.2.2.1 99)]) 2 C.1 (k_X0_isGift l p3 p4) (lw_S q1353 q1354 q144 q1355) rfl rfl (by decide +kernel) ⟨Nat.le_of_ble_eq_true rfl, Nat.le_of_ble_eq_true rfl⟩ rfl hl.1 rfl (Nat.le_of_ble_eq_true rfl) ⟨Nat.le_of_ble_eq_true rfl, Nat.le_of_ble_eq_true rfl⟩ dX0_ends_13 h.2.2.1 (fun r13 H locs er13 br13 hz1 hk1 hS1 => ?_)
    have h := h.same hk1 hS1
    clear hz1 hk1 hS1
    refine lv_if_eq (tgt := 23) hx hb dX0_ends_16 (by decide) (fun c16 => ?_) (fun c16 => ?_)
    · have i16 := c_eq c16
      refine lv_iconst (v := 1) hx hb dX0_ends_23 (by decide) ?_
      exact j24 _ _ _ _ (by have er13 := er13.symm; subst er13; exact ((if_neg c7).trans ((if_pos c16).trans rfl))) (Or.inr rfl) (by first | assumption | omega) h hl
    · have i16 := c_ne c16
      have okr13 := lIsGift_ok er13 c16
      refine lv_iconst (v := 0) hx hb dX0_ends_19 (by decide) ?_
      refine lv_goto (tgt := 24) hx hb dX0_ends_20 (by decide) ?_
      exact j24 _ _ _ _ (by have er13 := er13.symm; subst er13; exact ((if_neg c7).trans ((if_neg c16).trans rfl))) (Or.inl rfl) (by first | assumption | omega) h hl
def f_X0_wasted (σ : MS × MS) (p1 : Int32) (p2 : Int32) (p3 : Int32) (p4 : Int32) : (MS × MS) × Int32 := (let r4 := (f_X0_areTwo σ p1 p2); (let z24_ : Int32 := (if r4 = (0 : Int32) then ((1 : Int32)) else ((let r13 := (f_X0_isGift p3 p4); if r13 = (0 : Int32) then ((1 : Int32)) else ((0 : Int32))))); let t0_24 := z24_; (let σ24 := lsi σ 7 t0_24; if (gi (own σ24) 7) ≤ (0 : Int32) then ((let z42 := (f_X0_endOf σ24 p1 p2 p3 p4); let σ42 := z42.1; let r42 := z42.2; (σ42, (gi (own σ42) 20)))) else ((σ24, (-1 : Int32))))))
set_option maxHeartbeats 4000000 in
set_option maxRecDepth 100000 in
theorem k_X0_wasted (l : Launch) (g : GL) (σ : MS × MS) (p1 : Int32) (p2 : Int32) (p3 : Int32) (p4 : Int32) (hlp : 0 ≤ (gi (ttb σ) 1).toInt ∧ (gi (ttb σ) 1).toInt ≤ 6) (hld : 0 ≤ (gi (ttb σ) 3).toInt ∧ (gi (ttb σ) 3).toInt ≤ 16 ∧ (gi (ttb σ) 3).toInt ≤ (g.1.2.1 50 : Int)) (hLM : ∀ x : Int32, (0 ≤ x.toInt ∧ x.toInt < (gi (ttb σ) 1).toInt) → (ga (ttb σ) 24 x).toInt ≤ 999) : Met l yX0_wasted (ws_ yX0_wasted cX0_wasted 5 (some .int)) ({ frames := 3, cells := 0, slots := 0, locals := 68 } : Room) (wPc (dL g) (g.2.2.1 99) σ [.int p1, .int p2, .int p3, .int p4]) (wQi (dL g) (f_X0_wasted σ p1 p2 p3 p4).1 (f_X0_wasted σ p1 p2 p3 p4).2 (fun u r => ((gi (ttb u) 1).toInt = (gi (ttb σ) 1).toInt) ∧ ((gi (ttb u) 3).toInt = (gi (ttb σ) 3).toInt) ∧ (Fr [7, 13, 14, 15, 20] [16, 17, 18] (fun _ => False) (fun _ => False) (own σ) (own u)))) 0 0 (dL g).2.2.2.1 := by
  refine met_W RX0 (by decide) rfl (Nat.le_of_ble_eq_true rfl) ?_
  intro p e s m args below meth c C hr hlocks h ls hl
  have hx := C.1.1
  have hb := C.1.2.1
  have hml := C.1.2.2.1
  have hown := C.1.2.2.2.1
  have hts := C.1.2.2.2.2
  have hl : lv_has ls 5 [(0, .ref (g.2.2.1 99)), (1, .int p1), (2, .int p2), (3, .int p3), (4, .int p4)] := hl
  have hlpq : (gi (ttb σ) 1).toInt = (gi (ttb σ) 1).toInt := rfl
  have hldq : (gi (ttb σ) 3).toInt = (gi (ttb σ) 3).toInt := rfl
  have hBF : Fr [7, 13, 14, 15, 20] [16, 17, 18] (fun _ => False) (fun _ => False) (own σ) (own σ) := Fr.rf
  have zlm1 : (-1 : Int32).toInt = -1 := rfl
  have zl0 : (0 : Int32).toInt = 0 := rfl
  have zl1 : (1 : Int32).toInt = 1 := rfl
  refine lv_aload_n hx hb dX0_wasted_0 rfl (lv_at hl 0 rfl) ?_
  refine lv_aload_n hx hb dX0_wasted_1 rfl (lv_at hl 0 rfl) ?_
  refine lv_iload_n hx hb dX0_wasted_2 rfl (lv_at hl 1 rfl) ?_
  refine lv_iload_n hx hb dX0_wasted_3 rfl (lv_at hl 2 rfl) ?_
  refine w_callz (ci := 0) (q0 := 6) (As := [.int p1, .int p2]) (rest := [.ref (g.2.2.1 99)]) 2 (wXL g) C h (k_X0_areTwo l g σ p1 p2 (by first | assumption | omega)) (lw_V q1178 q1180 qs48 q144 q1181) rfl rfl rfl rfl (by decide +kernel) ⟨Nat.le_of_ble_eq_true rfl, Nat.le_of_ble_eq_true rfl⟩ rfl hl.1 rfl (Nat.le_of_ble_eq_true rfl) ⟨Nat.le_of_ble_eq_true rfl, Nat.le_of_ble_eq_true rfl⟩ dX0_wasted_4 (fun r4 σ4 H locs eσ4 er4 br4 hE4 h => ?_)
  rw [eσ4] at h
  clear hE4
  clear eσ4
  have j24 : ∀ (t0_24 : Int32) (H : Heap) (locs : List Loc) (ls : Array Slot) (ej24 : (if r4 = (0 : Int32) then ((1 : Int32)) else ((let r13 := (f_X0_isGift p3 p4); if r13 = (0 : Int32) then ((1 : Int32)) else ((0 : Int32))))) = t0_24) (bt0_24 : t0_24 = 0 ∨ t0_24 = 1) (hI24 : (0 < t0_24.toInt) ∨ (0 ≤ p1.toInt ∧ p1.toInt < (gi (ttb σ) 1).toInt ∧ 0 ≤ p2.toInt ∧ p2.toInt < (gi (ttb σ) 1).toInt ∧ (1 ≤ p3.toInt ∧ p3.toInt ≤ 999) ∧ (0 ≤ p4.toInt ∧ p4.toInt ≤ 100))) (h : wH (dL g) σ s H locs) (hl : lv_has ls 5 [(0, .ref (g.2.2.1 99)), (1, .int p1), (2, .int p2), (3, .int p3), (4, .int p4)]), W p l e ({ frames := 3, cells := 0, slots := 0, locals := 68 } : Room) s m args below meth c H locs 0 0 (MQ below (wQi (dL g) (f_X0_wasted σ p1 p2 p3 p4).1 (f_X0_wasted σ p1 p2 p3 p4).2 (fun u r => ((gi (ttb u) 1).toInt = (gi (ttb σ) 1).toInt) ∧ ((gi (ttb u) 3).toInt = (gi (ttb σ) 3).toInt) ∧ (Fr [7, 13, 14, 15, 20] [16, 17, 18] (fun _ => False) (fun _ => False) (own σ) (own u)))) args s 0 0 (dL g).2.2.2.1) (F0 m 24 ls [.int t0_24, .ref (g.2.2.1 99)]) := by
    intro t0_24 H locs ls ej24 bt0_24 hI24 h hl
    have et0_24 := ej24.symm
    refine L_p7 C h dX0_wasted_24 (fun σ24 H locs eσ24 h => ?_)
    have hNEW : (0 ≤ (gi (ttb σ24) 1).toInt ∧ (gi (ttb σ24) 1).toInt ≤ 6) ∧ (0 ≤ (gi (ttb σ24) 3).toInt ∧ (gi (ttb σ24) 3).toInt ≤ 16 ∧ (gi (ttb σ24) 3).toInt ≤ (g.1.2.1 50 : Int)) ∧ (∀ x : Int32, (0 ≤ x.toInt ∧ x.toInt < (gi (ttb σ24) 1).toInt) → (ga (ttb σ24) 24 x).toInt ≤ 999) ∧ ((gi (ttb σ24) 1).toInt = (gi (ttb σ) 1).toInt) ∧ ((gi (ttb σ24) 3).toInt = (gi (ttb σ) 3).toInt) ∧ (Fr [7, 13, 14, 15, 20] [16, 17, 18] (fun _ => False) (fun _ => False) (own σ) (own σ24)) := ⟨(by rw [eσ24] <;> exact hlp), (by rw [eσ24] <;> exact hld), (by rw [eσ24] <;> exact hLM), (by rw [eσ24] <;> exact hlpq), (by rw [eσ24] <;> exact hldq), (by rw [eσ24]; exact (Fr_si (by decide) hBF))⟩
    obtain ⟨hlp, hld, hLM, hlpq, hldq, hBF⟩ := hNEW
    have q7_24 : (gi (own σ24) 7).toInt = t0_24.toInt := by rw [eσ24]; rfl
    refine lv_aload_n hx hb dX0_wasted_27 rfl (lv_at hl 0 rfl) ?_
    refine L_g7 C h dX0_wasted_28 ?_
    refine lv_if_le (tgt := 36) hx hb dX0_wasted_31 (by decide) (fun c31 => ?_) (fun c31 => ?_)
    · have i31 := c_le c31
      refine lv_aload_n hx hb dX0_wasted_36 rfl (lv_at hl 0 rfl) ?_
      refine lv_iload_n hx hb dX0_wasted_37 rfl (lv_at hl 1 rfl) ?_
      refine lv_iload_n hx hb dX0_wasted_38 rfl (lv_at hl 2 rfl) ?_
      refine lv_iload_n hx hb dX0_wasted_39 rfl (lv_at hl 3 rfl) ?_
      refine lv_iload hx hb dX0_wasted_40 (lv_at hl 4 rfl) ?_
      refine w_calli (ci := 0) (q0 := 6) (As := [.int p1, .int p2, .int p3, .int p4]) (rest := []) 4 (wXL g) C h (k_X0_endOf l g σ24 p1 p2 p3 p4 (by first | assumption | omega) (by first | assumption | omega) (by first | assumption | omega) (by first | assumption | omega) (by first | assumption | omega) (by first | assumption | omega) (by first | assumption | omega)) (lw_V q1365 q1367 qs59 q144 q1368) rfl rfl rfl rfl (by decide +kernel) ⟨Nat.le_of_ble_eq_true rfl, Nat.le_of_ble_eq_true rfl⟩ rfl hl.1 rfl (Nat.le_of_ble_eq_true rfl) ⟨Nat.le_of_ble_eq_true rfl, Nat.le_of_ble_eq_true rfl⟩ dX0_wasted_42 (fun r42 σ42 H locs eσ42 er42 hE42 h => ?_)
      have hE42 : ((gi (ttb σ42) 1).toInt = (gi (ttb σ24) 1).toInt) ∧ ((gi (ttb σ42) 3).toInt = (gi (ttb σ24) 3).toInt) ∧ (Fr [7, 13, 14, 15, 20] [16, 17, 18] (fun _ => False) (fun _ => False) (own σ24) (own σ42)) := hE42
      obtain ⟨hlpq_42, hldq_42, hBF_42⟩ := hE42
      have hNEW : (0 ≤ (gi (ttb σ42) 1).toInt ∧ (gi (ttb σ42) 1).toInt ≤ 6) ∧ (0 ≤ (gi (ttb σ42) 3).toInt ∧ (gi (ttb σ42) 3).toInt ≤ 16 ∧ (gi (ttb σ42) 3).toInt ≤ (g.1.2.1 50 : Int)) ∧ ((gi (ttb σ42) 1).toInt = (gi (ttb σ) 1).toInt) ∧ ((gi (ttb σ42) 3).toInt = (gi (ttb σ) 3).toInt) ∧ (Fr [7, 13, 14, 15, 20] [16, 17, 18] (fun _ => False) (fun _ => False) (own σ) (own σ42)) := ⟨(by first | assumption | omega), (by first | assumption | omega), (by first | assumption | omega), (by first | assumption | omega), (Fr.tr hBF hBF_42)⟩
      clear hlp hld hlpq hldq hBF
      obtain ⟨hlp, hld, hlpq, hldq, hBF⟩ := hNEW
      refine lv_pop hx hb dX0_wasted_45 rfl ?_
      refine lv_aload_n hx hb dX0_wasted_46 rfl (lv_at hl 0 rfl) ?_
      refine L_g20 C h dX0_wasted_47 ?_
      have he : f_X0_wasted σ p1 p2 p3 p4 = (σ42, (gi (own σ42) 20)) := (by have er4 := er4.symm; subst er4; have et0_24 := et0_24.symm; subst et0_24; have eσ24 := eσ24.symm; subst eσ24; have eσ42 := eσ42.symm; subst eσ42; have er42 := er42.symm; subst er42; exact ((if_pos c31).trans rfl))
      exact w_reti (wXL g) C h hr hlocks (congrArg Prod.fst he) (congrArg Prod.snd he) ⟨hlpq, hldq, hBF⟩ dX0_wasted_50
    · have i31 := c_nle c31
      refine lv_iconst (v := -1) hx hb dX0_wasted_34 (by decide) ?_
      have he : f_X0_wasted σ p1 p2 p3 p4 = (σ24, (-1 : Int32)) := (by have er4 := er4.symm; subst er4; have et0_24 := et0_24.symm; subst et0_24; have eσ24 := eσ24.symm; subst eσ24; exact ((if_neg c31).trans rfl))
      exact w_reti (wXL g) C h hr hlocks (congrArg Prod.fst he) (congrArg Prod.snd he) ⟨hlpq, hldq, hBF⟩ dX0_wasted_35
  refine lv_if_eq (tgt := 23) hx hb dX0_wasted_7 (by decide) (fun c7 => ?_) (fun c7 => ?_)
  · have i7 := c_eq c7
    refine lv_iconst (v := 1) hx hb dX0_wasted_23 (by decide) ?_
    exact j24 _ _ _ _ (by exact ((if_pos c7).trans rfl)) (Or.inr rfl) (by first | assumption | omega) h hl
  · have i7 := c_ne c7
    have okr4 := lAreTwo_ok hlp er4 c7
    refine lv_iload_n hx hb dX0_wasted_10 rfl (lv_at hl 3 rfl) ?_
    refine lv_iload hx hb dX0_wasted_11 (lv_at hl 4 rfl) ?_
    refine s_callz (As := [.int p3, .int p4]) (rest := [.ref (g.2.2.1 99)]) 2 C.1 (k_X0_isGift l p3 p4) (lw_S q1353 q1354 q144 q1355) rfl rfl (by decide +kernel) ⟨Nat.le_of_ble_eq_true rfl, Nat.le_of_ble_eq_true rfl⟩ rfl hl.1 rfl (Nat.le_of_ble_eq_true rfl) ⟨Nat.le_of_ble_eq_true rfl, Nat.le_of_ble_eq_true rfl⟩ dX0_wasted_13 h.2.2.1 (fun r13 H locs er13 br13 hz1 hk1 hS1 => ?_)
    have h := h.same hk1 hS1
    clear hz1 hk1 hS1
    refine lv_if_eq (tgt := 23) hx hb dX0_wasted_16 (by decide) (fun c16 => ?_) (fun c16 => ?_)
    · have i16 := c_eq c16
      refine lv_iconst (v := 1) hx hb dX0_wasted_23 (by decide) ?_
      exact j24 _ _ _ _ (by have er13 := er13.symm; subst er13; exact ((if_neg c7).trans ((if_pos c16).trans rfl))) (Or.inr rfl) (by first | assumption | omega) h hl
    · have i16 := c_ne c16
      have okr13 := lIsGift_ok er13 c16
      refine lv_iconst (v := 0) hx hb dX0_wasted_19 (by decide) ?_
      refine lv_goto (tgt := 24) hx hb dX0_wasted_20 (by decide) ?_
      exact j24 _ _ _ _ (by have er13 := er13.symm; subst er13; exact ((if_neg c7).trans ((if_neg c16).trans rfl))) (Or.inl rfl) (by first | assumption | omega) h hl
def f_X0_gift (σ : MS × MS) (p1 : Int32) (p2 : Int32) (p3 : Int32) : (MS × MS) × Int32 := (let r4 := (f_X0_areTwo σ p1 p2); (let z27_ : Int32 := (if r4 = (0 : Int32) then ((1 : Int32)) else ((let r16 := (f_X0_isIn p3.toInt64 (1 : Int64) (9999 : Int64)); if r16 = (0 : Int32) then ((1 : Int32)) else ((0 : Int32))))); let t0_27 := z27_; (let σ27 := lsi σ 7 t0_27; if (gi (own σ27) 7) ≤ (0 : Int32) then ((let z48 := (f_X5_gives (ttb σ27) p1 p2 p3); let σ48 := tput σ27 z48.1; let r48 := z48.2; (σ48, r48))) else ((σ27, (-1 : Int32))))))
set_option maxHeartbeats 4000000 in
set_option maxRecDepth 100000 in
theorem k_X0_gift (l : Launch) (g : GL) (σ : MS × MS) (p1 : Int32) (p2 : Int32) (p3 : Int32) (hlp : 0 ≤ (gi (ttb σ) 1).toInt ∧ (gi (ttb σ) 1).toInt ≤ 6) (hld : 0 ≤ (gi (ttb σ) 3).toInt ∧ (gi (ttb σ) 3).toInt ≤ 16 ∧ (gi (ttb σ) 3).toInt ≤ (g.1.2.1 50 : Int)) : Met l yX0_gift (ws_ yX0_gift cX0_gift 4 (some .int)) ({ frames := 3, cells := 0, slots := 0, locals := 68 } : Room) (wPc (dL g) (g.2.2.1 99) σ [.int p1, .int p2, .int p3]) (wQi (dL g) (f_X0_gift σ p1 p2 p3).1 (f_X0_gift σ p1 p2 p3).2 (fun u r => ((gi (ttb u) 1).toInt = (gi (ttb σ) 1).toInt) ∧ ((gi (ttb u) 3).toInt = (gi (ttb σ) 3).toInt))) 0 0 (dL g).2.2.2.1 := by
  refine met_W RX0 (by decide) rfl (Nat.le_of_ble_eq_true rfl) ?_
  intro p e s m args below meth c C hr hlocks h ls hl
  have hx := C.1.1
  have hb := C.1.2.1
  have hml := C.1.2.2.1
  have hown := C.1.2.2.2.1
  have hts := C.1.2.2.2.2
  have hl : lv_has ls 4 [(0, .ref (g.2.2.1 99)), (1, .int p1), (2, .int p2), (3, .int p3)] := hl
  have hlpq : (gi (ttb σ) 1).toInt = (gi (ttb σ) 1).toInt := rfl
  have hldq : (gi (ttb σ) 3).toInt = (gi (ttb σ) 3).toInt := rfl
  have zlm1 : (-1 : Int32).toInt = -1 := rfl
  have zl0 : (0 : Int32).toInt = 0 := rfl
  have zl1 : (1 : Int32).toInt = 1 := rfl
  refine lv_aload_n hx hb dX0_gift_0 rfl (lv_at hl 0 rfl) ?_
  refine lv_aload_n hx hb dX0_gift_1 rfl (lv_at hl 0 rfl) ?_
  refine lv_iload_n hx hb dX0_gift_2 rfl (lv_at hl 1 rfl) ?_
  refine lv_iload_n hx hb dX0_gift_3 rfl (lv_at hl 2 rfl) ?_
  refine w_callz (ci := 0) (q0 := 6) (As := [.int p1, .int p2]) (rest := [.ref (g.2.2.1 99)]) 2 (wXL g) C h (k_X0_areTwo l g σ p1 p2 (by first | assumption | omega)) (lw_V q1178 q1180 qs48 q144 q1181) rfl rfl rfl rfl (by decide +kernel) ⟨Nat.le_of_ble_eq_true rfl, Nat.le_of_ble_eq_true rfl⟩ rfl hl.1 rfl (Nat.le_of_ble_eq_true rfl) ⟨Nat.le_of_ble_eq_true rfl, Nat.le_of_ble_eq_true rfl⟩ dX0_gift_4 (fun r4 σ4 H locs eσ4 er4 br4 hE4 h => ?_)
  rw [eσ4] at h
  clear hE4
  clear eσ4
  have j27 : ∀ (t0_27 : Int32) (H : Heap) (locs : List Loc) (ls : Array Slot) (ej27 : (if r4 = (0 : Int32) then ((1 : Int32)) else ((let r16 := (f_X0_isIn p3.toInt64 (1 : Int64) (9999 : Int64)); if r16 = (0 : Int32) then ((1 : Int32)) else ((0 : Int32))))) = t0_27) (bt0_27 : t0_27 = 0 ∨ t0_27 = 1) (hI27 : (0 < t0_27.toInt) ∨ (0 ≤ p1.toInt ∧ p1.toInt < (gi (ttb σ) 1).toInt ∧ 0 ≤ p2.toInt ∧ p2.toInt < (gi (ttb σ) 1).toInt)) (h : wH (dL g) σ s H locs) (hl : lv_has ls 4 [(0, .ref (g.2.2.1 99)), (1, .int p1), (2, .int p2), (3, .int p3)]), W p l e ({ frames := 3, cells := 0, slots := 0, locals := 68 } : Room) s m args below meth c H locs 0 0 (MQ below (wQi (dL g) (f_X0_gift σ p1 p2 p3).1 (f_X0_gift σ p1 p2 p3).2 (fun u r => ((gi (ttb u) 1).toInt = (gi (ttb σ) 1).toInt) ∧ ((gi (ttb u) 3).toInt = (gi (ttb σ) 3).toInt))) args s 0 0 (dL g).2.2.2.1) (F0 m 27 ls [.int t0_27, .ref (g.2.2.1 99)]) := by
    intro t0_27 H locs ls ej27 bt0_27 hI27 h hl
    have et0_27 := ej27.symm
    refine L_p7 C h dX0_gift_27 (fun σ27 H locs eσ27 h => ?_)
    have hNEW : (0 ≤ (gi (ttb σ27) 1).toInt ∧ (gi (ttb σ27) 1).toInt ≤ 6) ∧ (0 ≤ (gi (ttb σ27) 3).toInt ∧ (gi (ttb σ27) 3).toInt ≤ 16 ∧ (gi (ttb σ27) 3).toInt ≤ (g.1.2.1 50 : Int)) ∧ ((gi (ttb σ27) 1).toInt = (gi (ttb σ) 1).toInt) ∧ ((gi (ttb σ27) 3).toInt = (gi (ttb σ) 3).toInt) := ⟨(by rw [eσ27] <;> exact hlp), (by rw [eσ27] <;> exact hld), (by rw [eσ27] <;> exact hlpq), (by rw [eσ27] <;> exact hldq)⟩
    obtain ⟨hlp, hld, hlpq, hldq⟩ := hNEW
    have q7_27 : (gi (own σ27) 7).toInt = t0_27.toInt := by rw [eσ27]; rfl
    refine lv_aload_n hx hb dX0_gift_30 rfl (lv_at hl 0 rfl) ?_
    refine L_g7 C h dX0_gift_31 ?_
    refine lv_if_le (tgt := 41) hx hb dX0_gift_34 (by decide) (fun c34 => ?_) (fun c34 => ?_)
    · have i34 := c_le c34
      refine lv_aload_n hx hb dX0_gift_41 rfl (lv_at hl 0 rfl) ?_
      refine L_at (rest := []) C h ⟨Nat.le_of_ble_eq_true rfl, Nat.le_of_ble_eq_true rfl⟩ hl.1 (Nat.le_of_ble_eq_true rfl) ⟨Nat.le_of_ble_eq_true rfl, Nat.le_of_ble_eq_true rfl⟩ dX0_gift_42 (fun H locs h => ?_)
      refine lv_iload_n hx hb dX0_gift_45 rfl (lv_at hl 1 rfl) ?_
      refine lv_iload_n hx hb dX0_gift_46 rfl (lv_at hl 2 rfl) ?_
      refine lv_iload_n hx hb dX0_gift_47 rfl (lv_at hl 3 rfl) ?_
      refine L_tcalli (As := [.int p1, .int p2, .int p3]) (rest := []) 3 C h (k_X5_gives l g.1 (ttb σ27) p1 p2 p3 (by first | assumption | omega) (by first | assumption | omega) (by first | assumption | omega) (by first | assumption | omega)) (lw_V q1377 q1378 q1379 q151 q1380) rfl rfl (by decide +kernel) ⟨Nat.le_of_ble_eq_true rfl, Nat.le_of_ble_eq_true rfl⟩ rfl hl.1 rfl (Nat.le_of_ble_eq_true rfl) ⟨Nat.le_of_ble_eq_true rfl, Nat.le_of_ble_eq_true rfl⟩ dX0_gift_48 (fun r48 σ48 H locs eσ48 er48 hE48 h => ?_)
      have hE48 : ((gi (ttb σ48) 1).toInt = (gi (ttb σ27) 1).toInt) ∧ ((gi (ttb σ48) 3).toInt = (gi (ttb σ27) 3).toInt) ∧ (Fr [6, 7] [11, 12, 13] (fun _ => False) (fun _ => False) (ttb σ27) (ttb σ48)) := hE48
      obtain ⟨htpq_48, htdq_48, hXF_48⟩ := hE48
      have hNEW : (0 ≤ (gi (ttb σ48) 1).toInt ∧ (gi (ttb σ48) 1).toInt ≤ 6) ∧ (0 ≤ (gi (ttb σ48) 3).toInt ∧ (gi (ttb σ48) 3).toInt ≤ 16 ∧ (gi (ttb σ48) 3).toInt ≤ (g.1.2.1 50 : Int)) ∧ ((gi (ttb σ48) 1).toInt = (gi (ttb σ) 1).toInt) ∧ ((gi (ttb σ48) 3).toInt = (gi (ttb σ) 3).toInt) := ⟨(by first | assumption | omega), (by first | assumption | omega), (by first | assumption | omega), (by first | assumption | omega)⟩
      clear hlp hld hlpq hldq
      obtain ⟨hlp, hld, hlpq, hldq⟩ := hNEW
      have he : f_X0_gift σ p1 p2 p3 = (σ48, r48) := (by have er4 := er4.symm; subst er4; have et0_27 := et0_27.symm; subst et0_27; have eσ27 := eσ27.symm; subst eσ27; have eσ48 := eσ48.symm; subst eσ48; have er48 := er48.symm; subst er48; exact ((if_pos c34).trans rfl))
      exact w_reti (wXL g) C h hr hlocks (congrArg Prod.fst he) (congrArg Prod.snd he) ⟨hlpq, hldq⟩ dX0_gift_51
    · have i34 := c_nle c34
      refine lv_iconst (v := -1) hx hb dX0_gift_37 (by decide) ?_
      refine lv_goto (tgt := 51) hx hb dX0_gift_38 (by decide) ?_
      have he : f_X0_gift σ p1 p2 p3 = (σ27, (-1 : Int32)) := (by have er4 := er4.symm; subst er4; have et0_27 := et0_27.symm; subst et0_27; have eσ27 := eσ27.symm; subst eσ27; exact ((if_neg c34).trans rfl))
      exact w_reti (wXL g) C h hr hlocks (congrArg Prod.fst he) (congrArg Prod.snd he) ⟨hlpq, hldq⟩ dX0_gift_51
  refine lv_if_eq (tgt := 26) hx hb dX0_gift_7 (by decide) (fun c7 => ?_) (fun c7 => ?_)
  · have i7 := c_eq c7
    refine lv_iconst (v := 1) hx hb dX0_gift_26 (by decide) ?_
    exact j27 _ _ _ _ (by exact ((if_pos c7).trans rfl)) (Or.inr rfl) (by first | assumption | omega) h hl
  · have i7 := c_ne c7
    have okr4 := lAreTwo_ok hlp er4 c7
    refine lv_iload_n hx hb dX0_gift_10 rfl (lv_at hl 3 rfl) ?_
    refine lv_i2l (v := p3.toInt64) hx hb dX0_gift_11 rfl ?_
    refine lv_lconst (v := 1) hx hb dX0_gift_12 (by decide) ?_
    refine lv_ldc2 hx hb hown (hts _ q1125) dX0_gift_13 ?_
    refine s_callz (As := [.long p3.toInt64, .long (1 : Int64), .long (9999 : Int64)]) (rest := [.ref (g.2.2.1 99)]) 3 C.1 (k_X0_isIn l p3.toInt64 (1 : Int64) (9999 : Int64)) (lw_S q994 q995 q144 q996) rfl rfl (by decide +kernel) ⟨Nat.le_of_ble_eq_true rfl, Nat.le_of_ble_eq_true rfl⟩ rfl hl.1 rfl (Nat.le_of_ble_eq_true rfl) ⟨Nat.le_of_ble_eq_true rfl, Nat.le_of_ble_eq_true rfl⟩ dX0_gift_16 h.2.2.1 (fun r16 H locs er16 br16 hz1 hk1 hS1 => ?_)
    have h := h.same hk1 hS1
    clear hz1 hk1 hS1
    refine lv_if_eq (tgt := 26) hx hb dX0_gift_19 (by decide) (fun c19 => ?_) (fun c19 => ?_)
    · have i19 := c_eq c19
      refine lv_iconst (v := 1) hx hb dX0_gift_26 (by decide) ?_
      exact j27 _ _ _ _ (by have er16 := er16.symm; subst er16; exact ((if_neg c7).trans ((if_pos c19).trans rfl))) (Or.inr rfl) (by first | assumption | omega) h hl
    · have i19 := c_ne c19
      have okr16 := lIsIn_ok er16 c19
      refine lv_iconst (v := 0) hx hb dX0_gift_22 (by decide) ?_
      refine lv_goto (tgt := 27) hx hb dX0_gift_23 (by decide) ?_
      exact j27 _ _ _ _ (by have er16 := er16.symm; subst er16; exact ((if_neg c7).trans ((if_neg c19).trans rfl))) (Or.inl rfl) (by first | assumption | omega) h hl
def f_X0_lived (σ : MS × MS) (p1 : Int32) : (MS × MS) × Int32 := (let r7 := (f_X0_isIn p1.toInt64 (0 : Int64) (4 : Int64)); (let z30_ : Int32 := (if r7 = (0 : Int32) then ((1 : Int32)) else (if (gi (own σ) 22) = (0 : Int32) then ((6 : Int32)) else ((0 : Int32)))); let t0_30 := z30_; (let σ30 := lsi σ 7 t0_30; if (gi (own σ30) 7) ≤ (0 : Int32) then ((σ30, (ga (own σ30) 21 p1))) else ((σ30, (-1 : Int32))))))
set_option maxHeartbeats 4000000 in
set_option maxRecDepth 100000 in
theorem k_X0_lived (l : Launch) (g : GL) (σ : MS × MS) (p1 : Int32) (hlp : 0 ≤ (gi (ttb σ) 1).toInt ∧ (gi (ttb σ) 1).toInt ≤ 6) (hld : 0 ≤ (gi (ttb σ) 3).toInt ∧ (gi (ttb σ) 3).toInt ≤ 16 ∧ (gi (ttb σ) 3).toInt ≤ (g.1.2.1 50 : Int)) : Met l yX0_lived (ws_ yX0_lived cX0_lived 2 (some .int)) ({ frames := 1, cells := 0, slots := 0, locals := 25 } : Room) (wPc (dL g) (g.2.2.1 99) σ [.int p1]) (wQi (dL g) (f_X0_lived σ p1).1 (f_X0_lived σ p1).2 (fun u r => ((gi (ttb u) 1).toInt = (gi (ttb σ) 1).toInt) ∧ ((gi (ttb u) 3).toInt = (gi (ttb σ) 3).toInt))) 0 0 (dL g).2.2.2.1 := by
  refine met_W RX0 (by decide) rfl (Nat.le_of_ble_eq_true rfl) ?_
  intro p e s m args below meth c C hr hlocks h ls hl
  have hx := C.1.1
  have hb := C.1.2.1
  have hml := C.1.2.2.1
  have hown := C.1.2.2.2.1
  have hts := C.1.2.2.2.2
  have hl : lv_has ls 2 [(0, .ref (g.2.2.1 99)), (1, .int p1)] := hl
  have hlpq : (gi (ttb σ) 1).toInt = (gi (ttb σ) 1).toInt := rfl
  have hldq : (gi (ttb σ) 3).toInt = (gi (ttb σ) 3).toInt := rfl
  have zlm1 : (-1 : Int32).toInt = -1 := rfl
  have zl0 : (0 : Int32).toInt = 0 := rfl
  have zl1 : (1 : Int32).toInt = 1 := rfl
  have zl6 : (6 : Int32).toInt = 6 := rfl
  refine lv_aload_n hx hb dX0_lived_0 rfl (lv_at hl 0 rfl) ?_
  refine lv_iload_n hx hb dX0_lived_1 rfl (lv_at hl 1 rfl) ?_
  refine lv_i2l (v := p1.toInt64) hx hb dX0_lived_2 rfl ?_
  refine lv_lconst (v := 0) hx hb dX0_lived_3 (by decide) ?_
  refine lv_ldc2 hx hb hown (hts _ q1509) dX0_lived_4 ?_
  refine s_callz (As := [.long p1.toInt64, .long (0 : Int64), .long (4 : Int64)]) (rest := [.ref (g.2.2.1 99)]) 3 C.1 (k_X0_isIn l p1.toInt64 (0 : Int64) (4 : Int64)) (lw_S q994 q995 q144 q996) rfl rfl (by decide +kernel) ⟨Nat.le_of_ble_eq_true rfl, Nat.le_of_ble_eq_true rfl⟩ rfl hl.1 rfl (Nat.le_of_ble_eq_true rfl) ⟨Nat.le_of_ble_eq_true rfl, Nat.le_of_ble_eq_true rfl⟩ dX0_lived_7 h.2.2.1 (fun r7 H locs er7 br7 hz1 hk1 hS1 => ?_)
  have h := h.same hk1 hS1
  clear hz1 hk1 hS1
  have j30 : ∀ (t0_30 : Int32) (H : Heap) (locs : List Loc) (ls : Array Slot) (ej30 : (if r7 = (0 : Int32) then ((1 : Int32)) else (if (gi (own σ) 22) = (0 : Int32) then ((6 : Int32)) else ((0 : Int32)))) = t0_30) (hI30 : (0 < t0_30.toInt) ∨ (0 ≤ p1.toInt ∧ p1.toInt ≤ 4)) (h : wH (dL g) σ s H locs) (hl : lv_has ls 2 [(0, .ref (g.2.2.1 99)), (1, .int p1)]), W p l e ({ frames := 1, cells := 0, slots := 0, locals := 25 } : Room) s m args below meth c H locs 0 0 (MQ below (wQi (dL g) (f_X0_lived σ p1).1 (f_X0_lived σ p1).2 (fun u r => ((gi (ttb u) 1).toInt = (gi (ttb σ) 1).toInt) ∧ ((gi (ttb u) 3).toInt = (gi (ttb σ) 3).toInt))) args s 0 0 (dL g).2.2.2.1) (F0 m 30 ls [.int t0_30, .ref (g.2.2.1 99)]) := by
    intro t0_30 H locs ls ej30 hI30 h hl
    have et0_30 := ej30.symm
    refine L_p7 C h dX0_lived_30 (fun σ30 H locs eσ30 h => ?_)
    have hNEW : (0 ≤ (gi (ttb σ30) 1).toInt ∧ (gi (ttb σ30) 1).toInt ≤ 6) ∧ (0 ≤ (gi (ttb σ30) 3).toInt ∧ (gi (ttb σ30) 3).toInt ≤ 16 ∧ (gi (ttb σ30) 3).toInt ≤ (g.1.2.1 50 : Int)) ∧ ((gi (ttb σ30) 1).toInt = (gi (ttb σ) 1).toInt) ∧ ((gi (ttb σ30) 3).toInt = (gi (ttb σ) 3).toInt) := ⟨(by rw [eσ30] <;> exact hlp), (by rw [eσ30] <;> exact hld), (by rw [eσ30] <;> exact hlpq), (by rw [eσ30] <;> exact hldq)⟩
    obtain ⟨hlp, hld, hlpq, hldq⟩ := hNEW
    have q7_30 : (gi (own σ30) 7).toInt = t0_30.toInt := by rw [eσ30]; rfl
    refine lv_aload_n hx hb dX0_lived_33 rfl (lv_at hl 0 rfl) ?_
    refine L_g7 C h dX0_lived_34 ?_
    refine lv_if_le (tgt := 44) hx hb dX0_lived_37 (by decide) (fun c37 => ?_) (fun c37 => ?_)
    · have i37 := c_le c37
      refine lv_aload_n hx hb dX0_lived_44 rfl (lv_at hl 0 rfl) ?_
      refine L_g21 C h dX0_lived_45 ?_
      refine lv_iload_n hx hb dX0_lived_48 rfl (lv_at hl 1 rfl) ?_
      refine L_l121 C h (ix_of (rfl : p1.toInt = p1.toInt) (by omega)) dX0_lived_49 ?_
      have he : f_X0_lived σ p1 = (σ30, (ga (own σ30) 21 p1)) := (by have er7 := er7.symm; subst er7; have et0_30 := et0_30.symm; subst et0_30; have eσ30 := eσ30.symm; subst eσ30; exact ((if_pos c37).trans rfl))
      exact w_reti (wXL g) C h hr hlocks (congrArg Prod.fst he) (congrArg Prod.snd he) ⟨hlpq, hldq⟩ dX0_lived_50
    · have i37 := c_nle c37
      refine lv_iconst (v := -1) hx hb dX0_lived_40 (by decide) ?_
      refine lv_goto (tgt := 50) hx hb dX0_lived_41 (by decide) ?_
      have he : f_X0_lived σ p1 = (σ30, (-1 : Int32)) := (by have er7 := er7.symm; subst er7; have et0_30 := et0_30.symm; subst et0_30; have eσ30 := eσ30.symm; subst eσ30; exact ((if_neg c37).trans rfl))
      exact w_reti (wXL g) C h hr hlocks (congrArg Prod.fst he) (congrArg Prod.snd he) ⟨hlpq, hldq⟩ dX0_lived_50
  refine lv_if_ne (tgt := 17) hx hb dX0_lived_10 (by decide) (fun c10 => ?_) (fun c10 => ?_)
  · have i10 := c_ne c10
    have okr7 := lIsIn_ok er7 c10
    have kk7 := isFrom_i (A := 0) (B := 4) rfl rfl okr7
    refine lv_aload_n hx hb dX0_lived_17 rfl (lv_at hl 0 rfl) ?_
    refine L_g22 C h dX0_lived_18 ?_
    refine lv_if_eq (tgt := 28) hx hb dX0_lived_21 (by decide) (fun c21 => ?_) (fun c21 => ?_)
    · have i21 := c_eq c21
      refine lv_bipush (v := 6) hx hb dX0_lived_28 (by decide) ?_
      exact j30 _ _ _ _ (by exact ((if_neg c10).trans ((if_pos c21).trans rfl))) (by first | assumption | omega) h hl
    · have i21 := c_ne c21
      refine lv_iconst (v := 0) hx hb dX0_lived_24 (by decide) ?_
      refine lv_goto (tgt := 30) hx hb dX0_lived_25 (by decide) ?_
      exact j30 _ _ _ _ (by exact ((if_neg c10).trans ((if_neg c21).trans rfl))) (by first | assumption | omega) h hl
  · have i10 := c_eq c10
    refine lv_iconst (v := 1) hx hb dX0_lived_13 (by decide) ?_
    refine lv_goto (tgt := 30) hx hb dX0_lived_14 (by decide) ?_
    exact j30 _ _ _ _ (by exact ((if_pos c10).trans rfl)) (by first | assumption | omega) h hl
def f_X0_lay (σ : MS × MS) (p1 : Int32) : MS × MS := (let σ19u1 := lsa σ 1 (gi (own σ) 2) (vp_nar .byte (p1 >>> ((24 : Int32) &&& (31 : Int32))).toInt8.toInt32); let σ27u2 := lsi σ19u1 2 ((gi (own σ19u1) 2) + (1 : Int32)); (let σ19u3 := lsa σ27u2 1 (gi (own σ27u2) 2) (vp_nar .byte (p1 >>> ((16 : Int32) &&& (31 : Int32))).toInt8.toInt32); let σ27u4 := lsi σ19u3 2 ((gi (own σ19u3) 2) + (1 : Int32)); (let σ19u5 := lsa σ27u4 1 (gi (own σ27u4) 2) (vp_nar .byte (p1 >>> ((8 : Int32) &&& (31 : Int32))).toInt8.toInt32); let σ27u6 := lsi σ19u5 2 ((gi (own σ19u5) 2) + (1 : Int32)); (let σ19u7 := lsa σ27u6 1 (gi (own σ27u6) 2) (vp_nar .byte (p1 >>> ((0 : Int32) &&& (31 : Int32))).toInt8.toInt32); let σ27u8 := lsi σ19u7 2 ((gi (own σ19u7) 2) + (1 : Int32)); σ27u8))))
set_option maxHeartbeats 4000000 in
set_option maxRecDepth 100000 in
theorem k_X0_lay (l : Launch) (g : GL) (σ : MS × MS) (p1 : Int32) (hlp : 0 ≤ (gi (ttb σ) 1).toInt ∧ (gi (ttb σ) 1).toInt ≤ 6) (hld : 0 ≤ (gi (ttb σ) 3).toInt ∧ (gi (ttb σ) 3).toInt ≤ 16 ∧ (gi (ttb σ) 3).toInt ≤ (g.1.2.1 50 : Int)) (ht0 : 0 ≤ (gi (own σ) 2).toInt ∧ (gi (own σ) 2).toInt ≤ 896) : Met l yX0_lay (ws_ yX0_lay cX0_lay 3 none) ({ frames := 0, cells := 0, slots := 0, locals := 0 } : Room) (wPc (dL g) (g.2.2.1 99) σ [.int p1]) (wQv (dL g) (f_X0_lay σ p1) (fun u => ((gi (ttb u) 1).toInt = (gi (ttb σ) 1).toInt) ∧ ((gi (ttb u) 3).toInt = (gi (ttb σ) 3).toInt) ∧ ((gi (own u) 2).toInt = (gi (own σ) 2).toInt + 4))) 0 0 (dL g).2.2.2.1 := by
  refine met_W RX0 (by decide) rfl (Nat.le_of_ble_eq_true rfl) ?_
  intro p e s m args below meth c C hr hlocks h ls hl
  have hx := C.1.1
  have hb := C.1.2.1
  have hml := C.1.2.2.1
  have hown := C.1.2.2.2.1
  have hts := C.1.2.2.2.2
  have hl : lv_has ls 3 [(0, .ref (g.2.2.1 99)), (1, .int p1)] := hl
  have hlpq : (gi (ttb σ) 1).toInt = (gi (ttb σ) 1).toInt := rfl
  have hldq : (gi (ttb σ) 3).toInt = (gi (ttb σ) 3).toInt := rfl
  have zlm8 : (-8 : Int32).toInt = -8 := rfl
  have zl0 : (0 : Int32).toInt = 0 := rfl
  have zl1 : (1 : Int32).toInt = 1 := rfl
  have zl24 : (24 : Int32).toInt = 24 := rfl
  refine lv_bipush (v := 24) hx hb dX0_lay_0 (by decide) ?_
  refine lv_istore_n (lv' := [(2, .int (24 : Int32)), (0, .ref (g.2.2.1 99)), (1, .int p1)]) hx hb dX0_lay_2 rfl hl (by decide) rfl (fun ls hl => ?_)
  refine lv_iload_n hx hb dX0_lay_3 rfl (lv_at hl 0 rfl) ?_
  refine lv_if_lt (tgt := 36) hx hb dX0_lay_4 (by decide) (fun c4 => absurd c4 (by decide)) (fun _ => ?_)
  refine lv_aload_n hx hb dX0_lay_7 rfl (lv_at hl 1 rfl) ?_
  refine L_g1 C h dX0_lay_8 ?_
  refine lv_aload_n hx hb dX0_lay_11 rfl (lv_at hl 1 rfl) ?_
  refine L_g2 C h dX0_lay_12 ?_
  refine lv_iload_n hx hb dX0_lay_15 rfl (lv_at hl 2 rfl) ?_
  refine lv_iload_n hx hb dX0_lay_16 rfl (lv_at hl 0 rfl) ?_
  refine lv_ishr hx hb dX0_lay_17 ?_
  refine lv_i2b (v := (p1 >>> ((24 : Int32) &&& (31 : Int32))).toInt8.toInt32) hx hb dX0_lay_18 rfl ?_
  refine L_s11 C h (ix_of (rfl : (gi (own σ) 2).toInt = (gi (own σ) 2).toInt) (by omega)) dX0_lay_19 (fun σ19u1 H locs eσ19u1 h => ?_)
  have hNEW : (0 ≤ (gi (ttb σ19u1) 1).toInt ∧ (gi (ttb σ19u1) 1).toInt ≤ 6) ∧ (0 ≤ (gi (ttb σ19u1) 3).toInt ∧ (gi (ttb σ19u1) 3).toInt ≤ 16 ∧ (gi (ttb σ19u1) 3).toInt ≤ (g.1.2.1 50 : Int)) ∧ ((gi (ttb σ19u1) 1).toInt = (gi (ttb σ) 1).toInt) ∧ ((gi (ttb σ19u1) 3).toInt = (gi (ttb σ) 3).toInt) := ⟨(by rw [eσ19u1] <;> exact hlp), (by rw [eσ19u1] <;> exact hld), (by rw [eσ19u1] <;> exact hlpq), (by rw [eσ19u1] <;> exact hldq)⟩
  obtain ⟨hlp, hld, hlpq, hldq⟩ := hNEW
  have qσ19u1 : (gi (own σ19u1) 2).toInt = (gi (own σ) 2).toInt := by rw [eσ19u1]; rfl
  refine lv_aload_n hx hb dX0_lay_20 rfl (lv_at hl 1 rfl) ?_
  refine lv_dup hx hb dX0_lay_21 rfl ?_
  refine L_g2 C h dX0_lay_22 ?_
  refine lv_iconst (v := 1) hx hb dX0_lay_25 (by decide) ?_
  refine lv_iadd hx hb dX0_lay_26 ?_
  refine L_p2 C h dX0_lay_27 (fun σ27u2 H locs eσ27u2 h => ?_)
  have hNEW : (0 ≤ (gi (ttb σ27u2) 1).toInt ∧ (gi (ttb σ27u2) 1).toInt ≤ 6) ∧ (0 ≤ (gi (ttb σ27u2) 3).toInt ∧ (gi (ttb σ27u2) 3).toInt ≤ 16 ∧ (gi (ttb σ27u2) 3).toInt ≤ (g.1.2.1 50 : Int)) ∧ ((gi (ttb σ27u2) 1).toInt = (gi (ttb σ) 1).toInt) ∧ ((gi (ttb σ27u2) 3).toInt = (gi (ttb σ) 3).toInt) := ⟨(by rw [eσ27u2] <;> exact hlp), (by rw [eσ27u2] <;> exact hld), (by rw [eσ27u2] <;> exact hlpq), (by rw [eσ27u2] <;> exact hldq)⟩
  clear hlp hld hlpq hldq
  obtain ⟨hlp, hld, hlpq, hldq⟩ := hNEW
  have qσ27u2 : (gi (own σ27u2) 2).toInt = (gi (own σ19u1) 2).toInt + 1 := by rw [eσ27u2]; exact i_add rfl zl1 (by omega)
  refine lv_iinc (v := (16 : Int32)) (lv' := [(2, .int (16 : Int32)), (0, .ref (g.2.2.1 99)), (1, .int p1)]) hx hb dX0_lay_30 hl (k := 0) rfl rfl (by decide) rfl (fun ls hl => ?_)
  refine lv_goto (tgt := 3) hx hb dX0_lay_33 (by decide) ?_
  refine lv_iload_n hx hb dX0_lay_3 rfl (lv_at hl 0 rfl) ?_
  refine lv_if_lt (tgt := 36) hx hb dX0_lay_4 (by decide) (fun c4 => absurd c4 (by decide)) (fun _ => ?_)
  refine lv_aload_n hx hb dX0_lay_7 rfl (lv_at hl 1 rfl) ?_
  refine L_g1 C h dX0_lay_8 ?_
  refine lv_aload_n hx hb dX0_lay_11 rfl (lv_at hl 1 rfl) ?_
  refine L_g2 C h dX0_lay_12 ?_
  refine lv_iload_n hx hb dX0_lay_15 rfl (lv_at hl 2 rfl) ?_
  refine lv_iload_n hx hb dX0_lay_16 rfl (lv_at hl 0 rfl) ?_
  refine lv_ishr hx hb dX0_lay_17 ?_
  refine lv_i2b (v := (p1 >>> ((16 : Int32) &&& (31 : Int32))).toInt8.toInt32) hx hb dX0_lay_18 rfl ?_
  refine L_s11 C h (ix_of (rfl : (gi (own σ27u2) 2).toInt = (gi (own σ27u2) 2).toInt) (by omega)) dX0_lay_19 (fun σ19u3 H locs eσ19u3 h => ?_)
  have hNEW : (0 ≤ (gi (ttb σ19u3) 1).toInt ∧ (gi (ttb σ19u3) 1).toInt ≤ 6) ∧ (0 ≤ (gi (ttb σ19u3) 3).toInt ∧ (gi (ttb σ19u3) 3).toInt ≤ 16 ∧ (gi (ttb σ19u3) 3).toInt ≤ (g.1.2.1 50 : Int)) ∧ ((gi (ttb σ19u3) 1).toInt = (gi (ttb σ) 1).toInt) ∧ ((gi (ttb σ19u3) 3).toInt = (gi (ttb σ) 3).toInt) := ⟨(by rw [eσ19u3] <;> exact hlp), (by rw [eσ19u3] <;> exact hld), (by rw [eσ19u3] <;> exact hlpq), (by rw [eσ19u3] <;> exact hldq)⟩
  clear hlp hld hlpq hldq
  obtain ⟨hlp, hld, hlpq, hldq⟩ := hNEW
  have qσ19u3 : (gi (own σ19u3) 2).toInt = (gi (own σ27u2) 2).toInt := by rw [eσ19u3]; rfl
  refine lv_aload_n hx hb dX0_lay_20 rfl (lv_at hl 1 rfl) ?_
  refine lv_dup hx hb dX0_lay_21 rfl ?_
  refine L_g2 C h dX0_lay_22 ?_
  refine lv_iconst (v := 1) hx hb dX0_lay_25 (by decide) ?_
  refine lv_iadd hx hb dX0_lay_26 ?_
  refine L_p2 C h dX0_lay_27 (fun σ27u4 H locs eσ27u4 h => ?_)
  have hNEW : (0 ≤ (gi (ttb σ27u4) 1).toInt ∧ (gi (ttb σ27u4) 1).toInt ≤ 6) ∧ (0 ≤ (gi (ttb σ27u4) 3).toInt ∧ (gi (ttb σ27u4) 3).toInt ≤ 16 ∧ (gi (ttb σ27u4) 3).toInt ≤ (g.1.2.1 50 : Int)) ∧ ((gi (ttb σ27u4) 1).toInt = (gi (ttb σ) 1).toInt) ∧ ((gi (ttb σ27u4) 3).toInt = (gi (ttb σ) 3).toInt) := ⟨(by rw [eσ27u4] <;> exact hlp), (by rw [eσ27u4] <;> exact hld), (by rw [eσ27u4] <;> exact hlpq), (by rw [eσ27u4] <;> exact hldq)⟩
  clear hlp hld hlpq hldq
  obtain ⟨hlp, hld, hlpq, hldq⟩ := hNEW
  have qσ27u4 : (gi (own σ27u4) 2).toInt = (gi (own σ19u3) 2).toInt + 1 := by rw [eσ27u4]; exact i_add rfl zl1 (by omega)
  refine lv_iinc (v := (8 : Int32)) (lv' := [(2, .int (8 : Int32)), (0, .ref (g.2.2.1 99)), (1, .int p1)]) hx hb dX0_lay_30 hl (k := 0) rfl rfl (by decide) rfl (fun ls hl => ?_)
  refine lv_goto (tgt := 3) hx hb dX0_lay_33 (by decide) ?_
  refine lv_iload_n hx hb dX0_lay_3 rfl (lv_at hl 0 rfl) ?_
  refine lv_if_lt (tgt := 36) hx hb dX0_lay_4 (by decide) (fun c4 => absurd c4 (by decide)) (fun _ => ?_)
  refine lv_aload_n hx hb dX0_lay_7 rfl (lv_at hl 1 rfl) ?_
  refine L_g1 C h dX0_lay_8 ?_
  refine lv_aload_n hx hb dX0_lay_11 rfl (lv_at hl 1 rfl) ?_
  refine L_g2 C h dX0_lay_12 ?_
  refine lv_iload_n hx hb dX0_lay_15 rfl (lv_at hl 2 rfl) ?_
  refine lv_iload_n hx hb dX0_lay_16 rfl (lv_at hl 0 rfl) ?_
  refine lv_ishr hx hb dX0_lay_17 ?_
  refine lv_i2b (v := (p1 >>> ((8 : Int32) &&& (31 : Int32))).toInt8.toInt32) hx hb dX0_lay_18 rfl ?_
  refine L_s11 C h (ix_of (rfl : (gi (own σ27u4) 2).toInt = (gi (own σ27u4) 2).toInt) (by omega)) dX0_lay_19 (fun σ19u5 H locs eσ19u5 h => ?_)
  have hNEW : (0 ≤ (gi (ttb σ19u5) 1).toInt ∧ (gi (ttb σ19u5) 1).toInt ≤ 6) ∧ (0 ≤ (gi (ttb σ19u5) 3).toInt ∧ (gi (ttb σ19u5) 3).toInt ≤ 16 ∧ (gi (ttb σ19u5) 3).toInt ≤ (g.1.2.1 50 : Int)) ∧ ((gi (ttb σ19u5) 1).toInt = (gi (ttb σ) 1).toInt) ∧ ((gi (ttb σ19u5) 3).toInt = (gi (ttb σ) 3).toInt) := ⟨(by rw [eσ19u5] <;> exact hlp), (by rw [eσ19u5] <;> exact hld), (by rw [eσ19u5] <;> exact hlpq), (by rw [eσ19u5] <;> exact hldq)⟩
  clear hlp hld hlpq hldq
  obtain ⟨hlp, hld, hlpq, hldq⟩ := hNEW
  have qσ19u5 : (gi (own σ19u5) 2).toInt = (gi (own σ27u4) 2).toInt := by rw [eσ19u5]; rfl
  refine lv_aload_n hx hb dX0_lay_20 rfl (lv_at hl 1 rfl) ?_
  refine lv_dup hx hb dX0_lay_21 rfl ?_
  refine L_g2 C h dX0_lay_22 ?_
  refine lv_iconst (v := 1) hx hb dX0_lay_25 (by decide) ?_
  refine lv_iadd hx hb dX0_lay_26 ?_
  refine L_p2 C h dX0_lay_27 (fun σ27u6 H locs eσ27u6 h => ?_)
  have hNEW : (0 ≤ (gi (ttb σ27u6) 1).toInt ∧ (gi (ttb σ27u6) 1).toInt ≤ 6) ∧ (0 ≤ (gi (ttb σ27u6) 3).toInt ∧ (gi (ttb σ27u6) 3).toInt ≤ 16 ∧ (gi (ttb σ27u6) 3).toInt ≤ (g.1.2.1 50 : Int)) ∧ ((gi (ttb σ27u6) 1).toInt = (gi (ttb σ) 1).toInt) ∧ ((gi (ttb σ27u6) 3).toInt = (gi (ttb σ) 3).toInt) := ⟨(by rw [eσ27u6] <;> exact hlp), (by rw [eσ27u6] <;> exact hld), (by rw [eσ27u6] <;> exact hlpq), (by rw [eσ27u6] <;> exact hldq)⟩
  clear hlp hld hlpq hldq
  obtain ⟨hlp, hld, hlpq, hldq⟩ := hNEW
  have qσ27u6 : (gi (own σ27u6) 2).toInt = (gi (own σ19u5) 2).toInt + 1 := by rw [eσ27u6]; exact i_add rfl zl1 (by omega)
  refine lv_iinc (v := (0 : Int32)) (lv' := [(2, .int (0 : Int32)), (0, .ref (g.2.2.1 99)), (1, .int p1)]) hx hb dX0_lay_30 hl (k := 0) rfl rfl (by decide) rfl (fun ls hl => ?_)
  refine lv_goto (tgt := 3) hx hb dX0_lay_33 (by decide) ?_
  refine lv_iload_n hx hb dX0_lay_3 rfl (lv_at hl 0 rfl) ?_
  refine lv_if_lt (tgt := 36) hx hb dX0_lay_4 (by decide) (fun c4 => absurd c4 (by decide)) (fun _ => ?_)
  refine lv_aload_n hx hb dX0_lay_7 rfl (lv_at hl 1 rfl) ?_
  refine L_g1 C h dX0_lay_8 ?_
  refine lv_aload_n hx hb dX0_lay_11 rfl (lv_at hl 1 rfl) ?_
  refine L_g2 C h dX0_lay_12 ?_
  refine lv_iload_n hx hb dX0_lay_15 rfl (lv_at hl 2 rfl) ?_
  refine lv_iload_n hx hb dX0_lay_16 rfl (lv_at hl 0 rfl) ?_
  refine lv_ishr hx hb dX0_lay_17 ?_
  refine lv_i2b (v := (p1 >>> ((0 : Int32) &&& (31 : Int32))).toInt8.toInt32) hx hb dX0_lay_18 rfl ?_
  refine L_s11 C h (ix_of (rfl : (gi (own σ27u6) 2).toInt = (gi (own σ27u6) 2).toInt) (by omega)) dX0_lay_19 (fun σ19u7 H locs eσ19u7 h => ?_)
  have hNEW : (0 ≤ (gi (ttb σ19u7) 1).toInt ∧ (gi (ttb σ19u7) 1).toInt ≤ 6) ∧ (0 ≤ (gi (ttb σ19u7) 3).toInt ∧ (gi (ttb σ19u7) 3).toInt ≤ 16 ∧ (gi (ttb σ19u7) 3).toInt ≤ (g.1.2.1 50 : Int)) ∧ ((gi (ttb σ19u7) 1).toInt = (gi (ttb σ) 1).toInt) ∧ ((gi (ttb σ19u7) 3).toInt = (gi (ttb σ) 3).toInt) := ⟨(by rw [eσ19u7] <;> exact hlp), (by rw [eσ19u7] <;> exact hld), (by rw [eσ19u7] <;> exact hlpq), (by rw [eσ19u7] <;> exact hldq)⟩
  clear hlp hld hlpq hldq
  obtain ⟨hlp, hld, hlpq, hldq⟩ := hNEW
  have qσ19u7 : (gi (own σ19u7) 2).toInt = (gi (own σ27u6) 2).toInt := by rw [eσ19u7]; rfl
  refine lv_aload_n hx hb dX0_lay_20 rfl (lv_at hl 1 rfl) ?_
  refine lv_dup hx hb dX0_lay_21 rfl ?_
  refine L_g2 C h dX0_lay_22 ?_
  refine lv_iconst (v := 1) hx hb dX0_lay_25 (by decide) ?_
  refine lv_iadd hx hb dX0_lay_26 ?_
  refine L_p2 C h dX0_lay_27 (fun σ27u8 H locs eσ27u8 h => ?_)
  have hNEW : (0 ≤ (gi (ttb σ27u8) 1).toInt ∧ (gi (ttb σ27u8) 1).toInt ≤ 6) ∧ (0 ≤ (gi (ttb σ27u8) 3).toInt ∧ (gi (ttb σ27u8) 3).toInt ≤ 16 ∧ (gi (ttb σ27u8) 3).toInt ≤ (g.1.2.1 50 : Int)) ∧ ((gi (ttb σ27u8) 1).toInt = (gi (ttb σ) 1).toInt) ∧ ((gi (ttb σ27u8) 3).toInt = (gi (ttb σ) 3).toInt) := ⟨(by rw [eσ27u8] <;> exact hlp), (by rw [eσ27u8] <;> exact hld), (by rw [eσ27u8] <;> exact hlpq), (by rw [eσ27u8] <;> exact hldq)⟩
  clear hlp hld hlpq hldq
  obtain ⟨hlp, hld, hlpq, hldq⟩ := hNEW
  have qσ27u8 : (gi (own σ27u8) 2).toInt = (gi (own σ19u7) 2).toInt + 1 := by rw [eσ27u8]; exact i_add rfl zl1 (by omega)
  refine lv_iinc (v := (-8 : Int32)) (lv' := [(2, .int (-8 : Int32)), (0, .ref (g.2.2.1 99)), (1, .int p1)]) hx hb dX0_lay_30 hl (k := 0) rfl rfl (by decide) rfl (fun ls hl => ?_)
  refine lv_goto (tgt := 3) hx hb dX0_lay_33 (by decide) ?_
  refine lv_iload_n hx hb dX0_lay_3 rfl (lv_at hl 0 rfl) ?_
  refine lv_if_lt (tgt := 36) hx hb dX0_lay_4 (by decide) (fun _ => ?_) (fun c4 => absurd c4 (by decide))
  have he : f_X0_lay σ p1 = σ27u8 := (by have eσ19u1 := eσ19u1.symm; subst eσ19u1; have eσ27u2 := eσ27u2.symm; subst eσ27u2; have eσ19u3 := eσ19u3.symm; subst eσ19u3; have eσ27u4 := eσ27u4.symm; subst eσ27u4; have eσ19u5 := eσ19u5.symm; subst eσ19u5; have eσ27u6 := eσ27u6.symm; subst eσ27u6; have eσ19u7 := eσ19u7.symm; subst eσ19u7; have eσ27u8 := eσ27u8.symm; subst eσ27u8; exact rfl)
  exact w_retv (wXL g) C h hr hlocks he ⟨hlpq, hldq, (by first | assumption | omega | (unfold Hd; omega))⟩ dX0_lay_36
def f_X0_feed (σ : MS × MS) (p1 : Int32) (p2 : Int32) (p3 : Int32) (p4 : Int32) (p5 : Int32) : (MS × MS) × Int32 := if ((gi (own σ) 2) + (20 : Int32)) ≤ (900 : Int32) then ((let σ17 := (f_X0_lay σ p1); let σ22 := (f_X0_lay σ17 p2); let σ27 := (f_X0_lay σ22 p3); let σ33 := (f_X0_lay σ27 p4); let σ39 := (f_X0_lay σ33 p5); (σ39, (gi (own σ39) 2)))) else ((σ, (-1 : Int32)))
set_option maxHeartbeats 4000000 in
set_option maxRecDepth 100000 in
theorem k_X0_feed (l : Launch) (g : GL) (σ : MS × MS) (p1 : Int32) (p2 : Int32) (p3 : Int32) (p4 : Int32) (p5 : Int32) (hlp : 0 ≤ (gi (ttb σ) 1).toInt ∧ (gi (ttb σ) 1).toInt ≤ 6) (hld : 0 ≤ (gi (ttb σ) 3).toInt ∧ (gi (ttb σ) 3).toInt ≤ 16 ∧ (gi (ttb σ) 3).toInt ≤ (g.1.2.1 50 : Int)) (ht0 : 0 ≤ (gi (own σ) 2).toInt ∧ (gi (own σ) 2).toInt ≤ 900) : Met l yX0_feed (ws_ yX0_feed cX0_feed 6 (some .int)) ({ frames := 1, cells := 0, slots := 0, locals := 22 } : Room) (wPc (dL g) (g.2.2.1 99) σ [.int p1, .int p2, .int p3, .int p4, .int p5]) (wQi (dL g) (f_X0_feed σ p1 p2 p3 p4 p5).1 (f_X0_feed σ p1 p2 p3 p4 p5).2 (fun u r => ((gi (ttb u) 1).toInt = (gi (ttb σ) 1).toInt) ∧ ((gi (ttb u) 3).toInt = (gi (ttb σ) 3).toInt))) 0 0 (dL g).2.2.2.1 := by
  refine met_W RX0 (by decide) rfl (Nat.le_of_ble_eq_true rfl) ?_
  intro p e s m args below meth c C hr hlocks h ls hl
  have hx := C.1.1
  have hb := C.1.2.1
  have hml := C.1.2.2.1
  have hown := C.1.2.2.2.1
  have hts := C.1.2.2.2.2
  have hl : lv_has ls 6 [(0, .ref (g.2.2.1 99)), (1, .int p1), (2, .int p2), (3, .int p3), (4, .int p4), (5, .int p5)] := hl
  have hlpq : (gi (ttb σ) 1).toInt = (gi (ttb σ) 1).toInt := rfl
  have hldq : (gi (ttb σ) 3).toInt = (gi (ttb σ) 3).toInt := rfl
  have zlm1 : (-1 : Int32).toInt = -1 := rfl
  have zl20 : (20 : Int32).toInt = 20 := rfl
  have zl900 : (900 : Int32).toInt = 900 := rfl
  refine lv_aload_n hx hb dX0_feed_0 rfl (lv_at hl 0 rfl) ?_
  refine L_g2 C h dX0_feed_1 ?_
  refine lv_bipush (v := 20) hx hb dX0_feed_4 (by decide) ?_
  refine lv_iadd hx hb dX0_feed_6 ?_
  refine lv_sipush (v := 900) hx hb dX0_feed_7 (by decide) ?_
  have tc10_1 : ((gi (own σ) 2) + (20 : Int32)).toInt = ((gi (own σ) 2).toInt + (20)) := (i_add (rfl : (gi (own σ) 2).toInt = (gi (own σ) 2).toInt) zl20 (by omega))
  refine lv_icmp_le (tgt := 15) hx hb dX0_feed_10 (by decide) (fun c10 => ?_) (fun c10 => ?_)
  · have i10 := c_le c10
    refine lv_aload_n hx hb dX0_feed_15 rfl (lv_at hl 0 rfl) ?_
    refine lv_iload_n hx hb dX0_feed_16 rfl (lv_at hl 1 rfl) ?_
    refine w_callv (ci := 0) (q0 := 6) (As := [.int p1]) (rest := []) 1 (wXL g) C h (k_X0_lay l g σ p1 (by first | assumption | omega) (by first | assumption | omega) (by first | assumption | omega)) (lw_V q572 q574 qs5 q144 q575) rfl rfl rfl rfl (by decide +kernel) ⟨Nat.le_of_ble_eq_true rfl, Nat.le_of_ble_eq_true rfl⟩ rfl hl.1 rfl (Nat.le_of_ble_eq_true rfl) ⟨Nat.le_of_ble_eq_true rfl, Nat.le_of_ble_eq_true rfl⟩ dX0_feed_17 (fun σ17 H locs eσ17 hE17 h => ?_)
    have hE17 : ((gi (ttb σ17) 1).toInt = (gi (ttb σ) 1).toInt) ∧ ((gi (ttb σ17) 3).toInt = (gi (ttb σ) 3).toInt) ∧ ((gi (own σ17) 2).toInt = (gi (own σ) 2).toInt + 4) := hE17
    obtain ⟨hlpq_17, hldq_17, tq_17⟩ := hE17
    have hNEW : (0 ≤ (gi (ttb σ17) 1).toInt ∧ (gi (ttb σ17) 1).toInt ≤ 6) ∧ (0 ≤ (gi (ttb σ17) 3).toInt ∧ (gi (ttb σ17) 3).toInt ≤ 16 ∧ (gi (ttb σ17) 3).toInt ≤ (g.1.2.1 50 : Int)) ∧ ((gi (ttb σ17) 1).toInt = (gi (ttb σ) 1).toInt) ∧ ((gi (ttb σ17) 3).toInt = (gi (ttb σ) 3).toInt) := ⟨(by first | assumption | omega), (by first | assumption | omega), (by first | assumption | omega), (by first | assumption | omega)⟩
    obtain ⟨hlp, hld, hlpq, hldq⟩ := hNEW
    refine lv_aload_n hx hb dX0_feed_20 rfl (lv_at hl 0 rfl) ?_
    refine lv_iload_n hx hb dX0_feed_21 rfl (lv_at hl 2 rfl) ?_
    refine w_callv (ci := 0) (q0 := 6) (As := [.int p2]) (rest := []) 1 (wXL g) C h (k_X0_lay l g σ17 p2 (by first | assumption | omega) (by first | assumption | omega) (by first | assumption | omega)) (lw_V q572 q574 qs5 q144 q575) rfl rfl rfl rfl (by decide +kernel) ⟨Nat.le_of_ble_eq_true rfl, Nat.le_of_ble_eq_true rfl⟩ rfl hl.1 rfl (Nat.le_of_ble_eq_true rfl) ⟨Nat.le_of_ble_eq_true rfl, Nat.le_of_ble_eq_true rfl⟩ dX0_feed_22 (fun σ22 H locs eσ22 hE22 h => ?_)
    have hE22 : ((gi (ttb σ22) 1).toInt = (gi (ttb σ17) 1).toInt) ∧ ((gi (ttb σ22) 3).toInt = (gi (ttb σ17) 3).toInt) ∧ ((gi (own σ22) 2).toInt = (gi (own σ17) 2).toInt + 4) := hE22
    obtain ⟨hlpq_22, hldq_22, tq_22⟩ := hE22
    have hNEW : (0 ≤ (gi (ttb σ22) 1).toInt ∧ (gi (ttb σ22) 1).toInt ≤ 6) ∧ (0 ≤ (gi (ttb σ22) 3).toInt ∧ (gi (ttb σ22) 3).toInt ≤ 16 ∧ (gi (ttb σ22) 3).toInt ≤ (g.1.2.1 50 : Int)) ∧ ((gi (ttb σ22) 1).toInt = (gi (ttb σ) 1).toInt) ∧ ((gi (ttb σ22) 3).toInt = (gi (ttb σ) 3).toInt) := ⟨(by first | assumption | omega), (by first | assumption | omega), (by first | assumption | omega), (by first | assumption | omega)⟩
    clear hlp hld hlpq hldq
    obtain ⟨hlp, hld, hlpq, hldq⟩ := hNEW
    refine lv_aload_n hx hb dX0_feed_25 rfl (lv_at hl 0 rfl) ?_
    refine lv_iload_n hx hb dX0_feed_26 rfl (lv_at hl 3 rfl) ?_
    refine w_callv (ci := 0) (q0 := 6) (As := [.int p3]) (rest := []) 1 (wXL g) C h (k_X0_lay l g σ22 p3 (by first | assumption | omega) (by first | assumption | omega) (by first | assumption | omega)) (lw_V q572 q574 qs5 q144 q575) rfl rfl rfl rfl (by decide +kernel) ⟨Nat.le_of_ble_eq_true rfl, Nat.le_of_ble_eq_true rfl⟩ rfl hl.1 rfl (Nat.le_of_ble_eq_true rfl) ⟨Nat.le_of_ble_eq_true rfl, Nat.le_of_ble_eq_true rfl⟩ dX0_feed_27 (fun σ27 H locs eσ27 hE27 h => ?_)
    have hE27 : ((gi (ttb σ27) 1).toInt = (gi (ttb σ22) 1).toInt) ∧ ((gi (ttb σ27) 3).toInt = (gi (ttb σ22) 3).toInt) ∧ ((gi (own σ27) 2).toInt = (gi (own σ22) 2).toInt + 4) := hE27
    obtain ⟨hlpq_27, hldq_27, tq_27⟩ := hE27
    have hNEW : (0 ≤ (gi (ttb σ27) 1).toInt ∧ (gi (ttb σ27) 1).toInt ≤ 6) ∧ (0 ≤ (gi (ttb σ27) 3).toInt ∧ (gi (ttb σ27) 3).toInt ≤ 16 ∧ (gi (ttb σ27) 3).toInt ≤ (g.1.2.1 50 : Int)) ∧ ((gi (ttb σ27) 1).toInt = (gi (ttb σ) 1).toInt) ∧ ((gi (ttb σ27) 3).toInt = (gi (ttb σ) 3).toInt) := ⟨(by first | assumption | omega), (by first | assumption | omega), (by first | assumption | omega), (by first | assumption | omega)⟩
    clear hlp hld hlpq hldq
    obtain ⟨hlp, hld, hlpq, hldq⟩ := hNEW
    refine lv_aload_n hx hb dX0_feed_30 rfl (lv_at hl 0 rfl) ?_
    refine lv_iload hx hb dX0_feed_31 (lv_at hl 4 rfl) ?_
    refine w_callv (ci := 0) (q0 := 6) (As := [.int p4]) (rest := []) 1 (wXL g) C h (k_X0_lay l g σ27 p4 (by first | assumption | omega) (by first | assumption | omega) (by first | assumption | omega)) (lw_V q572 q574 qs5 q144 q575) rfl rfl rfl rfl (by decide +kernel) ⟨Nat.le_of_ble_eq_true rfl, Nat.le_of_ble_eq_true rfl⟩ rfl hl.1 rfl (Nat.le_of_ble_eq_true rfl) ⟨Nat.le_of_ble_eq_true rfl, Nat.le_of_ble_eq_true rfl⟩ dX0_feed_33 (fun σ33 H locs eσ33 hE33 h => ?_)
    have hE33 : ((gi (ttb σ33) 1).toInt = (gi (ttb σ27) 1).toInt) ∧ ((gi (ttb σ33) 3).toInt = (gi (ttb σ27) 3).toInt) ∧ ((gi (own σ33) 2).toInt = (gi (own σ27) 2).toInt + 4) := hE33
    obtain ⟨hlpq_33, hldq_33, tq_33⟩ := hE33
    have hNEW : (0 ≤ (gi (ttb σ33) 1).toInt ∧ (gi (ttb σ33) 1).toInt ≤ 6) ∧ (0 ≤ (gi (ttb σ33) 3).toInt ∧ (gi (ttb σ33) 3).toInt ≤ 16 ∧ (gi (ttb σ33) 3).toInt ≤ (g.1.2.1 50 : Int)) ∧ ((gi (ttb σ33) 1).toInt = (gi (ttb σ) 1).toInt) ∧ ((gi (ttb σ33) 3).toInt = (gi (ttb σ) 3).toInt) := ⟨(by first | assumption | omega), (by first | assumption | omega), (by first | assumption | omega), (by first | assumption | omega)⟩
    clear hlp hld hlpq hldq
    obtain ⟨hlp, hld, hlpq, hldq⟩ := hNEW
    refine lv_aload_n hx hb dX0_feed_36 rfl (lv_at hl 0 rfl) ?_
    refine lv_iload hx hb dX0_feed_37 (lv_at hl 5 rfl) ?_
    refine w_callv (ci := 0) (q0 := 6) (As := [.int p5]) (rest := []) 1 (wXL g) C h (k_X0_lay l g σ33 p5 (by first | assumption | omega) (by first | assumption | omega) (by first | assumption | omega)) (lw_V q572 q574 qs5 q144 q575) rfl rfl rfl rfl (by decide +kernel) ⟨Nat.le_of_ble_eq_true rfl, Nat.le_of_ble_eq_true rfl⟩ rfl hl.1 rfl (Nat.le_of_ble_eq_true rfl) ⟨Nat.le_of_ble_eq_true rfl, Nat.le_of_ble_eq_true rfl⟩ dX0_feed_39 (fun σ39 H locs eσ39 hE39 h => ?_)
    have hE39 : ((gi (ttb σ39) 1).toInt = (gi (ttb σ33) 1).toInt) ∧ ((gi (ttb σ39) 3).toInt = (gi (ttb σ33) 3).toInt) ∧ ((gi (own σ39) 2).toInt = (gi (own σ33) 2).toInt + 4) := hE39
    obtain ⟨hlpq_39, hldq_39, tq_39⟩ := hE39
    have hNEW : (0 ≤ (gi (ttb σ39) 1).toInt ∧ (gi (ttb σ39) 1).toInt ≤ 6) ∧ (0 ≤ (gi (ttb σ39) 3).toInt ∧ (gi (ttb σ39) 3).toInt ≤ 16 ∧ (gi (ttb σ39) 3).toInt ≤ (g.1.2.1 50 : Int)) ∧ ((gi (ttb σ39) 1).toInt = (gi (ttb σ) 1).toInt) ∧ ((gi (ttb σ39) 3).toInt = (gi (ttb σ) 3).toInt) := ⟨(by first | assumption | omega), (by first | assumption | omega), (by first | assumption | omega), (by first | assumption | omega)⟩
    clear hlp hld hlpq hldq
    obtain ⟨hlp, hld, hlpq, hldq⟩ := hNEW
    refine lv_aload_n hx hb dX0_feed_42 rfl (lv_at hl 0 rfl) ?_
    refine L_g2 C h dX0_feed_43 ?_
    have he : f_X0_feed σ p1 p2 p3 p4 p5 = (σ39, (gi (own σ39) 2)) := (by have eσ17 := eσ17.symm; subst eσ17; have eσ22 := eσ22.symm; subst eσ22; have eσ27 := eσ27.symm; subst eσ27; have eσ33 := eσ33.symm; subst eσ33; have eσ39 := eσ39.symm; subst eσ39; exact ((if_pos c10).trans rfl))
    exact w_reti (wXL g) C h hr hlocks (congrArg Prod.fst he) (congrArg Prod.snd he) ⟨hlpq, hldq⟩ dX0_feed_46
  · have i10 := c_nle c10
    refine lv_iconst (v := -1) hx hb dX0_feed_13 (by decide) ?_
    have he : f_X0_feed σ p1 p2 p3 p4 p5 = (σ, (-1 : Int32)) := (by exact ((if_neg c10).trans rfl))
    exact w_reti (wXL g) C h hr hlocks (congrArg Prod.fst he) (congrArg Prod.snd he) ⟨hlpq, hldq⟩ dX0_feed_14
def f_X0_opens (σ : MS × MS) (p1 : Int32) (p2 : Int32) : (MS × MS) × Int32 := (let z23_ : Int32 := (if p1 < (0 : Int32) then ((1 : Int32)) else (if (gi (own σ) 2) < p1 then ((1 : Int32)) else (if p1 ≤ p2 then ((0 : Int32)) else ((1 : Int32))))); let t0_23 := z23_; (let σ23 := lsi σ 7 t0_23; if (gi (own σ23) 7) ≤ (0 : Int32) then ((let σ37 := lsi σ23 2 (0 : Int32); let σ42 := lsi σ37 3 (0 : Int32); let σ47 := lsi σ42 4 (-1 : Int32); (σ47, (1 : Int32)))) else ((σ23, (0 : Int32)))))
set_option maxHeartbeats 4000000 in
set_option maxRecDepth 100000 in
theorem k_X0_opens (l : Launch) (g : GL) (σ : MS × MS) (p1 : Int32) (p2 : Int32) (hlp : 0 ≤ (gi (ttb σ) 1).toInt ∧ (gi (ttb σ) 1).toInt ≤ 6) (hld : 0 ≤ (gi (ttb σ) 3).toInt ∧ (gi (ttb σ) 3).toInt ≤ 16 ∧ (gi (ttb σ) 3).toInt ≤ (g.1.2.1 50 : Int)) : Met l yX0_opens (ws_ yX0_opens cX0_opens 3 (some .boolean)) ({ frames := 0, cells := 0, slots := 0, locals := 0 } : Room) (wPc (dL g) (g.2.2.1 99) σ [.int p1, .int p2]) (wQz (dL g) (f_X0_opens σ p1 p2).1 (f_X0_opens σ p1 p2).2 (fun u r => ((gi (ttb u) 1).toInt = (gi (ttb σ) 1).toInt) ∧ ((gi (ttb u) 3).toInt = (gi (ttb σ) 3).toInt) ∧ (Hd (¬ r.toInt = 0 → (0 ≤ p1.toInt ∧ p1.toInt ≤ (gi (own σ) 2).toInt ∧ p1.toInt ≤ p2.toInt))))) 0 0 (dL g).2.2.2.1 := by
  refine met_W RX0 (by decide) rfl (Nat.le_of_ble_eq_true rfl) ?_
  intro p e s m args below meth c C hr hlocks h ls hl
  have hx := C.1.1
  have hb := C.1.2.1
  have hml := C.1.2.2.1
  have hown := C.1.2.2.2.1
  have hts := C.1.2.2.2.2
  have hl : lv_has ls 3 [(0, .ref (g.2.2.1 99)), (1, .int p1), (2, .int p2)] := hl
  have hlpq : (gi (ttb σ) 1).toInt = (gi (ttb σ) 1).toInt := rfl
  have hldq : (gi (ttb σ) 3).toInt = (gi (ttb σ) 3).toInt := rfl
  have zlm1 : (-1 : Int32).toInt = -1 := rfl
  have zl0 : (0 : Int32).toInt = 0 := rfl
  have zl1 : (1 : Int32).toInt = 1 := rfl
  refine lv_aload_n hx hb dX0_opens_0 rfl (lv_at hl 0 rfl) ?_
  refine lv_iload_n hx hb dX0_opens_1 rfl (lv_at hl 1 rfl) ?_
  have j23 : ∀ (t0_23 : Int32) (H : Heap) (locs : List Loc) (ls : Array Slot) (ej23 : (if p1 < (0 : Int32) then ((1 : Int32)) else (if (gi (own σ) 2) < p1 then ((1 : Int32)) else (if p1 ≤ p2 then ((0 : Int32)) else ((1 : Int32))))) = t0_23) (bt0_23 : t0_23 = 0 ∨ t0_23 = 1) (hI23 : (0 < t0_23.toInt) ∨ (0 ≤ p1.toInt ∧ p1.toInt ≤ (gi (own σ) 2).toInt ∧ p1.toInt ≤ p2.toInt)) (h : wH (dL g) σ s H locs) (hl : lv_has ls 3 [(0, .ref (g.2.2.1 99))]), W p l e ({ frames := 0, cells := 0, slots := 0, locals := 0 } : Room) s m args below meth c H locs 0 0 (MQ below (wQz (dL g) (f_X0_opens σ p1 p2).1 (f_X0_opens σ p1 p2).2 (fun u r => ((gi (ttb u) 1).toInt = (gi (ttb σ) 1).toInt) ∧ ((gi (ttb u) 3).toInt = (gi (ttb σ) 3).toInt) ∧ (Hd (¬ r.toInt = 0 → (0 ≤ p1.toInt ∧ p1.toInt ≤ (gi (own σ) 2).toInt ∧ p1.toInt ≤ p2.toInt))))) args s 0 0 (dL g).2.2.2.1) (F0 m 23 ls [.int t0_23, .ref (g.2.2.1 99)]) := by
    intro t0_23 H locs ls ej23 bt0_23 hI23 h hl
    have et0_23 := ej23.symm
    refine L_p7 C h dX0_opens_23 (fun σ23 H locs eσ23 h => ?_)
    have hNEW : (0 ≤ (gi (ttb σ23) 1).toInt ∧ (gi (ttb σ23) 1).toInt ≤ 6) ∧ (0 ≤ (gi (ttb σ23) 3).toInt ∧ (gi (ttb σ23) 3).toInt ≤ 16 ∧ (gi (ttb σ23) 3).toInt ≤ (g.1.2.1 50 : Int)) ∧ ((gi (ttb σ23) 1).toInt = (gi (ttb σ) 1).toInt) ∧ ((gi (ttb σ23) 3).toInt = (gi (ttb σ) 3).toInt) := ⟨(by rw [eσ23] <;> exact hlp), (by rw [eσ23] <;> exact hld), (by rw [eσ23] <;> exact hlpq), (by rw [eσ23] <;> exact hldq)⟩
    obtain ⟨hlp, hld, hlpq, hldq⟩ := hNEW
    have q7_23 : (gi (own σ23) 7).toInt = t0_23.toInt := by rw [eσ23]; rfl
    refine lv_aload_n hx hb dX0_opens_26 rfl (lv_at hl 0 rfl) ?_
    refine L_g7 C h dX0_opens_27 ?_
    refine lv_if_le (tgt := 35) hx hb dX0_opens_30 (by decide) (fun c30 => ?_) (fun c30 => ?_)
    · have i30 := c_le c30
      refine lv_aload_n hx hb dX0_opens_35 rfl (lv_at hl 0 rfl) ?_
      refine lv_iconst (v := 0) hx hb dX0_opens_36 (by decide) ?_
      refine L_p2 C h dX0_opens_37 (fun σ37 H locs eσ37 h => ?_)
      have hNEW : (0 ≤ (gi (ttb σ37) 1).toInt ∧ (gi (ttb σ37) 1).toInt ≤ 6) ∧ (0 ≤ (gi (ttb σ37) 3).toInt ∧ (gi (ttb σ37) 3).toInt ≤ 16 ∧ (gi (ttb σ37) 3).toInt ≤ (g.1.2.1 50 : Int)) ∧ ((gi (ttb σ37) 1).toInt = (gi (ttb σ) 1).toInt) ∧ ((gi (ttb σ37) 3).toInt = (gi (ttb σ) 3).toInt) := ⟨(by rw [eσ37] <;> exact hlp), (by rw [eσ37] <;> exact hld), (by rw [eσ37] <;> exact hlpq), (by rw [eσ37] <;> exact hldq)⟩
      clear hlp hld hlpq hldq
      obtain ⟨hlp, hld, hlpq, hldq⟩ := hNEW
      refine lv_aload_n hx hb dX0_opens_40 rfl (lv_at hl 0 rfl) ?_
      refine lv_iconst (v := 0) hx hb dX0_opens_41 (by decide) ?_
      refine L_p3 C h dX0_opens_42 (fun σ42 H locs eσ42 h => ?_)
      have hNEW : (0 ≤ (gi (ttb σ42) 1).toInt ∧ (gi (ttb σ42) 1).toInt ≤ 6) ∧ (0 ≤ (gi (ttb σ42) 3).toInt ∧ (gi (ttb σ42) 3).toInt ≤ 16 ∧ (gi (ttb σ42) 3).toInt ≤ (g.1.2.1 50 : Int)) ∧ ((gi (ttb σ42) 1).toInt = (gi (ttb σ) 1).toInt) ∧ ((gi (ttb σ42) 3).toInt = (gi (ttb σ) 3).toInt) := ⟨(by rw [eσ42] <;> exact hlp), (by rw [eσ42] <;> exact hld), (by rw [eσ42] <;> exact hlpq), (by rw [eσ42] <;> exact hldq)⟩
      clear hlp hld hlpq hldq
      obtain ⟨hlp, hld, hlpq, hldq⟩ := hNEW
      refine lv_aload_n hx hb dX0_opens_45 rfl (lv_at hl 0 rfl) ?_
      refine lv_iconst (v := -1) hx hb dX0_opens_46 (by decide) ?_
      refine L_p4 C h dX0_opens_47 (fun σ47 H locs eσ47 h => ?_)
      have hNEW : (0 ≤ (gi (ttb σ47) 1).toInt ∧ (gi (ttb σ47) 1).toInt ≤ 6) ∧ (0 ≤ (gi (ttb σ47) 3).toInt ∧ (gi (ttb σ47) 3).toInt ≤ 16 ∧ (gi (ttb σ47) 3).toInt ≤ (g.1.2.1 50 : Int)) ∧ ((gi (ttb σ47) 1).toInt = (gi (ttb σ) 1).toInt) ∧ ((gi (ttb σ47) 3).toInt = (gi (ttb σ) 3).toInt) := ⟨(by rw [eσ47] <;> exact hlp), (by rw [eσ47] <;> exact hld), (by rw [eσ47] <;> exact hlpq), (by rw [eσ47] <;> exact hldq)⟩
      clear hlp hld hlpq hldq
      obtain ⟨hlp, hld, hlpq, hldq⟩ := hNEW
      refine lv_iconst (v := 1) hx hb dX0_opens_50 (by decide) ?_
      have he : f_X0_opens σ p1 p2 = (σ47, (1 : Int32)) := (by have et0_23 := et0_23.symm; subst et0_23; have eσ23 := eσ23.symm; subst eσ23; have eσ37 := eσ37.symm; subst eσ37; have eσ42 := eσ42.symm; subst eσ42; have eσ47 := eσ47.symm; subst eσ47; exact ((if_pos c30).trans rfl))
      exact w_retz (wXL g) C h hr hlocks (congrArg Prod.fst he) (congrArg Prod.snd he) (Or.inr rfl) ⟨hlpq, hldq, (by first | exact (fun q => absurd zl0 q) | exact (fun _ => by omega))⟩ dX0_opens_51
    · have i30 := c_nle c30
      refine lv_iconst (v := 0) hx hb dX0_opens_33 (by decide) ?_
      have he : f_X0_opens σ p1 p2 = (σ23, (0 : Int32)) := (by have et0_23 := et0_23.symm; subst et0_23; have eσ23 := eσ23.symm; subst eσ23; exact ((if_neg c30).trans rfl))
      exact w_retz (wXL g) C h hr hlocks (congrArg Prod.fst he) (congrArg Prod.snd he) (Or.inl rfl) ⟨hlpq, hldq, (by first | exact (fun q => absurd zl0 q) | exact (fun _ => by omega))⟩ dX0_opens_34
  refine lv_if_lt (tgt := 18) hx hb dX0_opens_2 (by decide) (fun c2 => ?_) (fun c2 => ?_)
  · have i2 := c_lt c2
    refine lv_iconst (v := 1) hx hb dX0_opens_18 (by decide) ?_
    refine lv_goto (tgt := 23) hx hb dX0_opens_19 (by decide) ?_
    exact j23 _ _ _ _ (by exact ((if_pos c2).trans rfl)) (Or.inr rfl) (by first | assumption | omega) h (lv_sub hl [0] rfl)
  · have i2 := c_nlt c2
    refine lv_iload_n hx hb dX0_opens_5 rfl (lv_at hl 1 rfl) ?_
    refine lv_aload_n hx hb dX0_opens_6 rfl (lv_at hl 0 rfl) ?_
    refine L_g2 C h dX0_opens_7 ?_
    refine lv_icmp_gt (tgt := 18) hx hb dX0_opens_10 (by decide) (fun c10 => ?_) (fun c10 => ?_)
    · have i10 := c_lt c10
      refine lv_iconst (v := 1) hx hb dX0_opens_18 (by decide) ?_
      refine lv_goto (tgt := 23) hx hb dX0_opens_19 (by decide) ?_
      exact j23 _ _ _ _ (by exact ((if_neg c2).trans ((if_pos c10).trans rfl))) (Or.inr rfl) (by first | assumption | omega) h (lv_sub hl [0] rfl)
    · have i10 := c_nlt c10
      refine lv_iload_n hx hb dX0_opens_13 rfl (lv_at hl 1 rfl) ?_
      refine lv_iload_n hx hb dX0_opens_14 rfl (lv_at hl 2 rfl) ?_
      refine lv_icmp_le (tgt := 22) hx hb dX0_opens_15 (by decide) (fun c15 => ?_) (fun c15 => ?_)
      · have i15 := c_le c15
        refine lv_iconst (v := 0) hx hb dX0_opens_22 (by decide) ?_
        exact j23 _ _ _ _ (by exact ((if_neg c2).trans ((if_neg c10).trans ((if_pos c15).trans rfl)))) (Or.inl rfl) (by first | assumption | omega) h (lv_sub hl [0] rfl)
      · have i15 := c_nle c15
        refine lv_iconst (v := 1) hx hb dX0_opens_18 (by decide) ?_
        refine lv_goto (tgt := 23) hx hb dX0_opens_19 (by decide) ?_
        exact j23 _ _ _ _ (by exact ((if_neg c2).trans ((if_neg c10).trans ((if_neg c15).trans rfl)))) (Or.inr rfl) (by first | assumption | omega) h (lv_sub hl [0] rfl)
