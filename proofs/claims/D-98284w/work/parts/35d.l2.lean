/-! walks of methods by contract, printed by gen/mkwalk.py -/
set_option maxRecDepth 100000
def f_X0_balances_L2 : Nat → Int32 → (MS × MS) → Int32 × (MS × MS)
  | 0, x1_2, σL2 => (x1_2, σL2)
  | n + 1, x1_2, σL2 => if (gi (ttb σL2) 1) ≤ x1_2 then ((x1_2, σL2)) else ((let r23 := (f_X5_balance (ttb σL2) x1_2); let σ26 := lsa σL2 17 x1_2 r23; f_X0_balances_L2 n (x1_2 + (1 : Int32)) σ26))
def f_X0_balances (σ : MS × MS) : MS × MS := (let zL2 := f_X0_balances_L2 (7) (0 : Int32) σ; let x1_2e := zL2.1; let σL2e := zL2.2; σL2e)
set_option maxHeartbeats 4000000 in
set_option maxRecDepth 100000 in
theorem k_X0_balances (l : Launch) (g : GL) (σ : MS × MS) (hlp : 0 ≤ (gi (ttb σ) 1).toInt ∧ (gi (ttb σ) 1).toInt ≤ 6) (hld : 0 ≤ (gi (ttb σ) 3).toInt ∧ (gi (ttb σ) 3).toInt ≤ 16 ∧ (gi (ttb σ) 3).toInt ≤ (g.1.2.1 50 : Int)) : Met l yX0_balances (ws_ yX0_balances cX0_balances 2 none) ({ frames := 2, cells := 0, slots := 0, locals := 45 } : Room) (wPc (dL g) (g.2.2.1 99) σ []) (wQv (dL g) (f_X0_balances σ) (fun u => ((gi (ttb u) 1).toInt = (gi (ttb σ) 1).toInt) ∧ ((gi (ttb u) 3).toInt = (gi (ttb σ) 3).toInt) ∧ (Fr [7, 13, 14, 15, 20] [16, 17, 18] (fun _ => False) (fun _ => False) (own σ) (own u)) ∧ ((ttb u) = (ttb σ)))) 0 0 (dL g).2.2.2.1 := by
  refine met_W RX0 (by decide) rfl (Nat.le_of_ble_eq_true rfl) ?_
  intro p e s m args below meth c C hr hlocks h ls hl
  have hx := C.1.1
  have hb := C.1.2.1
  have hml := C.1.2.2.1
  have hown := C.1.2.2.2.1
  have hts := C.1.2.2.2.2
  have hl : lv_has ls 2 [(0, .ref (g.2.2.1 99))] := hl
  have hlpq : (gi (ttb σ) 1).toInt = (gi (ttb σ) 1).toInt := rfl
  have hldq : (gi (ttb σ) 3).toInt = (gi (ttb σ) 3).toInt := rfl
  have hBF : Fr [7, 13, 14, 15, 20] [16, 17, 18] (fun _ => False) (fun _ => False) (own σ) (own σ) := Fr.rf
  have hB2 : (ttb σ) = (ttb σ) := rfl
  have zl0 : (0 : Int32).toInt = 0 := rfl
  have zl1 : (1 : Int32).toInt = 1 := rfl
  refine lv_iconst (v := 0) hx hb dX0_balances_0 (by decide) ?_
  refine lv_istore_n (lv' := [(1, .int (0 : Int32)), (0, .ref (g.2.2.1 99))]) hx hb dX0_balances_1 rfl hl (by decide) rfl (fun ls hl => ?_)
  have hL2 : ∀ (n : Nat) (x1_2 : Int32) (σL2 : (MS × MS)) (H : Heap) (locs : List Loc) (ls : Array Slot), (0 ≤ (gi (ttb σL2) 1).toInt ∧ (gi (ttb σL2) 1).toInt ≤ 6) → (0 ≤ (gi (ttb σL2) 3).toInt ∧ (gi (ttb σL2) 3).toInt ≤ 16 ∧ (gi (ttb σL2) 3).toInt ≤ (g.1.2.1 50 : Int)) → ((gi (ttb σL2) 1).toInt = (gi (ttb σ) 1).toInt) → ((gi (ttb σL2) 3).toInt = (gi (ttb σ) 3).toInt) → (Fr [7, 13, 14, 15, 20] [16, 17, 18] (fun _ => False) (fun _ => False) (own σ) (own σL2)) → ((ttb σL2) = (ttb σ)) → (0 ≤ x1_2.toInt ∧ x1_2.toInt ≤ (gi (ttb σL2) 1).toInt) → ((gi (ttb σL2) 1).toInt - x1_2.toInt).toNat < n → wH (dL g) σL2 s H locs → lv_has ls 2 [(0, .ref (g.2.2.1 99)), (1, .int x1_2)] → (∀ (x1_2' : Int32) (σL2' : (MS × MS)) (H : Heap) (locs : List Loc) (ls : Array Slot), f_X0_balances_L2 n x1_2 σL2 = (x1_2', σL2') → (0 ≤ (gi (ttb σL2') 1).toInt ∧ (gi (ttb σL2') 1).toInt ≤ 6) → (0 ≤ (gi (ttb σL2') 3).toInt ∧ (gi (ttb σL2') 3).toInt ≤ 16 ∧ (gi (ttb σL2') 3).toInt ≤ (g.1.2.1 50 : Int)) → ((gi (ttb σL2') 1).toInt = (gi (ttb σ) 1).toInt) → ((gi (ttb σL2') 3).toInt = (gi (ttb σ) 3).toInt) → (Fr [7, 13, 14, 15, 20] [16, 17, 18] (fun _ => False) (fun _ => False) (own σ) (own σL2')) → ((ttb σL2') = (ttb σ)) → (0 ≤ x1_2'.toInt ∧ x1_2'.toInt ≤ (gi (ttb σL2') 1).toInt) → wH (dL g) σL2' s H locs → lv_has ls 2 [] → W p l e ({ frames := 2, cells := 0, slots := 0, locals := 45 } : Room) s m args below meth c H locs 0 0 (MQ below (wQv (dL g) (f_X0_balances σ) (fun u => ((gi (ttb u) 1).toInt = (gi (ttb σ) 1).toInt) ∧ ((gi (ttb u) 3).toInt = (gi (ttb σ) 3).toInt) ∧ (Fr [7, 13, 14, 15, 20] [16, 17, 18] (fun _ => False) (fun _ => False) (own σ) (own u)) ∧ ((ttb u) = (ttb σ)))) args s 0 0 (dL g).2.2.2.1) (F0 m 33 ls [])) → W p l e ({ frames := 2, cells := 0, slots := 0, locals := 45 } : Room) s m args below meth c H locs 0 0 (MQ below (wQv (dL g) (f_X0_balances σ) (fun u => ((gi (ttb u) 1).toInt = (gi (ttb σ) 1).toInt) ∧ ((gi (ttb u) 3).toInt = (gi (ttb σ) 3).toInt) ∧ (Fr [7, 13, 14, 15, 20] [16, 17, 18] (fun _ => False) (fun _ => False) (own σ) (own u)) ∧ ((ttb u) = (ttb σ)))) args s 0 0 (dL g).2.2.2.1) (F0 m 2 ls []) := by
    intro n
    induction n with
    | zero =>
      intro x1_2 σL2 H locs ls hlp hld hlpq hldq hBF hB2 _ hm; exact absurd hm (Nat.not_lt_zero _)
    | succ n ih =>
      intro x1_2 σL2 H locs ls hlp hld hlpq hldq hBF hB2 hI2 hm h hl kk
      refine lv_iload_n hx hb dX0_balances_2 rfl (lv_at hl 1 rfl) ?_
      refine lv_aload_n hx hb dX0_balances_3 rfl (lv_at hl 0 rfl) ?_
      refine L_at (rest := [.int x1_2]) C h ⟨Nat.le_of_ble_eq_true rfl, Nat.le_of_ble_eq_true rfl⟩ hl.1 (Nat.le_of_ble_eq_true rfl) ⟨Nat.le_of_ble_eq_true rfl, Nat.le_of_ble_eq_true rfl⟩ dX0_balances_4 (fun H locs h => ?_)
      refine L_t1 C h dX0_balances_7 ?_
      refine lv_icmp_ge (tgt := 33) hx hb dX0_balances_10 (by decide) (fun c10 => ?_) (fun c10 => ?_)
      · have i10 := c_le c10
        exact kk x1_2 σL2 _ _ _ (show f_X0_balances_L2 (n + 1) x1_2 σL2 = (x1_2, σL2) from (by exact ((if_pos c10).trans rfl))) hlp hld hlpq hldq hBF hB2 (by first | assumption | omega) h (lv_sub hl [] rfl)
      · have i10 := c_nle c10
        refine lv_aload_n hx hb dX0_balances_13 rfl (lv_at hl 0 rfl) ?_
        refine L_g17 C h dX0_balances_14 ?_
        refine lv_iload_n hx hb dX0_balances_17 rfl (lv_at hl 1 rfl) ?_
        refine lv_aload_n hx hb dX0_balances_18 rfl (lv_at hl 0 rfl) ?_
        refine L_at (rest := [.int x1_2, .ref (g.2.2.1 17)]) C h ⟨Nat.le_of_ble_eq_true rfl, Nat.le_of_ble_eq_true rfl⟩ hl.1 (Nat.le_of_ble_eq_true rfl) ⟨Nat.le_of_ble_eq_true rfl, Nat.le_of_ble_eq_true rfl⟩ dX0_balances_19 (fun H locs h => ?_)
        refine lv_iload_n hx hb dX0_balances_22 rfl (lv_at hl 1 rfl) ?_
        refine L_tcalli (As := [.int x1_2]) (rest := [.int x1_2, .ref (g.2.2.1 17)]) 1 C h (k_X5_balance l g.1 (ttb σL2) x1_2 (by first | assumption | omega) (by first | assumption | omega)) (lw_V q1234 q1163 q1164 q151 q1165) rfl rfl (by decide +kernel) ⟨Nat.le_of_ble_eq_true rfl, Nat.le_of_ble_eq_true rfl⟩ rfl hl.1 rfl (Nat.le_of_ble_eq_true rfl) ⟨Nat.le_of_ble_eq_true rfl, Nat.le_of_ble_eq_true rfl⟩ dX0_balances_23 (fun r23 σ23 H locs eσ23 er23 hE23 h => ?_)
        have h : wH (dL g) σL2 s H locs := by rw [eσ23] at h; exact h
        clear hE23
        clear eσ23
        refine L_s117 C h (ix_of (rfl : x1_2.toInt = x1_2.toInt) (by omega)) dX0_balances_26 (fun σ26 H locs eσ26 h => ?_)
        have hNEW : (0 ≤ (gi (ttb σ26) 1).toInt ∧ (gi (ttb σ26) 1).toInt ≤ 6) ∧ (0 ≤ (gi (ttb σ26) 3).toInt ∧ (gi (ttb σ26) 3).toInt ≤ 16 ∧ (gi (ttb σ26) 3).toInt ≤ (g.1.2.1 50 : Int)) ∧ ((gi (ttb σ26) 1).toInt = (gi (ttb σ) 1).toInt) ∧ ((gi (ttb σ26) 3).toInt = (gi (ttb σ) 3).toInt) ∧ (Fr [7, 13, 14, 15, 20] [16, 17, 18] (fun _ => False) (fun _ => False) (own σ) (own σ26)) ∧ ((ttb σ26) = (ttb σ)) := ⟨(by rw [eσ26] <;> exact hlp), (by rw [eσ26] <;> exact hld), (by rw [eσ26] <;> exact hlpq), (by rw [eσ26] <;> exact hldq), (by rw [eσ26]; exact (Fr_xa (by decide) (by decide) hBF)), (by rw [eσ26] <;> exact hB2)⟩
        obtain ⟨hlp, hld, hlpq, hldq, hBF, hB2⟩ := hNEW
        refine lv_iinc (v := (x1_2 + (1 : Int32))) (lv' := [(1, .int (x1_2 + (1 : Int32))), (0, .ref (g.2.2.1 99))]) hx hb dX0_balances_27 hl (k := 1) rfl rfl (by decide) rfl (fun ls hl => ?_)
        refine lv_goto (tgt := 2) hx hb dX0_balances_30 (by decide) ?_
        have tt1 : (x1_2 + (1 : Int32)).toInt = (x1_2.toInt + (1)) := (i_add (rfl : x1_2.toInt = x1_2.toInt) zl1 (by omega))
        exact ih (x1_2 + (1 : Int32)) σ26 _ _ _ hlp hld hlpq hldq hBF hB2 (by first | assumption | omega) (by omega) h (lv_sub hl [1, 0] rfl) (fun x1_2' σL2' H locs ls en hlp hld hlpq hldq hBF hB2 hI h hl => kk x1_2' σL2' H locs ls ((show f_X0_balances_L2 (n + 1) x1_2 σL2 = f_X0_balances_L2 n (x1_2 + (1 : Int32)) σ26 from (by have er23 := er23.symm; subst er23; have eσ26 := eσ26.symm; subst eσ26; exact ((if_neg c10).trans rfl))).trans en) hlp hld hlpq hldq hBF hB2 hI h hl)
  refine hL2 (7) (0 : Int32) σ _ _ _ hlp hld hlpq hldq hBF hB2 (by first | assumption | omega) (by omega) h (lv_sub hl [1, 0] rfl) (fun x1_2e σL2e H locs ls eL2 hlp hld hlpq hldq hBF hB2 hI2 h hl => ?_)
  have ex1_2e : x1_2e = (f_X0_balances_L2 (7) (0 : Int32) σ).1 := by rw [eL2]
  have eσL2e : σL2e = (f_X0_balances_L2 (7) (0 : Int32) σ).2 := by rw [eL2]
  have he : f_X0_balances σ = σL2e := (by have ex1_2e := ex1_2e.symm; subst ex1_2e; have eσL2e := eσL2e.symm; subst eσL2e; exact rfl)
  exact w_retv (wXL g) C h hr hlocks he ⟨hlpq, hldq, hBF, hB2⟩ dX0_balances_33
def f_X0_settle_L13 (σ : MS × MS) : Nat → Int32 → Int32 → Int32 × Int32
  | 0, x1_13, x2_13 => (x1_13, x2_13)
  | n + 1, x1_13, x2_13 => if (gi (ttb σ) 1) ≤ x2_13 then ((x1_13, x2_13)) else ((let z41_ : Int32 := (if (ga (own σ) 17 x2_13) = (0 : Int32) then ((0 : Int32)) else (((1 : Int32) <<< (x2_13 &&& (31 : Int32))))); let t0_41 := z41_; (let v42 := (x1_13 ||| t0_41); f_X0_settle_L13 σ n v42 (x2_13 + (1 : Int32)))))
def f_X0_settle_L68 (y1_68 : Int32) (y2_68 : Int32) : Nat → Int32 → Int32 → (MS × MS) → Int32 × Int32 × (MS × MS)
  | 0, x3_68, x4_68, σL68 => (x3_68, x4_68, σL68)
  | n + 1, x3_68, x4_68, σL68 => if (gi (ttb σL68) 1) ≤ x4_68 then ((x3_68, x4_68, σL68)) else ((let r83 := (f_X0_has y2_68 x4_68); if r83 = (0 : Int32) then (f_X0_settle_L68 y1_68 y2_68 n x3_68 (x4_68 + (1 : Int32)) σL68) else ((let v101 := (x3_68 + (ga (own σL68) 17 x4_68)); let σ129 := lsa σL68 16 y2_68 (jmax (ga (own σL68) 16 y2_68) (ga (own σL68) 16 (y2_68 &&& (((1 : Int32) <<< (x4_68 &&& (31 : Int32))) ^^^ (-1 : Int32))))); f_X0_settle_L68 y1_68 y2_68 n v101 (x4_68 + (1 : Int32)) σ129))))
def f_X0_settle_L51 (y1_51 : Int32) : Nat → Int32 → (MS × MS) → Int32 × (MS × MS)
  | 0, x2_51, σL51 => (x2_51, σL51)
  | n + 1, x2_51, σL51 => if y1_51 < x2_51 then ((x2_51, σL51)) else ((let σ64 := lsa σL51 16 x2_51 (0 : Int32); (let zL68 := f_X0_settle_L68 y1_51 x2_51 (7) (0 : Int32) (0 : Int32) σ64; let x3_68e := zL68.1; let x4_68e := zL68.2.1; let σL68e := zL68.2.2; if x3_68e = (0 : Int32) then ((let σ149 := lsa σL68e 16 x2_51 ((ga (own σL68e) 16 x2_51) + (1 : Int32)); f_X0_settle_L51 y1_51 n (x2_51 + (1 : Int32)) σ149)) else (f_X0_settle_L51 y1_51 n (x2_51 + (1 : Int32)) σL68e))))
def f_X0_settle (σ : MS × MS) : (MS × MS) × Int32 := (let σ2 := lsi σ 7 (0 : Int32); let σ6 := (f_X0_balances σ2); (let zL13 := f_X0_settle_L13 σ6 (7) (0 : Int32) (0 : Int32); let x1_13e := zL13.1; let x2_13e := zL13.2; (let zL51 := f_X0_settle_L51 x1_13e (64) (1 : Int32) σ6; let x2_51e := zL51.1; let σL51e := zL51.2; (let r157 := (f_J11_bitCount x1_13e); if x1_13e = (0 : Int32) then ((σL51e, (r157 - (0 : Int32)))) else ((σL51e, (r157 - (ga (own σL51e) 16 x1_13e))))))))
set_option maxHeartbeats 4000000 in
set_option maxRecDepth 100000 in
theorem k_X0_settle (l : Launch) (g : GL) (σ : MS × MS) (hlp : 0 ≤ (gi (ttb σ) 1).toInt ∧ (gi (ttb σ) 1).toInt ≤ 6) (hld : 0 ≤ (gi (ttb σ) 3).toInt ∧ (gi (ttb σ) 3).toInt ≤ 16 ∧ (gi (ttb σ) 3).toInt ≤ (g.1.2.1 50 : Int)) : Met l yX0_settle (ws_ yX0_settle cX0_settle 5 (some .int)) ({ frames := 3, cells := 0, slots := 0, locals := 66 } : Room) (wPc (dL g) (g.2.2.1 99) σ []) (wQi (dL g) (f_X0_settle σ).1 (f_X0_settle σ).2 (fun u r => ((gi (ttb u) 1).toInt = (gi (ttb σ) 1).toInt) ∧ ((gi (ttb u) 3).toInt = (gi (ttb σ) 3).toInt) ∧ (Fr [7, 13, 14, 15, 20] [16, 17, 18] (fun _ => False) (fun _ => False) (own σ) (own u)))) 0 0 (dL g).2.2.2.1 := by
  refine met_W RX0 (by decide) rfl (Nat.le_of_ble_eq_true rfl) ?_
  intro p e s m args below meth c C hr hlocks h ls hl
  have hx := C.1.1
  have hb := C.1.2.1
  have hml := C.1.2.2.1
  have hown := C.1.2.2.2.1
  have hts := C.1.2.2.2.2
  have hl : lv_has ls 5 [(0, .ref (g.2.2.1 99))] := hl
  have hlpq : (gi (ttb σ) 1).toInt = (gi (ttb σ) 1).toInt := rfl
  have hldq : (gi (ttb σ) 3).toInt = (gi (ttb σ) 3).toInt := rfl
  have hBF : Fr [7, 13, 14, 15, 20] [16, 17, 18] (fun _ => False) (fun _ => False) (own σ) (own σ) := Fr.rf
  have zlm1 : (-1 : Int32).toInt = -1 := rfl
  have zl0 : (0 : Int32).toInt = 0 := rfl
  have zl1 : (1 : Int32).toInt = 1 := rfl
  refine lv_aload_n hx hb dX0_settle_0 rfl (lv_at hl 0 rfl) ?_
  refine lv_iconst (v := 0) hx hb dX0_settle_1 (by decide) ?_
  refine L_p7 C h dX0_settle_2 (fun σ2 H locs eσ2 h => ?_)
  have hNEW : (0 ≤ (gi (ttb σ2) 1).toInt ∧ (gi (ttb σ2) 1).toInt ≤ 6) ∧ (0 ≤ (gi (ttb σ2) 3).toInt ∧ (gi (ttb σ2) 3).toInt ≤ 16 ∧ (gi (ttb σ2) 3).toInt ≤ (g.1.2.1 50 : Int)) ∧ ((gi (ttb σ2) 1).toInt = (gi (ttb σ) 1).toInt) ∧ ((gi (ttb σ2) 3).toInt = (gi (ttb σ) 3).toInt) ∧ (Fr [7, 13, 14, 15, 20] [16, 17, 18] (fun _ => False) (fun _ => False) (own σ) (own σ2)) := ⟨(by rw [eσ2] <;> exact hlp), (by rw [eσ2] <;> exact hld), (by rw [eσ2] <;> exact hlpq), (by rw [eσ2] <;> exact hldq), (by rw [eσ2]; exact (Fr_si (by decide) hBF))⟩
  obtain ⟨hlp, hld, hlpq, hldq, hBF⟩ := hNEW
  refine lv_aload_n hx hb dX0_settle_5 rfl (lv_at hl 0 rfl) ?_
  refine w_callv (ci := 0) (q0 := 6) (As := []) (rest := []) 0 (wXL g) C h (k_X0_balances l g σ2 (by first | assumption | omega) (by first | assumption | omega)) (lw_V q1268 q1270 qs54 q144 q1271) rfl rfl rfl rfl (by decide +kernel) ⟨Nat.le_of_ble_eq_true rfl, Nat.le_of_ble_eq_true rfl⟩ rfl hl.1 rfl (Nat.le_of_ble_eq_true rfl) ⟨Nat.le_of_ble_eq_true rfl, Nat.le_of_ble_eq_true rfl⟩ dX0_settle_6 (fun σ6 H locs eσ6 hE6 h => ?_)
  have hE6 : ((gi (ttb σ6) 1).toInt = (gi (ttb σ2) 1).toInt) ∧ ((gi (ttb σ6) 3).toInt = (gi (ttb σ2) 3).toInt) ∧ (Fr [7, 13, 14, 15, 20] [16, 17, 18] (fun _ => False) (fun _ => False) (own σ2) (own σ6)) ∧ ((ttb σ6) = (ttb σ2)) := hE6
  obtain ⟨hlpq_6, hldq_6, hBF_6, hB2_6⟩ := hE6
  have hNEW : (0 ≤ (gi (ttb σ6) 1).toInt ∧ (gi (ttb σ6) 1).toInt ≤ 6) ∧ (0 ≤ (gi (ttb σ6) 3).toInt ∧ (gi (ttb σ6) 3).toInt ≤ 16 ∧ (gi (ttb σ6) 3).toInt ≤ (g.1.2.1 50 : Int)) ∧ ((gi (ttb σ6) 1).toInt = (gi (ttb σ) 1).toInt) ∧ ((gi (ttb σ6) 3).toInt = (gi (ttb σ) 3).toInt) ∧ (Fr [7, 13, 14, 15, 20] [16, 17, 18] (fun _ => False) (fun _ => False) (own σ) (own σ6)) := ⟨(by first | assumption | omega), (by first | assumption | omega), (by first | assumption | omega), (by first | assumption | omega), (Fr.tr hBF hBF_6)⟩
  clear hlp hld hlpq hldq hBF
  obtain ⟨hlp, hld, hlpq, hldq, hBF⟩ := hNEW
  refine lv_iconst (v := 0) hx hb dX0_settle_9 (by decide) ?_
  refine lv_istore_n (lv' := [(1, .int (0 : Int32)), (0, .ref (g.2.2.1 99))]) hx hb dX0_settle_10 rfl hl (by decide) rfl (fun ls hl => ?_)
  refine lv_iconst (v := 0) hx hb dX0_settle_11 (by decide) ?_
  refine lv_istore_n (lv' := [(2, .int (0 : Int32)), (1, .int (0 : Int32)), (0, .ref (g.2.2.1 99))]) hx hb dX0_settle_12 rfl hl (by decide) rfl (fun ls hl => ?_)
  have hL13 : ∀ (n : Nat) (x1_13 : Int32) (x2_13 : Int32) (H : Heap) (locs : List Loc) (ls : Array Slot), (0 ≤ x2_13.toInt ∧ x2_13.toInt ≤ (gi (ttb σ6) 1).toInt ∧ 0 ≤ x1_13.toInt ∧ x1_13.toInt ≤ 63) → ((gi (ttb σ6) 1).toInt - x2_13.toInt).toNat < n → wH (dL g) σ6 s H locs → lv_has ls 5 [(0, .ref (g.2.2.1 99)), (1, .int x1_13), (2, .int x2_13)] → (∀ (x1_13' : Int32) (x2_13' : Int32) (H : Heap) (locs : List Loc) (ls : Array Slot), f_X0_settle_L13 σ6 n x1_13 x2_13 = (x1_13', x2_13') → (0 ≤ x2_13'.toInt ∧ x2_13'.toInt ≤ (gi (ttb σ6) 1).toInt ∧ 0 ≤ x1_13'.toInt ∧ x1_13'.toInt ≤ 63) → wH (dL g) σ6 s H locs → lv_has ls 5 [(0, .ref (g.2.2.1 99)), (1, .int x1_13')] → W p l e ({ frames := 3, cells := 0, slots := 0, locals := 66 } : Room) s m args below meth c H locs 0 0 (MQ below (wQi (dL g) (f_X0_settle σ).1 (f_X0_settle σ).2 (fun u r => ((gi (ttb u) 1).toInt = (gi (ttb σ) 1).toInt) ∧ ((gi (ttb u) 3).toInt = (gi (ttb σ) 3).toInt) ∧ (Fr [7, 13, 14, 15, 20] [16, 17, 18] (fun _ => False) (fun _ => False) (own σ) (own u)))) args s 0 0 (dL g).2.2.2.1) (F0 m 49 ls [])) → W p l e ({ frames := 3, cells := 0, slots := 0, locals := 66 } : Room) s m args below meth c H locs 0 0 (MQ below (wQi (dL g) (f_X0_settle σ).1 (f_X0_settle σ).2 (fun u r => ((gi (ttb u) 1).toInt = (gi (ttb σ) 1).toInt) ∧ ((gi (ttb u) 3).toInt = (gi (ttb σ) 3).toInt) ∧ (Fr [7, 13, 14, 15, 20] [16, 17, 18] (fun _ => False) (fun _ => False) (own σ) (own u)))) args s 0 0 (dL g).2.2.2.1) (F0 m 13 ls []) := by
    intro n
    induction n with
    | zero =>
      intro x1_13 x2_13 H locs ls _ hm; exact absurd hm (Nat.not_lt_zero _)
    | succ n ih =>
      intro x1_13 x2_13 H locs ls hI13 hm h hl kk
      refine lv_iload_n hx hb dX0_settle_13 rfl (lv_at hl 2 rfl) ?_
      refine lv_aload_n hx hb dX0_settle_14 rfl (lv_at hl 0 rfl) ?_
      refine L_at (rest := [.int x2_13]) C h ⟨Nat.le_of_ble_eq_true rfl, Nat.le_of_ble_eq_true rfl⟩ hl.1 (Nat.le_of_ble_eq_true rfl) ⟨Nat.le_of_ble_eq_true rfl, Nat.le_of_ble_eq_true rfl⟩ dX0_settle_15 (fun H locs h => ?_)
      refine L_t1 C h dX0_settle_18 ?_
      refine lv_icmp_ge (tgt := 49) hx hb dX0_settle_21 (by decide) (fun c21 => ?_) (fun c21 => ?_)
      · have i21 := c_le c21
        exact kk x1_13 x2_13 _ _ _ (show f_X0_settle_L13 σ6 (n + 1) x1_13 x2_13 = (x1_13, x2_13) from (by exact ((if_pos c21).trans rfl)))  (by first | assumption | omega) h (lv_sub hl [0, 1] rfl)
      · have i21 := c_nle c21
        refine lv_iload_n hx hb dX0_settle_24 rfl (lv_at hl 1 rfl) ?_
        refine lv_aload_n hx hb dX0_settle_25 rfl (lv_at hl 0 rfl) ?_
        refine L_g17 C h dX0_settle_26 ?_
        refine lv_iload_n hx hb dX0_settle_29 rfl (lv_at hl 2 rfl) ?_
        refine L_l117 C h (ix_of (rfl : x2_13.toInt = x2_13.toInt) (by omega)) dX0_settle_30 ?_
        have j41 : ∀ (t0_41 : Int32) (H : Heap) (locs : List Loc) (ls : Array Slot) (ej41 : (if (ga (own σ6) 17 x2_13) = (0 : Int32) then ((0 : Int32)) else (((1 : Int32) <<< (x2_13 &&& (31 : Int32))))) = t0_41) (hI41 : 0 ≤ t0_41.toInt ∧ t0_41.toInt ≤ 63) (h : wH (dL g) σ6 s H locs) (hl : lv_has ls 5 [(0, .ref (g.2.2.1 99)), (2, .int x2_13)]), W p l e ({ frames := 3, cells := 0, slots := 0, locals := 66 } : Room) s m args below meth c H locs 0 0 (MQ below (wQi (dL g) (f_X0_settle σ).1 (f_X0_settle σ).2 (fun u r => ((gi (ttb u) 1).toInt = (gi (ttb σ) 1).toInt) ∧ ((gi (ttb u) 3).toInt = (gi (ttb σ) 3).toInt) ∧ (Fr [7, 13, 14, 15, 20] [16, 17, 18] (fun _ => False) (fun _ => False) (own σ) (own u)))) args s 0 0 (dL g).2.2.2.1) (F0 m 41 ls [.int t0_41, .int x1_13]) := by
          intro t0_41 H locs ls ej41 hI41 h hl
          have et0_41 := ej41.symm
          refine lv_ior hx hb dX0_settle_41 ?_
          refine lv_topi (fun v42 ev42 => ?_)
          refine lv_istore_n (lv' := [(1, .int v42), (0, .ref (g.2.2.1 99)), (2, .int x2_13)]) hx hb dX0_settle_42 rfl hl (by decide) rfl (fun ls hl => ?_)
          have w42 : 0 ≤ v42.toInt ∧ v42.toInt ≤ 63 := by rw [ev42]; exact or63 (by omega) hI41
          refine lv_iinc (v := (x2_13 + (1 : Int32))) (lv' := [(2, .int (x2_13 + (1 : Int32))), (1, .int v42), (0, .ref (g.2.2.1 99))]) hx hb dX0_settle_43 hl (k := 2) rfl rfl (by decide) rfl (fun ls hl => ?_)
          refine lv_goto (tgt := 13) hx hb dX0_settle_46 (by decide) ?_
          have tt2 : (x2_13 + (1 : Int32)).toInt = (x2_13.toInt + (1)) := (i_add (rfl : x2_13.toInt = x2_13.toInt) zl1 (by omega))
          exact ih v42 (x2_13 + (1 : Int32)) _ _ _  (by first | assumption | omega) (by omega) h (lv_sub hl [2, 1, 0] rfl) (fun x1_13' x2_13' H locs ls en hI h hl => kk x1_13' x2_13' H locs ls ((show f_X0_settle_L13 σ6 (n + 1) x1_13 x2_13 = f_X0_settle_L13 σ6 n v42 (x2_13 + (1 : Int32)) from (by have et0_41 := et0_41.symm; subst et0_41; have ev42 := ev42.symm; subst ev42; exact ((if_neg c21).trans rfl))).trans en) hI h hl)
        refine lv_if_eq (tgt := 40) hx hb dX0_settle_31 (by decide) (fun c31 => ?_) (fun c31 => ?_)
        · have i31 := c_eq c31
          refine lv_iconst (v := 0) hx hb dX0_settle_40 (by decide) ?_
          have s41 := shl5_rng (b := x2_13) (by omega)
          exact j41 _ _ _ _ (by exact ((if_pos c31).trans rfl)) (by first | assumption | omega) h (lv_sub hl [0, 2] rfl)
        · have i31 := c_ne c31
          refine lv_iconst (v := 1) hx hb dX0_settle_34 (by decide) ?_
          refine lv_iload_n hx hb dX0_settle_35 rfl (lv_at hl 2 rfl) ?_
          refine lv_ishl hx hb dX0_settle_36 ?_
          refine lv_goto (tgt := 41) hx hb dX0_settle_37 (by decide) ?_
          have tjt0_41 : ((1 : Int32) <<< (x2_13 &&& (31 : Int32))).toInt = ((1 : Int32) <<< (x2_13 &&& (31 : Int32))).toInt := (rfl : ((1 : Int32) <<< (x2_13 &&& (31 : Int32))).toInt = ((1 : Int32) <<< (x2_13 &&& (31 : Int32))).toInt)
          have s41 := shl5_rng (b := x2_13) (by omega)
          exact j41 _ _ _ _ (by exact ((if_neg c31).trans rfl)) (by first | assumption | omega) h (lv_sub hl [0, 2] rfl)
  refine hL13 (7) (0 : Int32) (0 : Int32) _ _ _  (by first | assumption | omega) (by omega) h (lv_sub hl [2, 1, 0] rfl) (fun x1_13e x2_13e H locs ls eL13 hI13 h hl => ?_)
  have ex1_13e : x1_13e = (f_X0_settle_L13 σ6 (7) (0 : Int32) (0 : Int32)).1 := by rw [eL13]
  have ex2_13e : x2_13e = (f_X0_settle_L13 σ6 (7) (0 : Int32) (0 : Int32)).2 := by rw [eL13]
  refine lv_iconst (v := 1) hx hb dX0_settle_49 (by decide) ?_
  refine lv_istore_n (lv' := [(2, .int (1 : Int32)), (0, .ref (g.2.2.1 99)), (1, .int x1_13e)]) hx hb dX0_settle_50 rfl hl (by decide) rfl (fun ls hl => ?_)
  have hL51 : ∀ (n : Nat) (x2_51 : Int32) (σL51 : (MS × MS)) (H : Heap) (locs : List Loc) (ls : Array Slot), (0 ≤ (gi (ttb σL51) 1).toInt ∧ (gi (ttb σL51) 1).toInt ≤ 6) → (0 ≤ (gi (ttb σL51) 3).toInt ∧ (gi (ttb σL51) 3).toInt ≤ 16 ∧ (gi (ttb σL51) 3).toInt ≤ (g.1.2.1 50 : Int)) → ((gi (ttb σL51) 1).toInt = (gi (ttb σ) 1).toInt) → ((gi (ttb σL51) 3).toInt = (gi (ttb σ) 3).toInt) → (Fr [7, 13, 14, 15, 20] [16, 17, 18] (fun _ => False) (fun _ => False) (own σ) (own σL51)) → (1 ≤ x2_51.toInt ∧ x2_51.toInt ≤ 64) → (64 - x2_51.toInt).toNat < n → wH (dL g) σL51 s H locs → lv_has ls 5 [(0, .ref (g.2.2.1 99)), (1, .int x1_13e), (2, .int x2_51)] → (∀ (x2_51' : Int32) (σL51' : (MS × MS)) (H : Heap) (locs : List Loc) (ls : Array Slot), f_X0_settle_L51 x1_13e n x2_51 σL51 = (x2_51', σL51') → (0 ≤ (gi (ttb σL51') 1).toInt ∧ (gi (ttb σL51') 1).toInt ≤ 6) → (0 ≤ (gi (ttb σL51') 3).toInt ∧ (gi (ttb σL51') 3).toInt ≤ 16 ∧ (gi (ttb σL51') 3).toInt ≤ (g.1.2.1 50 : Int)) → ((gi (ttb σL51') 1).toInt = (gi (ttb σ) 1).toInt) → ((gi (ttb σL51') 3).toInt = (gi (ttb σ) 3).toInt) → (Fr [7, 13, 14, 15, 20] [16, 17, 18] (fun _ => False) (fun _ => False) (own σ) (own σL51')) → (1 ≤ x2_51'.toInt ∧ x2_51'.toInt ≤ 64) → wH (dL g) σL51' s H locs → lv_has ls 5 [(0, .ref (g.2.2.1 99)), (1, .int x1_13e)] → W p l e ({ frames := 3, cells := 0, slots := 0, locals := 66 } : Room) s m args below meth c H locs 0 0 (MQ below (wQi (dL g) (f_X0_settle σ).1 (f_X0_settle σ).2 (fun u r => ((gi (ttb u) 1).toInt = (gi (ttb σ) 1).toInt) ∧ ((gi (ttb u) 3).toInt = (gi (ttb σ) 3).toInt) ∧ (Fr [7, 13, 14, 15, 20] [16, 17, 18] (fun _ => False) (fun _ => False) (own σ) (own u)))) args s 0 0 (dL g).2.2.2.1) (F0 m 156 ls [])) → W p l e ({ frames := 3, cells := 0, slots := 0, locals := 66 } : Room) s m args below meth c H locs 0 0 (MQ below (wQi (dL g) (f_X0_settle σ).1 (f_X0_settle σ).2 (fun u r => ((gi (ttb u) 1).toInt = (gi (ttb σ) 1).toInt) ∧ ((gi (ttb u) 3).toInt = (gi (ttb σ) 3).toInt) ∧ (Fr [7, 13, 14, 15, 20] [16, 17, 18] (fun _ => False) (fun _ => False) (own σ) (own u)))) args s 0 0 (dL g).2.2.2.1) (F0 m 51 ls []) := by
    intro n
    induction n with
    | zero =>
      intro x2_51 σL51 H locs ls hlp hld hlpq hldq hBF _ hm; exact absurd hm (Nat.not_lt_zero _)
    | succ n ih =>
      intro x2_51 σL51 H locs ls hlp hld hlpq hldq hBF hI51 hm h hl kk
      refine lv_iload_n hx hb dX0_settle_51 rfl (lv_at hl 2 rfl) ?_
      refine lv_iload_n hx hb dX0_settle_52 rfl (lv_at hl 1 rfl) ?_
      refine lv_icmp_gt (tgt := 156) hx hb dX0_settle_53 (by decide) (fun c53 => ?_) (fun c53 => ?_)
      · have i53 := c_lt c53
        exact kk x2_51 σL51 _ _ _ (show f_X0_settle_L51 x1_13e (n + 1) x2_51 σL51 = (x2_51, σL51) from (by exact ((if_pos c53).trans rfl))) hlp hld hlpq hldq hBF (by first | assumption | omega) h (lv_sub hl [0, 1] rfl)
      · have i53 := c_nlt c53
        refine lv_iconst (v := 0) hx hb dX0_settle_56 (by decide) ?_
        refine lv_istore_n (lv' := [(3, .int (0 : Int32)), (0, .ref (g.2.2.1 99)), (1, .int x1_13e), (2, .int x2_51)]) hx hb dX0_settle_57 rfl hl (by decide) rfl (fun ls hl => ?_)
        refine lv_aload_n hx hb dX0_settle_58 rfl (lv_at hl 1 rfl) ?_
        refine L_g16 C h dX0_settle_59 ?_
        refine lv_iload_n hx hb dX0_settle_62 rfl (lv_at hl 3 rfl) ?_
        refine lv_iconst (v := 0) hx hb dX0_settle_63 (by decide) ?_
        refine L_s116 C h (ix_of (rfl : x2_51.toInt = x2_51.toInt) (by omega)) dX0_settle_64 (fun σ64 H locs eσ64 h => ?_)
        have hNEW : (0 ≤ (gi (ttb σ64) 1).toInt ∧ (gi (ttb σ64) 1).toInt ≤ 6) ∧ (0 ≤ (gi (ttb σ64) 3).toInt ∧ (gi (ttb σ64) 3).toInt ≤ 16 ∧ (gi (ttb σ64) 3).toInt ≤ (g.1.2.1 50 : Int)) ∧ ((gi (ttb σ64) 1).toInt = (gi (ttb σ) 1).toInt) ∧ ((gi (ttb σ64) 3).toInt = (gi (ttb σ) 3).toInt) ∧ (Fr [7, 13, 14, 15, 20] [16, 17, 18] (fun _ => False) (fun _ => False) (own σ) (own σ64)) := ⟨(by rw [eσ64] <;> exact hlp), (by rw [eσ64] <;> exact hld), (by rw [eσ64] <;> exact hlpq), (by rw [eσ64] <;> exact hldq), (by rw [eσ64]; exact (Fr_xa (by decide) (by decide) hBF))⟩
        obtain ⟨hlp, hld, hlpq, hldq, hBF⟩ := hNEW
        refine lv_iconst (v := 0) hx hb dX0_settle_65 (by decide) ?_
        refine lv_istore (lv' := [(4, .int (0 : Int32)), (3, .int (0 : Int32)), (0, .ref (g.2.2.1 99)), (1, .int x1_13e), (2, .int x2_51)]) hx hb dX0_settle_66 hl (by decide) rfl (fun ls hl => ?_)
        have hL68 : ∀ (n : Nat) (x3_68 : Int32) (x4_68 : Int32) (σL68 : (MS × MS)) (H : Heap) (locs : List Loc) (ls : Array Slot), (0 ≤ (gi (ttb σL68) 1).toInt ∧ (gi (ttb σL68) 1).toInt ≤ 6) → (0 ≤ (gi (ttb σL68) 3).toInt ∧ (gi (ttb σL68) 3).toInt ≤ 16 ∧ (gi (ttb σL68) 3).toInt ≤ (g.1.2.1 50 : Int)) → ((gi (ttb σL68) 1).toInt = (gi (ttb σ) 1).toInt) → ((gi (ttb σL68) 3).toInt = (gi (ttb σ) 3).toInt) → (Fr [7, 13, 14, 15, 20] [16, 17, 18] (fun _ => False) (fun _ => False) (own σ) (own σL68)) → (0 ≤ x4_68.toInt ∧ x4_68.toInt ≤ (gi (ttb σL68) 1).toInt) → ((gi (ttb σL68) 1).toInt - x4_68.toInt).toNat < n → wH (dL g) σL68 s H locs → lv_has ls 5 [(0, .ref (g.2.2.1 99)), (1, .int x1_13e), (2, .int x2_51), (3, .int x3_68), (4, .int x4_68)] → (∀ (x3_68' : Int32) (x4_68' : Int32) (σL68' : (MS × MS)) (H : Heap) (locs : List Loc) (ls : Array Slot), f_X0_settle_L68 x1_13e x2_51 n x3_68 x4_68 σL68 = (x3_68', x4_68', σL68') → (0 ≤ (gi (ttb σL68') 1).toInt ∧ (gi (ttb σL68') 1).toInt ≤ 6) → (0 ≤ (gi (ttb σL68') 3).toInt ∧ (gi (ttb σL68') 3).toInt ≤ 16 ∧ (gi (ttb σL68') 3).toInt ≤ (g.1.2.1 50 : Int)) → ((gi (ttb σL68') 1).toInt = (gi (ttb σ) 1).toInt) → ((gi (ttb σL68') 3).toInt = (gi (ttb σ) 3).toInt) → (Fr [7, 13, 14, 15, 20] [16, 17, 18] (fun _ => False) (fun _ => False) (own σ) (own σL68')) → (0 ≤ x4_68'.toInt ∧ x4_68'.toInt ≤ (gi (ttb σL68') 1).toInt) → wH (dL g) σL68' s H locs → lv_has ls 5 [(0, .ref (g.2.2.1 99)), (1, .int x1_13e), (2, .int x2_51), (3, .int x3_68')] → W p l e ({ frames := 3, cells := 0, slots := 0, locals := 66 } : Room) s m args below meth c H locs 0 0 (MQ below (wQi (dL g) (f_X0_settle σ).1 (f_X0_settle σ).2 (fun u r => ((gi (ttb u) 1).toInt = (gi (ttb σ) 1).toInt) ∧ ((gi (ttb u) 3).toInt = (gi (ttb σ) 3).toInt) ∧ (Fr [7, 13, 14, 15, 20] [16, 17, 18] (fun _ => False) (fun _ => False) (own σ) (own u)))) args s 0 0 (dL g).2.2.2.1) (F0 m 136 ls [])) → W p l e ({ frames := 3, cells := 0, slots := 0, locals := 66 } : Room) s m args below meth c H locs 0 0 (MQ below (wQi (dL g) (f_X0_settle σ).1 (f_X0_settle σ).2 (fun u r => ((gi (ttb u) 1).toInt = (gi (ttb σ) 1).toInt) ∧ ((gi (ttb u) 3).toInt = (gi (ttb σ) 3).toInt) ∧ (Fr [7, 13, 14, 15, 20] [16, 17, 18] (fun _ => False) (fun _ => False) (own σ) (own u)))) args s 0 0 (dL g).2.2.2.1) (F0 m 68 ls []) := by
          intro n
          induction n with
          | zero =>
            intro x3_68 x4_68 σL68 H locs ls hlp hld hlpq hldq hBF _ hm; exact absurd hm (Nat.not_lt_zero _)
          | succ n ih =>
            intro x3_68 x4_68 σL68 H locs ls hlp hld hlpq hldq hBF hI68 hm h hl kk
            refine lv_iload hx hb dX0_settle_68 (lv_at hl 4 rfl) ?_
            refine lv_aload_n hx hb dX0_settle_70 rfl (lv_at hl 0 rfl) ?_
            refine L_at (rest := [.int x4_68]) C h ⟨Nat.le_of_ble_eq_true rfl, Nat.le_of_ble_eq_true rfl⟩ hl.1 (Nat.le_of_ble_eq_true rfl) ⟨Nat.le_of_ble_eq_true rfl, Nat.le_of_ble_eq_true rfl⟩ dX0_settle_71 (fun H locs h => ?_)
            refine L_t1 C h dX0_settle_74 ?_
            refine lv_icmp_ge (tgt := 136) hx hb dX0_settle_77 (by decide) (fun c77 => ?_) (fun c77 => ?_)
            · have i77 := c_le c77
              exact kk x3_68 x4_68 σL68 _ _ _ (show f_X0_settle_L68 x1_13e x2_51 (n + 1) x3_68 x4_68 σL68 = (x3_68, x4_68, σL68) from (by exact ((if_pos c77).trans rfl))) hlp hld hlpq hldq hBF (by first | assumption | omega) h (lv_sub hl [0, 1, 2, 3] rfl)
            · have i77 := c_nle c77
              refine lv_iload_n hx hb dX0_settle_80 rfl (lv_at hl 2 rfl) ?_
              refine lv_iload hx hb dX0_settle_81 (lv_at hl 4 rfl) ?_
              refine s_callz (As := [.int x2_51, .int x4_68]) (rest := []) 2 C.1 (k_X0_has l x2_51 x4_68) (lw_S q1219 q1220 q144 q1221) rfl rfl (by decide +kernel) ⟨Nat.le_of_ble_eq_true rfl, Nat.le_of_ble_eq_true rfl⟩ rfl hl.1 rfl (Nat.le_of_ble_eq_true rfl) ⟨Nat.le_of_ble_eq_true rfl, Nat.le_of_ble_eq_true rfl⟩ dX0_settle_83 h.2.2.1 (fun r83 H locs er83 br83 hz1 hk1 hS1 => ?_)
              have h := h.same hk1 hS1
              clear hz1 hk1 hS1
              refine lv_if_ne (tgt := 92) hx hb dX0_settle_86 (by decide) (fun c86 => ?_) (fun c86 => ?_)
              · have i86 := c_ne c86
                have okr83 := lhas_ok er83 c86
                refine lv_iload_n hx hb dX0_settle_92 rfl (lv_at hl 3 rfl) ?_
                refine lv_aload_n hx hb dX0_settle_93 rfl (lv_at hl 0 rfl) ?_
                refine L_g17 C h dX0_settle_94 ?_
                refine lv_iload hx hb dX0_settle_97 (lv_at hl 4 rfl) ?_
                refine L_l117 C h (ix_of (rfl : x4_68.toInt = x4_68.toInt) (by omega)) dX0_settle_99 ?_
                refine lv_iadd hx hb dX0_settle_100 ?_
                refine lv_topi (fun v101 ev101 => ?_)
                refine lv_istore_n (lv' := [(3, .int v101), (0, .ref (g.2.2.1 99)), (1, .int x1_13e), (2, .int x2_51), (4, .int x4_68)]) hx hb dX0_settle_101 rfl hl (by decide) rfl (fun ls hl => ?_)
                refine lv_aload_n hx hb dX0_settle_102 rfl (lv_at hl 1 rfl) ?_
                refine L_g16 C h dX0_settle_103 ?_
                refine lv_iload_n hx hb dX0_settle_106 rfl (lv_at hl 3 rfl) ?_
                refine lv_aload_n hx hb dX0_settle_107 rfl (lv_at hl 1 rfl) ?_
                refine L_g16 C h dX0_settle_108 ?_
                refine lv_iload_n hx hb dX0_settle_111 rfl (lv_at hl 3 rfl) ?_
                refine L_l116 C h (ix_of (rfl : x2_51.toInt = x2_51.toInt) (by omega)) dX0_settle_112 ?_
                refine lv_aload_n hx hb dX0_settle_113 rfl (lv_at hl 1 rfl) ?_
                refine L_g16 C h dX0_settle_114 ?_
                refine lv_iload_n hx hb dX0_settle_117 rfl (lv_at hl 3 rfl) ?_
                refine lv_iconst (v := 1) hx hb dX0_settle_118 (by decide) ?_
                refine lv_iload hx hb dX0_settle_119 (lv_at hl 4 rfl) ?_
                refine lv_ishl hx hb dX0_settle_121 ?_
                refine lv_iconst (v := -1) hx hb dX0_settle_122 (by decide) ?_
                refine lv_ixor hx hb dX0_settle_123 ?_
                refine lv_iand hx hb dX0_settle_124 ?_
                refine L_l116 C h (ix63 (and63 (by omega))) dX0_settle_125 ?_
                refine va_mmax hx hb (hml.trans hl.1.symm) hown (hts _ q1272) (hts _ q1273) (hts _ q164) (hts _ q1274) (Nat.le_of_ble_eq_true rfl) (Nat.le_of_ble_eq_true rfl) (Nat.le_of_ble_eq_true rfl) (Nat.le_of_ble_eq_true rfl) dX0_settle_126 ?_
                refine L_s116 C h (ix_of (rfl : x2_51.toInt = x2_51.toInt) (by omega)) dX0_settle_129 (fun σ129 H locs eσ129 h => ?_)
                have hNEW : (0 ≤ (gi (ttb σ129) 1).toInt ∧ (gi (ttb σ129) 1).toInt ≤ 6) ∧ (0 ≤ (gi (ttb σ129) 3).toInt ∧ (gi (ttb σ129) 3).toInt ≤ 16 ∧ (gi (ttb σ129) 3).toInt ≤ (g.1.2.1 50 : Int)) ∧ ((gi (ttb σ129) 1).toInt = (gi (ttb σ) 1).toInt) ∧ ((gi (ttb σ129) 3).toInt = (gi (ttb σ) 3).toInt) ∧ (Fr [7, 13, 14, 15, 20] [16, 17, 18] (fun _ => False) (fun _ => False) (own σ) (own σ129)) := ⟨(by rw [eσ129] <;> exact hlp), (by rw [eσ129] <;> exact hld), (by rw [eσ129] <;> exact hlpq), (by rw [eσ129] <;> exact hldq), (by rw [eσ129]; exact (Fr_xa (by decide) (by decide) hBF))⟩
                obtain ⟨hlp, hld, hlpq, hldq, hBF⟩ := hNEW
                refine lv_iinc (v := (x4_68 + (1 : Int32))) (lv' := [(4, .int (x4_68 + (1 : Int32))), (3, .int v101), (0, .ref (g.2.2.1 99)), (1, .int x1_13e), (2, .int x2_51)]) hx hb dX0_settle_130 hl (k := 4) rfl rfl (by decide) rfl (fun ls hl => ?_)
                refine lv_goto (tgt := 68) hx hb dX0_settle_133 (by decide) ?_
                have tt4 : (x4_68 + (1 : Int32)).toInt = (x4_68.toInt + (1)) := (i_add (rfl : x4_68.toInt = x4_68.toInt) zl1 (by omega))
                exact ih v101 (x4_68 + (1 : Int32)) σ129 _ _ _ hlp hld hlpq hldq hBF (by first | assumption | omega) (by omega) h (lv_sub hl [2, 3, 4, 1, 0] rfl) (fun x3_68' x4_68' σL68' H locs ls en hlp hld hlpq hldq hBF hI h hl => kk x3_68' x4_68' σL68' H locs ls ((show f_X0_settle_L68 x1_13e x2_51 (n + 1) x3_68 x4_68 σL68 = f_X0_settle_L68 x1_13e x2_51 n v101 (x4_68 + (1 : Int32)) σ129 from (by have er83 := er83.symm; subst er83; have ev101 := ev101.symm; subst ev101; have eσ129 := eσ129.symm; subst eσ129; exact ((if_neg c77).trans ((if_neg c86).trans rfl)))).trans en) hlp hld hlpq hldq hBF hI h hl)
              · have i86 := c_eq c86
                refine lv_goto (tgt := 130) hx hb dX0_settle_89 (by decide) ?_
                refine lv_iinc (v := (x4_68 + (1 : Int32))) (lv' := [(4, .int (x4_68 + (1 : Int32))), (0, .ref (g.2.2.1 99)), (1, .int x1_13e), (2, .int x2_51), (3, .int x3_68)]) hx hb dX0_settle_130 hl (k := 4) rfl rfl (by decide) rfl (fun ls hl => ?_)
                refine lv_goto (tgt := 68) hx hb dX0_settle_133 (by decide) ?_
                have tt4 : (x4_68 + (1 : Int32)).toInt = (x4_68.toInt + (1)) := (i_add (rfl : x4_68.toInt = x4_68.toInt) zl1 (by omega))
                exact ih x3_68 (x4_68 + (1 : Int32)) σL68 _ _ _ hlp hld hlpq hldq hBF (by first | assumption | omega) (by omega) h (lv_sub hl [1, 2, 3, 4, 0] rfl) (fun x3_68' x4_68' σL68' H locs ls en hlp hld hlpq hldq hBF hI h hl => kk x3_68' x4_68' σL68' H locs ls ((show f_X0_settle_L68 x1_13e x2_51 (n + 1) x3_68 x4_68 σL68 = f_X0_settle_L68 x1_13e x2_51 n x3_68 (x4_68 + (1 : Int32)) σL68 from (by have er83 := er83.symm; subst er83; exact ((if_neg c77).trans ((if_pos c86).trans rfl)))).trans en) hlp hld hlpq hldq hBF hI h hl)
        refine hL68 (7) (0 : Int32) (0 : Int32) σ64 _ _ _ hlp hld hlpq hldq hBF (by first | assumption | omega) (by omega) h (lv_sub hl [2, 3, 4, 1, 0] rfl) (fun x3_68e x4_68e σL68e H locs ls eL68 hlp hld hlpq hldq hBF hI68 h hl => ?_)
        have ex3_68e : x3_68e = (f_X0_settle_L68 x1_13e x2_51 (7) (0 : Int32) (0 : Int32) σ64).1 := by rw [eL68]
        have ex4_68e : x4_68e = (f_X0_settle_L68 x1_13e x2_51 (7) (0 : Int32) (0 : Int32) σ64).2.1 := by rw [eL68]
        have eσL68e : σL68e = (f_X0_settle_L68 x1_13e x2_51 (7) (0 : Int32) (0 : Int32) σ64).2.2 := by rw [eL68]
        refine lv_iload_n hx hb dX0_settle_136 rfl (lv_at hl 3 rfl) ?_
        refine lv_if_ne (tgt := 150) hx hb dX0_settle_137 (by decide) (fun c137 => ?_) (fun c137 => ?_)
        · have i137 := c_ne c137
          refine lv_iinc (v := (x2_51 + (1 : Int32))) (lv' := [(2, .int (x2_51 + (1 : Int32))), (0, .ref (g.2.2.1 99)), (1, .int x1_13e), (3, .int x3_68e)]) hx hb dX0_settle_150 hl (k := 2) rfl rfl (by decide) rfl (fun ls hl => ?_)
          refine lv_goto (tgt := 51) hx hb dX0_settle_153 (by decide) ?_
          have tt2 : (x2_51 + (1 : Int32)).toInt = (x2_51.toInt + (1)) := (i_add (rfl : x2_51.toInt = x2_51.toInt) zl1 (by omega))
          exact ih (x2_51 + (1 : Int32)) σL68e _ _ _ hlp hld hlpq hldq hBF (by first | assumption | omega) (by omega) h (lv_sub hl [1, 2, 0] rfl) (fun x2_51' σL51' H locs ls en hlp hld hlpq hldq hBF hI h hl => kk x2_51' σL51' H locs ls ((show f_X0_settle_L51 x1_13e (n + 1) x2_51 σL51 = f_X0_settle_L51 x1_13e n (x2_51 + (1 : Int32)) σL68e from (by have eσ64 := eσ64.symm; subst eσ64; have ex3_68e := ex3_68e.symm; subst ex3_68e; have ex4_68e := ex4_68e.symm; subst ex4_68e; have eσL68e := eσL68e.symm; subst eσL68e; exact ((if_neg c53).trans ((if_neg c137).trans rfl)))).trans en) hlp hld hlpq hldq hBF hI h hl)
        · have i137 := c_eq c137
          refine lv_aload_n hx hb dX0_settle_140 rfl (lv_at hl 0 rfl) ?_
          refine L_g16 C h dX0_settle_141 ?_
          refine lv_iload_n hx hb dX0_settle_144 rfl (lv_at hl 2 rfl) ?_
          refine lv_dup2_11 hx hb dX0_settle_145 rfl rfl ?_
          refine L_l116 C h (ix_of (rfl : x2_51.toInt = x2_51.toInt) (by omega)) dX0_settle_146 ?_
          refine lv_iconst (v := 1) hx hb dX0_settle_147 (by decide) ?_
          refine lv_iadd hx hb dX0_settle_148 ?_
          refine L_s116 C h (ix_of (rfl : x2_51.toInt = x2_51.toInt) (by omega)) dX0_settle_149 (fun σ149 H locs eσ149 h => ?_)
          have hNEW : (0 ≤ (gi (ttb σ149) 1).toInt ∧ (gi (ttb σ149) 1).toInt ≤ 6) ∧ (0 ≤ (gi (ttb σ149) 3).toInt ∧ (gi (ttb σ149) 3).toInt ≤ 16 ∧ (gi (ttb σ149) 3).toInt ≤ (g.1.2.1 50 : Int)) ∧ ((gi (ttb σ149) 1).toInt = (gi (ttb σ) 1).toInt) ∧ ((gi (ttb σ149) 3).toInt = (gi (ttb σ) 3).toInt) ∧ (Fr [7, 13, 14, 15, 20] [16, 17, 18] (fun _ => False) (fun _ => False) (own σ) (own σ149)) := ⟨(by rw [eσ149] <;> exact hlp), (by rw [eσ149] <;> exact hld), (by rw [eσ149] <;> exact hlpq), (by rw [eσ149] <;> exact hldq), (by rw [eσ149]; exact (Fr_xa (by decide) (by decide) hBF))⟩
          obtain ⟨hlp, hld, hlpq, hldq, hBF⟩ := hNEW
          refine lv_iinc (v := (x2_51 + (1 : Int32))) (lv' := [(2, .int (x2_51 + (1 : Int32))), (0, .ref (g.2.2.1 99)), (1, .int x1_13e), (3, .int x3_68e)]) hx hb dX0_settle_150 hl (k := 2) rfl rfl (by decide) rfl (fun ls hl => ?_)
          refine lv_goto (tgt := 51) hx hb dX0_settle_153 (by decide) ?_
          have tt2 : (x2_51 + (1 : Int32)).toInt = (x2_51.toInt + (1)) := (i_add (rfl : x2_51.toInt = x2_51.toInt) zl1 (by omega))
          exact ih (x2_51 + (1 : Int32)) σ149 _ _ _ hlp hld hlpq hldq hBF (by first | assumption | omega) (by omega) h (lv_sub hl [1, 2, 0] rfl) (fun x2_51' σL51' H locs ls en hlp hld hlpq hldq hBF hI h hl => kk x2_51' σL51' H locs ls ((show f_X0_settle_L51 x1_13e (n + 1) x2_51 σL51 = f_X0_settle_L51 x1_13e n (x2_51 + (1 : Int32)) σ149 from (by have eσ64 := eσ64.symm; subst eσ64; have ex3_68e := ex3_68e.symm; subst ex3_68e; have ex4_68e := ex4_68e.symm; subst ex4_68e; have eσL68e := eσL68e.symm; subst eσL68e; have eσ149 := eσ149.symm; subst eσ149; exact ((if_neg c53).trans ((if_pos c137).trans rfl)))).trans en) hlp hld hlpq hldq hBF hI h hl)
  refine hL51 (64) (1 : Int32) σ6 _ _ _ hlp hld hlpq hldq hBF (by first | assumption | omega) (by omega) h (lv_sub hl [1, 2, 0] rfl) (fun x2_51e σL51e H locs ls eL51 hlp hld hlpq hldq hBF hI51 h hl => ?_)
  have ex2_51e : x2_51e = (f_X0_settle_L51 x1_13e (64) (1 : Int32) σ6).1 := by rw [eL51]
  have eσL51e : σL51e = (f_X0_settle_L51 x1_13e (64) (1 : Int32) σ6).2 := by rw [eL51]
  refine lv_iload_n hx hb dX0_settle_156 rfl (lv_at hl 1 rfl) ?_
  refine s_calli (As := [.int x1_13e]) (rest := []) 1 C.1 (k_J11_bitCount l x1_13e) (lw_S q1009 q1010 q170 q1011) rfl rfl (by decide +kernel) ⟨Nat.le_of_ble_eq_true rfl, Nat.le_of_ble_eq_true rfl⟩ rfl hl.1 rfl (Nat.le_of_ble_eq_true rfl) ⟨Nat.le_of_ble_eq_true rfl, Nat.le_of_ble_eq_true rfl⟩ dX0_settle_157 h.2.2.1 (fun r157 H locs er157 hz1 hk1 hS1 => ?_)
  have h := h.same hk1 hS1
  clear hz1 hk1 hS1
  refine lv_iload_n hx hb dX0_settle_160 rfl (lv_at hl 1 rfl) ?_
  refine lv_if_ne (tgt := 168) hx hb dX0_settle_161 (by decide) (fun c161 => ?_) (fun c161 => ?_)
  · have i161 := c_ne c161
    refine lv_aload_n hx hb dX0_settle_168 rfl (lv_at hl 0 rfl) ?_
    refine L_g16 C h dX0_settle_169 ?_
    refine lv_iload_n hx hb dX0_settle_172 rfl (lv_at hl 1 rfl) ?_
    refine L_l116 C h (ix_of (rfl : x1_13e.toInt = x1_13e.toInt) (by omega)) dX0_settle_173 ?_
    refine lv_isub hx hb dX0_settle_174 ?_
    have he : f_X0_settle σ = (σL51e, (r157 - (ga (own σL51e) 16 x1_13e))) := (by have eσ2 := eσ2.symm; subst eσ2; have eσ6 := eσ6.symm; subst eσ6; have ex1_13e := ex1_13e.symm; subst ex1_13e; have ex2_13e := ex2_13e.symm; subst ex2_13e; have ex2_51e := ex2_51e.symm; subst ex2_51e; have eσL51e := eσL51e.symm; subst eσL51e; have er157 := er157.symm; subst er157; exact ((if_neg c161).trans rfl))
    exact w_reti (wXL g) C h hr hlocks (congrArg Prod.fst he) (congrArg Prod.snd he) ⟨hlpq, hldq, hBF⟩ dX0_settle_175
  · have i161 := c_eq c161
    refine lv_iconst (v := 0) hx hb dX0_settle_164 (by decide) ?_
    refine lv_goto (tgt := 174) hx hb dX0_settle_165 (by decide) ?_
    refine lv_isub hx hb dX0_settle_174 ?_
    have he : f_X0_settle σ = (σL51e, (r157 - (0 : Int32))) := (by have eσ2 := eσ2.symm; subst eσ2; have eσ6 := eσ6.symm; subst eσ6; have ex1_13e := ex1_13e.symm; subst ex1_13e; have ex2_13e := ex2_13e.symm; subst ex2_13e; have ex2_51e := ex2_51e.symm; subst ex2_51e; have eσL51e := eσL51e.symm; subst eσL51e; have er157 := er157.symm; subst er157; exact ((if_pos c161).trans rfl))
    exact w_reti (wXL g) C h hr hlocks (congrArg Prod.fst he) (congrArg Prod.snd he) ⟨hlpq, hldq, hBF⟩ dX0_settle_175
def f_X0_tiesOf_L17 (σ : MS × MS) (y2_17 : Int32) : Nat → Int32 → Int32 → Int32 × Int32
  | 0, x1_17, x3_17 => (x1_17, x3_17)
  | n + 1, x1_17, x3_17 => if y2_17 ≤ x3_17 then ((x1_17, x3_17)) else ((let r29 := (f_X5_owes (ttb σ) y2_17 x3_17); (let z52_ : Int32 := (if (0 : Int32) < r29 then ((1 : Int32)) else ((let r41 := (f_X5_owes (ttb σ) x3_17 y2_17); if r41 ≤ (0 : Int32) then ((0 : Int32)) else ((1 : Int32))))); let t0_52 := z52_; (let v53 := (x1_17 + t0_52); f_X0_tiesOf_L17 σ y2_17 n v53 (x3_17 + (1 : Int32))))))
def f_X0_tiesOf_L4 (σ : MS × MS) : Nat → Int32 → Int32 → Int32 × Int32
  | 0, x1_4, x2_4 => (x1_4, x2_4)
  | n + 1, x1_4, x2_4 => if (gi (ttb σ) 1) ≤ x2_4 then ((x1_4, x2_4)) else ((let zL17 := f_X0_tiesOf_L17 σ x2_4 (7) x1_4 (0 : Int32); let x1_17e := zL17.1; let x3_17e := zL17.2; f_X0_tiesOf_L4 σ n x1_17e (x2_4 + (1 : Int32))))
def f_X0_tiesOf (σ : MS × MS) : Int32 := (let zL4 := f_X0_tiesOf_L4 σ (7) (0 : Int32) (0 : Int32); let x1_4e := zL4.1; let x2_4e := zL4.2; x1_4e)
set_option maxHeartbeats 4000000 in
set_option maxRecDepth 100000 in
theorem k_X0_tiesOf (l : Launch) (g : GL) (σ : MS × MS) (hlp : 0 ≤ (gi (ttb σ) 1).toInt ∧ (gi (ttb σ) 1).toInt ≤ 6) (hld : 0 ≤ (gi (ttb σ) 3).toInt ∧ (gi (ttb σ) 3).toInt ≤ 16 ∧ (gi (ttb σ) 3).toInt ≤ (g.1.2.1 50 : Int)) : Met l yX0_tiesOf (ws_ yX0_tiesOf cX0_tiesOf 4 (some .int)) ({ frames := 1, cells := 0, slots := 0, locals := 22 } : Room) (wPc (dL g) (g.2.2.1 99) σ []) (wQi (dL g) σ (f_X0_tiesOf σ) (fun u r => True)) 0 0 (dL g).2.2.2.1 := by
  refine met_W RX0 (by decide) rfl (Nat.le_of_ble_eq_true rfl) ?_
  intro p e s m args below meth c C hr hlocks h ls hl
  have hx := C.1.1
  have hb := C.1.2.1
  have hml := C.1.2.2.1
  have hown := C.1.2.2.2.1
  have hts := C.1.2.2.2.2
  have hl : lv_has ls 4 [(0, .ref (g.2.2.1 99))] := hl
  have zl0 : (0 : Int32).toInt = 0 := rfl
  have zl1 : (1 : Int32).toInt = 1 := rfl
  refine lv_iconst (v := 0) hx hb dX0_tiesOf_0 (by decide) ?_
  refine lv_istore_n (lv' := [(1, .int (0 : Int32)), (0, .ref (g.2.2.1 99))]) hx hb dX0_tiesOf_1 rfl hl (by decide) rfl (fun ls hl => ?_)
  refine lv_iconst (v := 0) hx hb dX0_tiesOf_2 (by decide) ?_
  refine lv_istore_n (lv' := [(2, .int (0 : Int32)), (1, .int (0 : Int32)), (0, .ref (g.2.2.1 99))]) hx hb dX0_tiesOf_3 rfl hl (by decide) rfl (fun ls hl => ?_)
  have hL4 : ∀ (n : Nat) (x1_4 : Int32) (x2_4 : Int32) (H : Heap) (locs : List Loc) (ls : Array Slot), (0 ≤ x2_4.toInt ∧ x2_4.toInt ≤ (gi (ttb σ) 1).toInt) → ((gi (ttb σ) 1).toInt - x2_4.toInt).toNat < n → wH (dL g) σ s H locs → lv_has ls 4 [(0, .ref (g.2.2.1 99)), (1, .int x1_4), (2, .int x2_4)] → (∀ (x1_4' : Int32) (x2_4' : Int32) (H : Heap) (locs : List Loc) (ls : Array Slot), f_X0_tiesOf_L4 σ n x1_4 x2_4 = (x1_4', x2_4') → (0 ≤ x2_4'.toInt ∧ x2_4'.toInt ≤ (gi (ttb σ) 1).toInt) → wH (dL g) σ s H locs → lv_has ls 4 [(1, .int x1_4')] → W p l e ({ frames := 1, cells := 0, slots := 0, locals := 22 } : Room) s m args below meth c H locs 0 0 (MQ below (wQi (dL g) σ (f_X0_tiesOf σ) (fun u r => True)) args s 0 0 (dL g).2.2.2.1) (F0 m 66 ls [])) → W p l e ({ frames := 1, cells := 0, slots := 0, locals := 22 } : Room) s m args below meth c H locs 0 0 (MQ below (wQi (dL g) σ (f_X0_tiesOf σ) (fun u r => True)) args s 0 0 (dL g).2.2.2.1) (F0 m 4 ls []) := by
    intro n
    induction n with
    | zero =>
      intro x1_4 x2_4 H locs ls _ hm; exact absurd hm (Nat.not_lt_zero _)
    | succ n ih =>
      intro x1_4 x2_4 H locs ls hI4 hm h hl kk
      refine lv_iload_n hx hb dX0_tiesOf_4 rfl (lv_at hl 2 rfl) ?_
      refine lv_aload_n hx hb dX0_tiesOf_5 rfl (lv_at hl 0 rfl) ?_
      refine L_at (rest := [.int x2_4]) C h ⟨Nat.le_of_ble_eq_true rfl, Nat.le_of_ble_eq_true rfl⟩ hl.1 (Nat.le_of_ble_eq_true rfl) ⟨Nat.le_of_ble_eq_true rfl, Nat.le_of_ble_eq_true rfl⟩ dX0_tiesOf_6 (fun H locs h => ?_)
      refine L_t1 C h dX0_tiesOf_9 ?_
      refine lv_icmp_ge (tgt := 66) hx hb dX0_tiesOf_12 (by decide) (fun c12 => ?_) (fun c12 => ?_)
      · have i12 := c_le c12
        exact kk x1_4 x2_4 _ _ _ (show f_X0_tiesOf_L4 σ (n + 1) x1_4 x2_4 = (x1_4, x2_4) from (by exact ((if_pos c12).trans rfl)))  (by first | assumption | omega) h (lv_sub hl [1] rfl)
      · have i12 := c_nle c12
        refine lv_iconst (v := 0) hx hb dX0_tiesOf_15 (by decide) ?_
        refine lv_istore_n (lv' := [(3, .int (0 : Int32)), (0, .ref (g.2.2.1 99)), (1, .int x1_4), (2, .int x2_4)]) hx hb dX0_tiesOf_16 rfl hl (by decide) rfl (fun ls hl => ?_)
        have hL17 : ∀ (n : Nat) (x1_17 : Int32) (x3_17 : Int32) (H : Heap) (locs : List Loc) (ls : Array Slot), (0 ≤ x3_17.toInt ∧ x3_17.toInt ≤ x2_4.toInt) → (x2_4.toInt - x3_17.toInt).toNat < n → wH (dL g) σ s H locs → lv_has ls 4 [(0, .ref (g.2.2.1 99)), (1, .int x1_17), (2, .int x2_4), (3, .int x3_17)] → (∀ (x1_17' : Int32) (x3_17' : Int32) (H : Heap) (locs : List Loc) (ls : Array Slot), f_X0_tiesOf_L17 σ x2_4 n x1_17 x3_17 = (x1_17', x3_17') → (0 ≤ x3_17'.toInt ∧ x3_17'.toInt ≤ x2_4.toInt) → wH (dL g) σ s H locs → lv_has ls 4 [(0, .ref (g.2.2.1 99)), (1, .int x1_17'), (2, .int x2_4)] → W p l e ({ frames := 1, cells := 0, slots := 0, locals := 22 } : Room) s m args below meth c H locs 0 0 (MQ below (wQi (dL g) σ (f_X0_tiesOf σ) (fun u r => True)) args s 0 0 (dL g).2.2.2.1) (F0 m 60 ls [])) → W p l e ({ frames := 1, cells := 0, slots := 0, locals := 22 } : Room) s m args below meth c H locs 0 0 (MQ below (wQi (dL g) σ (f_X0_tiesOf σ) (fun u r => True)) args s 0 0 (dL g).2.2.2.1) (F0 m 17 ls []) := by
          intro n
          induction n with
          | zero =>
            intro x1_17 x3_17 H locs ls _ hm; exact absurd hm (Nat.not_lt_zero _)
          | succ n ih =>
            intro x1_17 x3_17 H locs ls hI17 hm h hl kk
            refine lv_iload_n hx hb dX0_tiesOf_17 rfl (lv_at hl 3 rfl) ?_
            refine lv_iload_n hx hb dX0_tiesOf_18 rfl (lv_at hl 2 rfl) ?_
            refine lv_icmp_ge (tgt := 60) hx hb dX0_tiesOf_19 (by decide) (fun c19 => ?_) (fun c19 => ?_)
            · have i19 := c_le c19
              exact kk x1_17 x3_17 _ _ _ (show f_X0_tiesOf_L17 σ x2_4 (n + 1) x1_17 x3_17 = (x1_17, x3_17) from (by exact ((if_pos c19).trans rfl)))  (by first | assumption | omega) h (lv_sub hl [0, 1, 2] rfl)
            · have i19 := c_nle c19
              refine lv_iload_n hx hb dX0_tiesOf_22 rfl (lv_at hl 1 rfl) ?_
              refine lv_aload_n hx hb dX0_tiesOf_23 rfl (lv_at hl 0 rfl) ?_
              refine L_at (rest := [.int x1_17]) C h ⟨Nat.le_of_ble_eq_true rfl, Nat.le_of_ble_eq_true rfl⟩ hl.1 (Nat.le_of_ble_eq_true rfl) ⟨Nat.le_of_ble_eq_true rfl, Nat.le_of_ble_eq_true rfl⟩ dX0_tiesOf_24 (fun H locs h => ?_)
              refine lv_iload_n hx hb dX0_tiesOf_27 rfl (lv_at hl 2 rfl) ?_
              refine lv_iload_n hx hb dX0_tiesOf_28 rfl (lv_at hl 3 rfl) ?_
              refine L_tcalli (As := [.int x2_4, .int x3_17]) (rest := [.int x1_17]) 2 C h (k_X5_owes l g.1 (ttb σ) x2_4 x3_17 (by first | assumption | omega) (by first | assumption | omega)) (lw_V q1243 q1144 q1145 q151 q1146) rfl rfl (by decide +kernel) ⟨Nat.le_of_ble_eq_true rfl, Nat.le_of_ble_eq_true rfl⟩ rfl hl.1 rfl (Nat.le_of_ble_eq_true rfl) ⟨Nat.le_of_ble_eq_true rfl, Nat.le_of_ble_eq_true rfl⟩ dX0_tiesOf_29 (fun r29 σ29 H locs eσ29 er29 hE29 h => ?_)
              have h : wH (dL g) σ s H locs := by rw [eσ29] at h; exact h
              clear hE29
              clear eσ29
              have j52 : ∀ (t0_52 : Int32) (H : Heap) (locs : List Loc) (ls : Array Slot) (ej52 : (if (0 : Int32) < r29 then ((1 : Int32)) else ((let r41 := (f_X5_owes (ttb σ) x3_17 x2_4); if r41 ≤ (0 : Int32) then ((0 : Int32)) else ((1 : Int32))))) = t0_52) (bt0_52 : t0_52 = 0 ∨ t0_52 = 1) (h : wH (dL g) σ s H locs) (hl : lv_has ls 4 [(0, .ref (g.2.2.1 99)), (2, .int x2_4), (3, .int x3_17)]), W p l e ({ frames := 1, cells := 0, slots := 0, locals := 22 } : Room) s m args below meth c H locs 0 0 (MQ below (wQi (dL g) σ (f_X0_tiesOf σ) (fun u r => True)) args s 0 0 (dL g).2.2.2.1) (F0 m 52 ls [.int t0_52, .int x1_17]) := by
                intro t0_52 H locs ls ej52 bt0_52 h hl
                have et0_52 := ej52.symm
                refine lv_iadd hx hb dX0_tiesOf_52 ?_
                refine lv_topi (fun v53 ev53 => ?_)
                refine lv_istore_n (lv' := [(1, .int v53), (0, .ref (g.2.2.1 99)), (2, .int x2_4), (3, .int x3_17)]) hx hb dX0_tiesOf_53 rfl hl (by decide) rfl (fun ls hl => ?_)
                refine lv_iinc (v := (x3_17 + (1 : Int32))) (lv' := [(3, .int (x3_17 + (1 : Int32))), (1, .int v53), (0, .ref (g.2.2.1 99)), (2, .int x2_4)]) hx hb dX0_tiesOf_54 hl (k := 3) rfl rfl (by decide) rfl (fun ls hl => ?_)
                refine lv_goto (tgt := 17) hx hb dX0_tiesOf_57 (by decide) ?_
                have tt3 : (x3_17 + (1 : Int32)).toInt = (x3_17.toInt + (1)) := (i_add (rfl : x3_17.toInt = x3_17.toInt) zl1 (by omega))
                exact ih v53 (x3_17 + (1 : Int32)) _ _ _  (by first | assumption | omega) (by omega) h (lv_sub hl [2, 1, 3, 0] rfl) (fun x1_17' x3_17' H locs ls en hI h hl => kk x1_17' x3_17' H locs ls ((show f_X0_tiesOf_L17 σ x2_4 (n + 1) x1_17 x3_17 = f_X0_tiesOf_L17 σ x2_4 n v53 (x3_17 + (1 : Int32)) from (by have er29 := er29.symm; subst er29; have et0_52 := et0_52.symm; subst et0_52; have ev53 := ev53.symm; subst ev53; exact ((if_neg c19).trans rfl))).trans en) hI h hl)
              refine lv_if_gt (tgt := 47) hx hb dX0_tiesOf_32 (by decide) (fun c32 => ?_) (fun c32 => ?_)
              · have i32 := c_lt c32
                refine lv_iconst (v := 1) hx hb dX0_tiesOf_47 (by decide) ?_
                refine lv_goto (tgt := 52) hx hb dX0_tiesOf_48 (by decide) ?_
                exact j52 _ _ _ _ (by exact ((if_pos c32).trans rfl)) (Or.inr rfl) h (lv_sub hl [0, 2, 3] rfl)
              · have i32 := c_nlt c32
                refine lv_aload_n hx hb dX0_tiesOf_35 rfl (lv_at hl 0 rfl) ?_
                refine L_at (rest := [.int x1_17]) C h ⟨Nat.le_of_ble_eq_true rfl, Nat.le_of_ble_eq_true rfl⟩ hl.1 (Nat.le_of_ble_eq_true rfl) ⟨Nat.le_of_ble_eq_true rfl, Nat.le_of_ble_eq_true rfl⟩ dX0_tiesOf_36 (fun H locs h => ?_)
                refine lv_iload_n hx hb dX0_tiesOf_39 rfl (lv_at hl 3 rfl) ?_
                refine lv_iload_n hx hb dX0_tiesOf_40 rfl (lv_at hl 2 rfl) ?_
                refine L_tcalli (As := [.int x3_17, .int x2_4]) (rest := [.int x1_17]) 2 C h (k_X5_owes l g.1 (ttb σ) x3_17 x2_4 (by first | assumption | omega) (by first | assumption | omega)) (lw_V q1243 q1144 q1145 q151 q1146) rfl rfl (by decide +kernel) ⟨Nat.le_of_ble_eq_true rfl, Nat.le_of_ble_eq_true rfl⟩ rfl hl.1 rfl (Nat.le_of_ble_eq_true rfl) ⟨Nat.le_of_ble_eq_true rfl, Nat.le_of_ble_eq_true rfl⟩ dX0_tiesOf_41 (fun r41 σ41 H locs eσ41 er41 hE41 h => ?_)
                have h : wH (dL g) σ s H locs := by rw [eσ41] at h; exact h
                clear hE41
                clear eσ41
                refine lv_if_le (tgt := 51) hx hb dX0_tiesOf_44 (by decide) (fun c44 => ?_) (fun c44 => ?_)
                · have i44 := c_le c44
                  refine lv_iconst (v := 0) hx hb dX0_tiesOf_51 (by decide) ?_
                  exact j52 _ _ _ _ (by have er41 := er41.symm; subst er41; exact ((if_neg c32).trans ((if_pos c44).trans rfl))) (Or.inl rfl) h (lv_sub hl [0, 2, 3] rfl)
                · have i44 := c_nle c44
                  refine lv_iconst (v := 1) hx hb dX0_tiesOf_47 (by decide) ?_
                  refine lv_goto (tgt := 52) hx hb dX0_tiesOf_48 (by decide) ?_
                  exact j52 _ _ _ _ (by have er41 := er41.symm; subst er41; exact ((if_neg c32).trans ((if_neg c44).trans rfl))) (Or.inr rfl) h (lv_sub hl [0, 2, 3] rfl)
        refine hL17 (7) x1_4 (0 : Int32) _ _ _  (by first | assumption | omega) (by omega) h (lv_sub hl [1, 2, 3, 0] rfl) (fun x1_17e x3_17e H locs ls eL17 hI17 h hl => ?_)
        have ex1_17e : x1_17e = (f_X0_tiesOf_L17 σ x2_4 (7) x1_4 (0 : Int32)).1 := by rw [eL17]
        have ex3_17e : x3_17e = (f_X0_tiesOf_L17 σ x2_4 (7) x1_4 (0 : Int32)).2 := by rw [eL17]
        refine lv_iinc (v := (x2_4 + (1 : Int32))) (lv' := [(2, .int (x2_4 + (1 : Int32))), (0, .ref (g.2.2.1 99)), (1, .int x1_17e)]) hx hb dX0_tiesOf_60 hl (k := 2) rfl rfl (by decide) rfl (fun ls hl => ?_)
        refine lv_goto (tgt := 4) hx hb dX0_tiesOf_63 (by decide) ?_
        have tt2 : (x2_4 + (1 : Int32)).toInt = (x2_4.toInt + (1)) := (i_add (rfl : x2_4.toInt = x2_4.toInt) zl1 (by omega))
        exact ih x1_17e (x2_4 + (1 : Int32)) _ _ _  (by first | assumption | omega) (by omega) h (lv_sub hl [1, 2, 0] rfl) (fun x1_4' x2_4' H locs ls en hI h hl => kk x1_4' x2_4' H locs ls ((show f_X0_tiesOf_L4 σ (n + 1) x1_4 x2_4 = f_X0_tiesOf_L4 σ n x1_17e (x2_4 + (1 : Int32)) from (by have ex1_17e := ex1_17e.symm; subst ex1_17e; have ex3_17e := ex3_17e.symm; subst ex3_17e; exact ((if_neg c12).trans rfl))).trans en) hI h hl)
  refine hL4 (7) (0 : Int32) (0 : Int32) _ _ _  (by first | assumption | omega) (by omega) h (lv_sub hl [2, 1, 0] rfl) (fun x1_4e x2_4e H locs ls eL4 hI4 h hl => ?_)
  have ex1_4e : x1_4e = (f_X0_tiesOf_L4 σ (7) (0 : Int32) (0 : Int32)).1 := by rw [eL4]
  have ex2_4e : x2_4e = (f_X0_tiesOf_L4 σ (7) (0 : Int32) (0 : Int32)).2 := by rw [eL4]
  refine lv_iload_n hx hb dX0_tiesOf_66 rfl (lv_at hl 0 rfl) ?_
  have he : f_X0_tiesOf σ = x1_4e := (by have ex1_4e := ex1_4e.symm; subst ex1_4e; have ex2_4e := ex2_4e.symm; subst ex2_4e; exact rfl)
  exact w_reti (wXL g) C h hr hlocks rfl he trivial dX0_tiesOf_67
def f_X0_ties (σ : MS × MS) : (MS × MS) × Int32 := (let σ2 := lsi σ 7 (0 : Int32); let r6 := (f_X0_tiesOf σ2); (σ2, r6))
set_option maxHeartbeats 4000000 in
set_option maxRecDepth 100000 in
theorem k_X0_ties (l : Launch) (g : GL) (σ : MS × MS) (hlp : 0 ≤ (gi (ttb σ) 1).toInt ∧ (gi (ttb σ) 1).toInt ≤ 6) (hld : 0 ≤ (gi (ttb σ) 3).toInt ∧ (gi (ttb σ) 3).toInt ≤ 16 ∧ (gi (ttb σ) 3).toInt ≤ (g.1.2.1 50 : Int)) : Met l yX0_ties (ws_ yX0_ties cX0_ties 1 (some .int)) ({ frames := 2, cells := 0, slots := 0, locals := 45 } : Room) (wPc (dL g) (g.2.2.1 99) σ []) (wQi (dL g) (f_X0_ties σ).1 (f_X0_ties σ).2 (fun u r => ((gi (ttb u) 1).toInt = (gi (ttb σ) 1).toInt) ∧ ((gi (ttb u) 3).toInt = (gi (ttb σ) 3).toInt))) 0 0 (dL g).2.2.2.1 := by
  refine met_W RX0 (by decide) rfl (Nat.le_of_ble_eq_true rfl) ?_
  intro p e s m args below meth c C hr hlocks h ls hl
  have hx := C.1.1
  have hb := C.1.2.1
  have hml := C.1.2.2.1
  have hown := C.1.2.2.2.1
  have hts := C.1.2.2.2.2
  have hl : lv_has ls 1 [(0, .ref (g.2.2.1 99))] := hl
  have hlpq : (gi (ttb σ) 1).toInt = (gi (ttb σ) 1).toInt := rfl
  have hldq : (gi (ttb σ) 3).toInt = (gi (ttb σ) 3).toInt := rfl
  have zl0 : (0 : Int32).toInt = 0 := rfl
  refine lv_aload_n hx hb dX0_ties_0 rfl (lv_at hl 0 rfl) ?_
  refine lv_iconst (v := 0) hx hb dX0_ties_1 (by decide) ?_
  refine L_p7 C h dX0_ties_2 (fun σ2 H locs eσ2 h => ?_)
  have hNEW : (0 ≤ (gi (ttb σ2) 1).toInt ∧ (gi (ttb σ2) 1).toInt ≤ 6) ∧ (0 ≤ (gi (ttb σ2) 3).toInt ∧ (gi (ttb σ2) 3).toInt ≤ 16 ∧ (gi (ttb σ2) 3).toInt ≤ (g.1.2.1 50 : Int)) ∧ ((gi (ttb σ2) 1).toInt = (gi (ttb σ) 1).toInt) ∧ ((gi (ttb σ2) 3).toInt = (gi (ttb σ) 3).toInt) := ⟨(by rw [eσ2] <;> exact hlp), (by rw [eσ2] <;> exact hld), (by rw [eσ2] <;> exact hlpq), (by rw [eσ2] <;> exact hldq)⟩
  obtain ⟨hlp, hld, hlpq, hldq⟩ := hNEW
  refine lv_aload_n hx hb dX0_ties_5 rfl (lv_at hl 0 rfl) ?_
  refine w_calli (ci := 0) (q0 := 6) (As := []) (rest := []) 0 (wXL g) C h (k_X0_tiesOf l g σ2 (by first | assumption | omega) (by first | assumption | omega)) (lw_V q1279 q1281 qs55 q144 q1282) rfl rfl rfl rfl (by decide +kernel) ⟨Nat.le_of_ble_eq_true rfl, Nat.le_of_ble_eq_true rfl⟩ rfl hl.1 rfl (Nat.le_of_ble_eq_true rfl) ⟨Nat.le_of_ble_eq_true rfl, Nat.le_of_ble_eq_true rfl⟩ dX0_ties_6 (fun r6 σ6 H locs eσ6 er6 hE6 h => ?_)
  rw [eσ6] at h
  clear hE6
  clear eσ6
  have he : f_X0_ties σ = (σ2, r6) := (by have eσ2 := eσ2.symm; subst eσ2; have er6 := er6.symm; subst er6; exact rfl)
  exact w_reti (wXL g) C h hr hlocks (congrArg Prod.fst he) (congrArg Prod.snd he) ⟨hlpq, hldq⟩ dX0_ties_9
def f_X0_extremeOf_L4 (σ : MS × MS) (y1_4 : Int32) : Nat → Int32 → Int32 → Int32 × Int32
  | 0, x2_4, x3_4 => (x2_4, x3_4)
  | n + 1, x2_4, x3_4 => if (gi (ttb σ) 1) ≤ x3_4 then ((x2_4, x3_4)) else (if x2_4 < (0 : Int32) then (f_X0_extremeOf_L4 σ y1_4 n x3_4 (x3_4 + (1 : Int32))) else (if y1_4 = (0 : Int32) then (if (ga (own σ) 17 x2_4) ≤ (ga (own σ) 17 x3_4) then (f_X0_extremeOf_L4 σ y1_4 n x2_4 (x3_4 + (1 : Int32))) else (f_X0_extremeOf_L4 σ y1_4 n x3_4 (x3_4 + (1 : Int32)))) else (if (ga (own σ) 17 x3_4) ≤ (ga (own σ) 17 x2_4) then (f_X0_extremeOf_L4 σ y1_4 n x2_4 (x3_4 + (1 : Int32))) else (f_X0_extremeOf_L4 σ y1_4 n x3_4 (x3_4 + (1 : Int32))))))
def f_X0_extremeOf (σ : MS × MS) (p1 : Int32) : Int32 := (let zL4 := f_X0_extremeOf_L4 σ p1 (7) (-1 : Int32) (0 : Int32); let x2_4e := zL4.1; let x3_4e := zL4.2; x2_4e)
set_option maxHeartbeats 4000000 in
set_option maxRecDepth 100000 in
theorem k_X0_extremeOf (l : Launch) (g : GL) (σ : MS × MS) (p1 : Int32) (hlp : 0 ≤ (gi (ttb σ) 1).toInt ∧ (gi (ttb σ) 1).toInt ≤ 6) (hld : 0 ≤ (gi (ttb σ) 3).toInt ∧ (gi (ttb σ) 3).toInt ≤ 16 ∧ (gi (ttb σ) 3).toInt ≤ (g.1.2.1 50 : Int)) : Met l yX0_extremeOf (ws_ yX0_extremeOf cX0_extremeOf 4 (some .int)) ({ frames := 1, cells := 0, slots := 0, locals := 20 } : Room) (wPc (dL g) (g.2.2.1 99) σ [.int p1]) (wQi (dL g) σ (f_X0_extremeOf σ p1) (fun u r => (-1 ≤ r.toInt ∧ r.toInt < (gi (ttb σ) 1).toInt))) 0 0 (dL g).2.2.2.1 := by
  refine met_W RX0 (by decide) rfl (Nat.le_of_ble_eq_true rfl) ?_
  intro p e s m args below meth c C hr hlocks h ls hl
  have hx := C.1.1
  have hb := C.1.2.1
  have hml := C.1.2.2.1
  have hown := C.1.2.2.2.1
  have hts := C.1.2.2.2.2
  have hl : lv_has ls 4 [(0, .ref (g.2.2.1 99)), (1, .int p1)] := hl
  have zlm1 : (-1 : Int32).toInt = -1 := rfl
  have zl0 : (0 : Int32).toInt = 0 := rfl
  have zl1 : (1 : Int32).toInt = 1 := rfl
  refine lv_iconst (v := -1) hx hb dX0_extremeOf_0 (by decide) ?_
  refine lv_istore_n (lv' := [(2, .int (-1 : Int32)), (0, .ref (g.2.2.1 99)), (1, .int p1)]) hx hb dX0_extremeOf_1 rfl hl (by decide) rfl (fun ls hl => ?_)
  refine lv_iconst (v := 0) hx hb dX0_extremeOf_2 (by decide) ?_
  refine lv_istore_n (lv' := [(3, .int (0 : Int32)), (2, .int (-1 : Int32)), (0, .ref (g.2.2.1 99)), (1, .int p1)]) hx hb dX0_extremeOf_3 rfl hl (by decide) rfl (fun ls hl => ?_)
  have hL4 : ∀ (n : Nat) (x2_4 : Int32) (x3_4 : Int32) (H : Heap) (locs : List Loc) (ls : Array Slot), (0 ≤ x3_4.toInt ∧ x3_4.toInt ≤ (gi (ttb σ) 1).toInt ∧ -1 ≤ x2_4.toInt ∧ x2_4.toInt < x3_4.toInt) → ((gi (ttb σ) 1).toInt - x3_4.toInt).toNat < n → wH (dL g) σ s H locs → lv_has ls 4 [(0, .ref (g.2.2.1 99)), (1, .int p1), (2, .int x2_4), (3, .int x3_4)] → (∀ (x2_4' : Int32) (x3_4' : Int32) (H : Heap) (locs : List Loc) (ls : Array Slot), f_X0_extremeOf_L4 σ p1 n x2_4 x3_4 = (x2_4', x3_4') → (-1 ≤ x2_4'.toInt ∧ x2_4'.toInt < (gi (ttb σ) 1).toInt) → wH (dL g) σ s H locs → lv_has ls 4 [(2, .int x2_4')] → W p l e ({ frames := 1, cells := 0, slots := 0, locals := 20 } : Room) s m args below meth c H locs 0 0 (MQ below (wQi (dL g) σ (f_X0_extremeOf σ p1) (fun u r => (-1 ≤ r.toInt ∧ r.toInt < (gi (ttb σ) 1).toInt))) args s 0 0 (dL g).2.2.2.1) (F0 m 64 ls [])) → W p l e ({ frames := 1, cells := 0, slots := 0, locals := 20 } : Room) s m args below meth c H locs 0 0 (MQ below (wQi (dL g) σ (f_X0_extremeOf σ p1) (fun u r => (-1 ≤ r.toInt ∧ r.toInt < (gi (ttb σ) 1).toInt))) args s 0 0 (dL g).2.2.2.1) (F0 m 4 ls []) := by
    intro n
    induction n with
    | zero =>
      intro x2_4 x3_4 H locs ls _ hm; exact absurd hm (Nat.not_lt_zero _)
    | succ n ih =>
      intro x2_4 x3_4 H locs ls hI4 hm h hl kk
      refine lv_iload_n hx hb dX0_extremeOf_4 rfl (lv_at hl 3 rfl) ?_
      refine lv_aload_n hx hb dX0_extremeOf_5 rfl (lv_at hl 0 rfl) ?_
      refine L_at (rest := [.int x3_4]) C h ⟨Nat.le_of_ble_eq_true rfl, Nat.le_of_ble_eq_true rfl⟩ hl.1 (Nat.le_of_ble_eq_true rfl) ⟨Nat.le_of_ble_eq_true rfl, Nat.le_of_ble_eq_true rfl⟩ dX0_extremeOf_6 (fun H locs h => ?_)
      refine L_t1 C h dX0_extremeOf_9 ?_
      refine lv_icmp_ge (tgt := 64) hx hb dX0_extremeOf_12 (by decide) (fun c12 => ?_) (fun c12 => ?_)
      · have i12 := c_le c12
        exact kk x2_4 x3_4 _ _ _ (show f_X0_extremeOf_L4 σ p1 (n + 1) x2_4 x3_4 = (x2_4, x3_4) from (by exact ((if_pos c12).trans rfl)))  (by omega) h (lv_sub hl [2] rfl)
      · have i12 := c_nle c12
        refine lv_iload_n hx hb dX0_extremeOf_15 rfl (lv_at hl 2 rfl) ?_
        refine lv_if_lt (tgt := 56) hx hb dX0_extremeOf_16 (by decide) (fun c16 => ?_) (fun c16 => ?_)
        · have i16 := c_lt c16
          refine lv_iload_n hx hb dX0_extremeOf_56 rfl (lv_at hl 3 rfl) ?_
          refine lv_istore_n (lv' := [(2, .int x3_4), (0, .ref (g.2.2.1 99)), (1, .int p1), (3, .int x3_4)]) hx hb dX0_extremeOf_57 rfl hl (by decide) rfl (fun ls hl => ?_)
          refine lv_iinc (v := (x3_4 + (1 : Int32))) (lv' := [(3, .int (x3_4 + (1 : Int32))), (2, .int x3_4), (0, .ref (g.2.2.1 99)), (1, .int p1)]) hx hb dX0_extremeOf_58 hl (k := 3) rfl rfl (by decide) rfl (fun ls hl => ?_)
          refine lv_goto (tgt := 4) hx hb dX0_extremeOf_61 (by decide) ?_
          have tt3 : (x3_4 + (1 : Int32)).toInt = (x3_4.toInt + (1)) := (i_add (rfl : x3_4.toInt = x3_4.toInt) zl1 (by omega))
          exact ih x3_4 (x3_4 + (1 : Int32)) _ _ _  (by first | assumption | omega) (by omega) h (lv_sub hl [2, 3, 1, 0] rfl) (fun x2_4' x3_4' H locs ls en hI h hl => kk x2_4' x3_4' H locs ls ((show f_X0_extremeOf_L4 σ p1 (n + 1) x2_4 x3_4 = f_X0_extremeOf_L4 σ p1 n x3_4 (x3_4 + (1 : Int32)) from (by exact ((if_neg c12).trans ((if_pos c16).trans rfl)))).trans en) hI h hl)
        · have i16 := c_nlt c16
          refine lv_iload_n hx hb dX0_extremeOf_19 rfl (lv_at hl 1 rfl) ?_
          refine lv_if_ne (tgt := 41) hx hb dX0_extremeOf_20 (by decide) (fun c20 => ?_) (fun c20 => ?_)
          · have i20 := c_ne c20
            refine lv_aload_n hx hb dX0_extremeOf_41 rfl (lv_at hl 0 rfl) ?_
            refine L_g17 C h dX0_extremeOf_42 ?_
            refine lv_iload_n hx hb dX0_extremeOf_45 rfl (lv_at hl 3 rfl) ?_
            refine L_l117 C h (ix_of (rfl : x3_4.toInt = x3_4.toInt) (by omega)) dX0_extremeOf_46 ?_
            refine lv_aload_n hx hb dX0_extremeOf_47 rfl (lv_at hl 0 rfl) ?_
            refine L_g17 C h dX0_extremeOf_48 ?_
            refine lv_iload_n hx hb dX0_extremeOf_51 rfl (lv_at hl 2 rfl) ?_
            refine L_l117 C h (ix_of (rfl : x2_4.toInt = x2_4.toInt) (by omega)) dX0_extremeOf_52 ?_
            refine lv_icmp_le (tgt := 58) hx hb dX0_extremeOf_53 (by decide) (fun c53 => ?_) (fun c53 => ?_)
            · have i53 := c_le c53
              refine lv_iinc (v := (x3_4 + (1 : Int32))) (lv' := [(3, .int (x3_4 + (1 : Int32))), (0, .ref (g.2.2.1 99)), (1, .int p1), (2, .int x2_4)]) hx hb dX0_extremeOf_58 hl (k := 3) rfl rfl (by decide) rfl (fun ls hl => ?_)
              refine lv_goto (tgt := 4) hx hb dX0_extremeOf_61 (by decide) ?_
              have tt3 : (x3_4 + (1 : Int32)).toInt = (x3_4.toInt + (1)) := (i_add (rfl : x3_4.toInt = x3_4.toInt) zl1 (by omega))
              exact ih x2_4 (x3_4 + (1 : Int32)) _ _ _  (by first | assumption | omega) (by omega) h (lv_sub hl [1, 2, 3, 0] rfl) (fun x2_4' x3_4' H locs ls en hI h hl => kk x2_4' x3_4' H locs ls ((show f_X0_extremeOf_L4 σ p1 (n + 1) x2_4 x3_4 = f_X0_extremeOf_L4 σ p1 n x2_4 (x3_4 + (1 : Int32)) from (by exact ((if_neg c12).trans ((if_neg c16).trans ((if_neg c20).trans ((if_pos c53).trans rfl)))))).trans en) hI h hl)
            · have i53 := c_nle c53
              refine lv_iload_n hx hb dX0_extremeOf_56 rfl (lv_at hl 3 rfl) ?_
              refine lv_istore_n (lv' := [(2, .int x3_4), (0, .ref (g.2.2.1 99)), (1, .int p1), (3, .int x3_4)]) hx hb dX0_extremeOf_57 rfl hl (by decide) rfl (fun ls hl => ?_)
              refine lv_iinc (v := (x3_4 + (1 : Int32))) (lv' := [(3, .int (x3_4 + (1 : Int32))), (2, .int x3_4), (0, .ref (g.2.2.1 99)), (1, .int p1)]) hx hb dX0_extremeOf_58 hl (k := 3) rfl rfl (by decide) rfl (fun ls hl => ?_)
              refine lv_goto (tgt := 4) hx hb dX0_extremeOf_61 (by decide) ?_
              have tt3 : (x3_4 + (1 : Int32)).toInt = (x3_4.toInt + (1)) := (i_add (rfl : x3_4.toInt = x3_4.toInt) zl1 (by omega))
              exact ih x3_4 (x3_4 + (1 : Int32)) _ _ _  (by first | assumption | omega) (by omega) h (lv_sub hl [2, 3, 1, 0] rfl) (fun x2_4' x3_4' H locs ls en hI h hl => kk x2_4' x3_4' H locs ls ((show f_X0_extremeOf_L4 σ p1 (n + 1) x2_4 x3_4 = f_X0_extremeOf_L4 σ p1 n x3_4 (x3_4 + (1 : Int32)) from (by exact ((if_neg c12).trans ((if_neg c16).trans ((if_neg c20).trans ((if_neg c53).trans rfl)))))).trans en) hI h hl)
          · have i20 := c_eq c20
            refine lv_aload_n hx hb dX0_extremeOf_23 rfl (lv_at hl 0 rfl) ?_
            refine L_g17 C h dX0_extremeOf_24 ?_
            refine lv_iload_n hx hb dX0_extremeOf_27 rfl (lv_at hl 3 rfl) ?_
            refine L_l117 C h (ix_of (rfl : x3_4.toInt = x3_4.toInt) (by omega)) dX0_extremeOf_28 ?_
            refine lv_aload_n hx hb dX0_extremeOf_29 rfl (lv_at hl 0 rfl) ?_
            refine L_g17 C h dX0_extremeOf_30 ?_
            refine lv_iload_n hx hb dX0_extremeOf_33 rfl (lv_at hl 2 rfl) ?_
            refine L_l117 C h (ix_of (rfl : x2_4.toInt = x2_4.toInt) (by omega)) dX0_extremeOf_34 ?_
            refine lv_icmp_ge (tgt := 58) hx hb dX0_extremeOf_35 (by decide) (fun c35 => ?_) (fun c35 => ?_)
            · have i35 := c_le c35
              refine lv_iinc (v := (x3_4 + (1 : Int32))) (lv' := [(3, .int (x3_4 + (1 : Int32))), (0, .ref (g.2.2.1 99)), (1, .int p1), (2, .int x2_4)]) hx hb dX0_extremeOf_58 hl (k := 3) rfl rfl (by decide) rfl (fun ls hl => ?_)
              refine lv_goto (tgt := 4) hx hb dX0_extremeOf_61 (by decide) ?_
              have tt3 : (x3_4 + (1 : Int32)).toInt = (x3_4.toInt + (1)) := (i_add (rfl : x3_4.toInt = x3_4.toInt) zl1 (by omega))
              exact ih x2_4 (x3_4 + (1 : Int32)) _ _ _  (by first | assumption | omega) (by omega) h (lv_sub hl [1, 2, 3, 0] rfl) (fun x2_4' x3_4' H locs ls en hI h hl => kk x2_4' x3_4' H locs ls ((show f_X0_extremeOf_L4 σ p1 (n + 1) x2_4 x3_4 = f_X0_extremeOf_L4 σ p1 n x2_4 (x3_4 + (1 : Int32)) from (by exact ((if_neg c12).trans ((if_neg c16).trans ((if_pos c20).trans ((if_pos c35).trans rfl)))))).trans en) hI h hl)
            · have i35 := c_nle c35
              refine lv_goto (tgt := 56) hx hb dX0_extremeOf_38 (by decide) ?_
              refine lv_iload_n hx hb dX0_extremeOf_56 rfl (lv_at hl 3 rfl) ?_
              refine lv_istore_n (lv' := [(2, .int x3_4), (0, .ref (g.2.2.1 99)), (1, .int p1), (3, .int x3_4)]) hx hb dX0_extremeOf_57 rfl hl (by decide) rfl (fun ls hl => ?_)
              refine lv_iinc (v := (x3_4 + (1 : Int32))) (lv' := [(3, .int (x3_4 + (1 : Int32))), (2, .int x3_4), (0, .ref (g.2.2.1 99)), (1, .int p1)]) hx hb dX0_extremeOf_58 hl (k := 3) rfl rfl (by decide) rfl (fun ls hl => ?_)
              refine lv_goto (tgt := 4) hx hb dX0_extremeOf_61 (by decide) ?_
              have tt3 : (x3_4 + (1 : Int32)).toInt = (x3_4.toInt + (1)) := (i_add (rfl : x3_4.toInt = x3_4.toInt) zl1 (by omega))
              exact ih x3_4 (x3_4 + (1 : Int32)) _ _ _  (by first | assumption | omega) (by omega) h (lv_sub hl [2, 3, 1, 0] rfl) (fun x2_4' x3_4' H locs ls en hI h hl => kk x2_4' x3_4' H locs ls ((show f_X0_extremeOf_L4 σ p1 (n + 1) x2_4 x3_4 = f_X0_extremeOf_L4 σ p1 n x3_4 (x3_4 + (1 : Int32)) from (by exact ((if_neg c12).trans ((if_neg c16).trans ((if_pos c20).trans ((if_neg c35).trans rfl)))))).trans en) hI h hl)
  refine hL4 (7) (-1 : Int32) (0 : Int32) _ _ _  (by first | assumption | omega) (by omega) h (lv_sub hl [2, 3, 1, 0] rfl) (fun x2_4e x3_4e H locs ls eL4 hI4 h hl => ?_)
  have ex2_4e : x2_4e = (f_X0_extremeOf_L4 σ p1 (7) (-1 : Int32) (0 : Int32)).1 := by rw [eL4]
  have ex3_4e : x3_4e = (f_X0_extremeOf_L4 σ p1 (7) (-1 : Int32) (0 : Int32)).2 := by rw [eL4]
  refine lv_iload_n hx hb dX0_extremeOf_64 rfl (lv_at hl 0 rfl) ?_
  have he : f_X0_extremeOf σ p1 = x2_4e := (by have ex2_4e := ex2_4e.symm; subst ex2_4e; have ex3_4e := ex3_4e.symm; subst ex3_4e; exact rfl)
  exact w_reti (wXL g) C h hr hlocks rfl he (by first | assumption | omega | (unfold Hd; omega)) dX0_extremeOf_65
def f_X0_extreme (σ : MS × MS) (p1 : Int32) : (MS × MS) × Int32 := (let r5 := (f_X0_isIn p1.toInt64 (0 : Int64) (1 : Int64)); (let z16_ : Int32 := (if r5 = (0 : Int32) then ((1 : Int32)) else ((0 : Int32))); let t0_16 := z16_; (let σ16 := lsi σ 7 t0_16; if (gi (own σ16) 7) ≤ (0 : Int32) then ((let σ29 := (f_X0_balances σ16); let r35 := (f_X0_extremeOf σ29 p1); let z38 := (f_X0_answer σ29 r35); let σ38 := z38.1; let r38 := z38.2; (σ38, r38))) else ((σ16, (-1 : Int32))))))
set_option maxHeartbeats 4000000 in
set_option maxRecDepth 100000 in
theorem k_X0_extreme (l : Launch) (g : GL) (σ : MS × MS) (p1 : Int32) (hlp : 0 ≤ (gi (ttb σ) 1).toInt ∧ (gi (ttb σ) 1).toInt ≤ 6) (hld : 0 ≤ (gi (ttb σ) 3).toInt ∧ (gi (ttb σ) 3).toInt ≤ 16 ∧ (gi (ttb σ) 3).toInt ≤ (g.1.2.1 50 : Int)) : Met l yX0_extreme (ws_ yX0_extreme cX0_extreme 2 (some .int)) ({ frames := 3, cells := 0, slots := 0, locals := 66 } : Room) (wPc (dL g) (g.2.2.1 99) σ [.int p1]) (wQi (dL g) (f_X0_extreme σ p1).1 (f_X0_extreme σ p1).2 (fun u r => ((gi (ttb u) 1).toInt = (gi (ttb σ) 1).toInt) ∧ ((gi (ttb u) 3).toInt = (gi (ttb σ) 3).toInt) ∧ (Fr [7, 13, 14, 15, 20] [16, 17, 18] (fun _ => False) (fun _ => False) (own σ) (own u)))) 0 0 (dL g).2.2.2.1 := by
  refine met_W RX0 (by decide) rfl (Nat.le_of_ble_eq_true rfl) ?_
  intro p e s m args below meth c C hr hlocks h ls hl
  have hx := C.1.1
  have hb := C.1.2.1
  have hml := C.1.2.2.1
  have hown := C.1.2.2.2.1
  have hts := C.1.2.2.2.2
  have hl : lv_has ls 2 [(0, .ref (g.2.2.1 99)), (1, .int p1)] := hl
  have hlpq : (gi (ttb σ) 1).toInt = (gi (ttb σ) 1).toInt := rfl
  have hldq : (gi (ttb σ) 3).toInt = (gi (ttb σ) 3).toInt := rfl
  have hBF : Fr [7, 13, 14, 15, 20] [16, 17, 18] (fun _ => False) (fun _ => False) (own σ) (own σ) := Fr.rf
  have zlm1 : (-1 : Int32).toInt = -1 := rfl
  have zl0 : (0 : Int32).toInt = 0 := rfl
  have zl1 : (1 : Int32).toInt = 1 := rfl
  refine lv_aload_n hx hb dX0_extreme_0 rfl (lv_at hl 0 rfl) ?_
  refine lv_iload_n hx hb dX0_extreme_1 rfl (lv_at hl 1 rfl) ?_
  refine lv_i2l (v := p1.toInt64) hx hb dX0_extreme_2 rfl ?_
  refine lv_lconst (v := 0) hx hb dX0_extreme_3 (by decide) ?_
  refine lv_lconst (v := 1) hx hb dX0_extreme_4 (by decide) ?_
  refine s_callz (As := [.long p1.toInt64, .long (0 : Int64), .long (1 : Int64)]) (rest := [.ref (g.2.2.1 99)]) 3 C.1 (k_X0_isIn l p1.toInt64 (0 : Int64) (1 : Int64)) (lw_S q994 q995 q144 q996) rfl rfl (by decide +kernel) ⟨Nat.le_of_ble_eq_true rfl, Nat.le_of_ble_eq_true rfl⟩ rfl hl.1 rfl (Nat.le_of_ble_eq_true rfl) ⟨Nat.le_of_ble_eq_true rfl, Nat.le_of_ble_eq_true rfl⟩ dX0_extreme_5 h.2.2.1 (fun r5 H locs er5 br5 hz1 hk1 hS1 => ?_)
  have h := h.same hk1 hS1
  clear hz1 hk1 hS1
  have j16 : ∀ (t0_16 : Int32) (H : Heap) (locs : List Loc) (ls : Array Slot) (ej16 : (if r5 = (0 : Int32) then ((1 : Int32)) else ((0 : Int32))) = t0_16) (bt0_16 : t0_16 = 0 ∨ t0_16 = 1) (h : wH (dL g) σ s H locs) (hl : lv_has ls 2 [(0, .ref (g.2.2.1 99)), (1, .int p1)]), W p l e ({ frames := 3, cells := 0, slots := 0, locals := 66 } : Room) s m args below meth c H locs 0 0 (MQ below (wQi (dL g) (f_X0_extreme σ p1).1 (f_X0_extreme σ p1).2 (fun u r => ((gi (ttb u) 1).toInt = (gi (ttb σ) 1).toInt) ∧ ((gi (ttb u) 3).toInt = (gi (ttb σ) 3).toInt) ∧ (Fr [7, 13, 14, 15, 20] [16, 17, 18] (fun _ => False) (fun _ => False) (own σ) (own u)))) args s 0 0 (dL g).2.2.2.1) (F0 m 16 ls [.int t0_16, .ref (g.2.2.1 99)]) := by
    intro t0_16 H locs ls ej16 bt0_16 h hl
    have et0_16 := ej16.symm
    refine L_p7 C h dX0_extreme_16 (fun σ16 H locs eσ16 h => ?_)
    have hNEW : (0 ≤ (gi (ttb σ16) 1).toInt ∧ (gi (ttb σ16) 1).toInt ≤ 6) ∧ (0 ≤ (gi (ttb σ16) 3).toInt ∧ (gi (ttb σ16) 3).toInt ≤ 16 ∧ (gi (ttb σ16) 3).toInt ≤ (g.1.2.1 50 : Int)) ∧ ((gi (ttb σ16) 1).toInt = (gi (ttb σ) 1).toInt) ∧ ((gi (ttb σ16) 3).toInt = (gi (ttb σ) 3).toInt) ∧ (Fr [7, 13, 14, 15, 20] [16, 17, 18] (fun _ => False) (fun _ => False) (own σ) (own σ16)) := ⟨(by rw [eσ16] <;> exact hlp), (by rw [eσ16] <;> exact hld), (by rw [eσ16] <;> exact hlpq), (by rw [eσ16] <;> exact hldq), (by rw [eσ16]; exact (Fr_si (by decide) hBF))⟩
    obtain ⟨hlp, hld, hlpq, hldq, hBF⟩ := hNEW
    have q7_16 : (gi (own σ16) 7).toInt = t0_16.toInt := by rw [eσ16]; rfl
    refine lv_aload_n hx hb dX0_extreme_19 rfl (lv_at hl 0 rfl) ?_
    refine L_g7 C h dX0_extreme_20 ?_
    refine lv_if_le (tgt := 28) hx hb dX0_extreme_23 (by decide) (fun c23 => ?_) (fun c23 => ?_)
    · have i23 := c_le c23
      refine lv_aload_n hx hb dX0_extreme_28 rfl (lv_at hl 0 rfl) ?_
      refine w_callv (ci := 0) (q0 := 6) (As := []) (rest := []) 0 (wXL g) C h (k_X0_balances l g σ16 (by first | assumption | omega) (by first | assumption | omega)) (lw_V q1268 q1270 qs54 q144 q1271) rfl rfl rfl rfl (by decide +kernel) ⟨Nat.le_of_ble_eq_true rfl, Nat.le_of_ble_eq_true rfl⟩ rfl hl.1 rfl (Nat.le_of_ble_eq_true rfl) ⟨Nat.le_of_ble_eq_true rfl, Nat.le_of_ble_eq_true rfl⟩ dX0_extreme_29 (fun σ29 H locs eσ29 hE29 h => ?_)
      have hE29 : ((gi (ttb σ29) 1).toInt = (gi (ttb σ16) 1).toInt) ∧ ((gi (ttb σ29) 3).toInt = (gi (ttb σ16) 3).toInt) ∧ (Fr [7, 13, 14, 15, 20] [16, 17, 18] (fun _ => False) (fun _ => False) (own σ16) (own σ29)) ∧ ((ttb σ29) = (ttb σ16)) := hE29
      obtain ⟨hlpq_29, hldq_29, hBF_29, hB2_29⟩ := hE29
      have hNEW : (0 ≤ (gi (ttb σ29) 1).toInt ∧ (gi (ttb σ29) 1).toInt ≤ 6) ∧ (0 ≤ (gi (ttb σ29) 3).toInt ∧ (gi (ttb σ29) 3).toInt ≤ 16 ∧ (gi (ttb σ29) 3).toInt ≤ (g.1.2.1 50 : Int)) ∧ ((gi (ttb σ29) 1).toInt = (gi (ttb σ) 1).toInt) ∧ ((gi (ttb σ29) 3).toInt = (gi (ttb σ) 3).toInt) ∧ (Fr [7, 13, 14, 15, 20] [16, 17, 18] (fun _ => False) (fun _ => False) (own σ) (own σ29)) := ⟨(by first | assumption | omega), (by first | assumption | omega), (by first | assumption | omega), (by first | assumption | omega), (Fr.tr hBF hBF_29)⟩
      clear hlp hld hlpq hldq hBF
      obtain ⟨hlp, hld, hlpq, hldq, hBF⟩ := hNEW
      refine lv_aload_n hx hb dX0_extreme_32 rfl (lv_at hl 0 rfl) ?_
      refine lv_aload_n hx hb dX0_extreme_33 rfl (lv_at hl 0 rfl) ?_
      refine lv_iload_n hx hb dX0_extreme_34 rfl (lv_at hl 1 rfl) ?_
      refine w_calli (ci := 0) (q0 := 6) (As := [.int p1]) (rest := [.ref (g.2.2.1 99)]) 1 (wXL g) C h (k_X0_extremeOf l g σ29 p1 (by first | assumption | omega) (by first | assumption | omega)) (lw_V q1287 q1289 qs56 q144 q1290) rfl rfl rfl rfl (by decide +kernel) ⟨Nat.le_of_ble_eq_true rfl, Nat.le_of_ble_eq_true rfl⟩ rfl hl.1 rfl (Nat.le_of_ble_eq_true rfl) ⟨Nat.le_of_ble_eq_true rfl, Nat.le_of_ble_eq_true rfl⟩ dX0_extreme_35 (fun r35 σ35 H locs eσ35 er35 hE35 h => ?_)
      rw [eσ35] at h
      have hE35 : (-1 ≤ r35.toInt ∧ r35.toInt < (gi (ttb σ29) 1).toInt) := hE35
      have erng_35 := hE35
      clear eσ35
      refine w_calli (ci := 0) (q0 := 6) (As := [.int r35]) (rest := []) 1 (wXL g) C h (k_X0_answer l g σ29 r35) (lw_V q1033 q1035 qs43 q144 q1036) rfl rfl rfl rfl (by decide +kernel) ⟨Nat.le_of_ble_eq_true rfl, Nat.le_of_ble_eq_true rfl⟩ rfl hl.1 rfl (Nat.le_of_ble_eq_true rfl) ⟨Nat.le_of_ble_eq_true rfl, Nat.le_of_ble_eq_true rfl⟩ dX0_extreme_38 (fun r38 σ38 H locs eσ38 er38 hE38 h => ?_)
      clear hE38
      have hNEW : (0 ≤ (gi (ttb σ38) 1).toInt ∧ (gi (ttb σ38) 1).toInt ≤ 6) ∧ (0 ≤ (gi (ttb σ38) 3).toInt ∧ (gi (ttb σ38) 3).toInt ≤ 16 ∧ (gi (ttb σ38) 3).toInt ≤ (g.1.2.1 50 : Int)) ∧ ((gi (ttb σ38) 1).toInt = (gi (ttb σ) 1).toInt) ∧ ((gi (ttb σ38) 3).toInt = (gi (ttb σ) 3).toInt) ∧ (Fr [7, 13, 14, 15, 20] [16, 17, 18] (fun _ => False) (fun _ => False) (own σ) (own σ38)) := ⟨(by rw [eσ38, lanswer_s] <;> exact hlp), (by rw [eσ38, lanswer_s] <;> exact hld), (by rw [eσ38, lanswer_s] <;> exact hlpq), (by rw [eσ38, lanswer_s] <;> exact hldq), (by rw [eσ38, lanswer_s]; exact Fr_si (by decide) hBF)⟩
      clear hlp hld hlpq hldq hBF
      obtain ⟨hlp, hld, hlpq, hldq, hBF⟩ := hNEW
      have he : f_X0_extreme σ p1 = (σ38, r38) := (by have er5 := er5.symm; subst er5; have et0_16 := et0_16.symm; subst et0_16; have eσ16 := eσ16.symm; subst eσ16; have eσ29 := eσ29.symm; subst eσ29; have er35 := er35.symm; subst er35; have eσ38 := eσ38.symm; subst eσ38; have er38 := er38.symm; subst er38; exact ((if_pos c23).trans rfl))
      exact w_reti (wXL g) C h hr hlocks (congrArg Prod.fst he) (congrArg Prod.snd he) ⟨hlpq, hldq, hBF⟩ dX0_extreme_41
    · have i23 := c_nle c23
      refine lv_iconst (v := -1) hx hb dX0_extreme_26 (by decide) ?_
      have he : f_X0_extreme σ p1 = (σ16, (-1 : Int32)) := (by have er5 := er5.symm; subst er5; have et0_16 := et0_16.symm; subst et0_16; have eσ16 := eσ16.symm; subst eσ16; exact ((if_neg c23).trans rfl))
      exact w_reti (wXL g) C h hr hlocks (congrArg Prod.fst he) (congrArg Prod.snd he) ⟨hlpq, hldq, hBF⟩ dX0_extreme_27
  refine lv_if_eq (tgt := 15) hx hb dX0_extreme_8 (by decide) (fun c8 => ?_) (fun c8 => ?_)
  · have i8 := c_eq c8
    refine lv_iconst (v := 1) hx hb dX0_extreme_15 (by decide) ?_
    exact j16 _ _ _ _ (by exact ((if_pos c8).trans rfl)) (Or.inr rfl) h hl
  · have i8 := c_ne c8
    have okr5 := lIsIn_ok er5 c8
    refine lv_iconst (v := 0) hx hb dX0_extreme_11 (by decide) ?_
    refine lv_goto (tgt := 16) hx hb dX0_extreme_12 (by decide) ?_
    exact j16 _ _ _ _ (by exact ((if_neg c8).trans rfl)) (Or.inl rfl) h hl
def f_X0_chain_L57 (σ : MS × MS) (y1_57 : Int32) (y2_57 : Int32) (y4_57 : Int32) : Nat → Int32 → Int32 → Int32 × Int32
  | 0, x3_57, x5_57 => (x3_57, x5_57)
  | n + 1, x3_57, x5_57 => if (gi (ttb σ) 1) ≤ x5_57 then ((x3_57, x5_57)) else ((let r72 := (f_X0_has y2_57 y4_57); if r72 = (0 : Int32) then (f_X0_chain_L57 σ y1_57 y2_57 y4_57 n x3_57 (x5_57 + (1 : Int32))) else (if y4_57 = x5_57 then (f_X0_chain_L57 σ y1_57 y2_57 y4_57 n x3_57 (x5_57 + (1 : Int32))) else ((let r93 := (f_X5_owes (ttb σ) y4_57 x5_57); if r93 ≤ (0 : Int32) then (f_X0_chain_L57 σ y1_57 y2_57 y4_57 n x3_57 (x5_57 + (1 : Int32))) else ((let v105 := (x3_57 ||| ((1 : Int32) <<< (x5_57 &&& (31 : Int32)))); f_X0_chain_L57 σ y1_57 y2_57 y4_57 n v105 (x5_57 + (1 : Int32)))))))))
def f_X0_chain_L42 (σ : MS × MS) (y1_42 : Int32) (y2_42 : Int32) : Nat → Int32 → Int32 → Int32 × Int32
  | 0, x3_42, x4_42 => (x3_42, x4_42)
  | n + 1, x3_42, x4_42 => if (gi (ttb σ) 1) ≤ x4_42 then ((x3_42, x4_42)) else ((let zL57 := f_X0_chain_L57 σ y1_42 y2_42 x4_42 (7) x3_42 (0 : Int32); let x3_57e := zL57.1; let x5_57e := zL57.2; f_X0_chain_L42 σ y1_42 y2_42 n x3_57e (x4_42 + (1 : Int32))))
def f_X0_chain_L32 (σ : MS × MS) (y1_32 : Int32) : Nat → Int32 → Int32 → Int32 × Int32
  | 0, x2_32, x3_32 => (x2_32, x3_32)
  | n + 1, x2_32, x3_32 => if x2_32 = x3_32 then ((x2_32, x3_32)) else ((let zL42 := f_X0_chain_L42 σ y1_32 x3_32 (7) x3_32 (0 : Int32); let x3_42e := zL42.1; let x4_42e := zL42.2; f_X0_chain_L32 σ y1_32 n x3_32 x3_42e))
def f_X0_chain (σ : MS × MS) (p1 : Int32) : (MS × MS) × Int32 := (let r3 := (f_X0_isPerson σ p1); (let z14_ : Int32 := (if r3 = (0 : Int32) then ((1 : Int32)) else ((0 : Int32))); let t0_14 := z14_; (let σ14 := lsi σ 7 t0_14; if (gi (own σ14) 7) ≤ (0 : Int32) then ((let v31 := ((1 : Int32) <<< (p1 &&& (31 : Int32))); (let zL32 := f_X0_chain_L32 σ14 p1 (131) (0 : Int32) v31; let x2_32e := zL32.1; let x3_32e := zL32.2; (σ14, (x2_32e &&& (((1 : Int32) <<< (p1 &&& (31 : Int32))) ^^^ (-1 : Int32))))))) else ((σ14, (-1 : Int32))))))
set_option maxHeartbeats 4000000 in
set_option maxRecDepth 100000 in
theorem k_X0_chain (l : Launch) (g : GL) (σ : MS × MS) (p1 : Int32) (hlp : 0 ≤ (gi (ttb σ) 1).toInt ∧ (gi (ttb σ) 1).toInt ≤ 6) (hld : 0 ≤ (gi (ttb σ) 3).toInt ∧ (gi (ttb σ) 3).toInt ≤ 16 ∧ (gi (ttb σ) 3).toInt ≤ (g.1.2.1 50 : Int)) : Met l yX0_chain (ws_ yX0_chain cX0_chain 6 (some .int)) ({ frames := 2, cells := 0, slots := 0, locals := 46 } : Room) (wPc (dL g) (g.2.2.1 99) σ [.int p1]) (wQi (dL g) (f_X0_chain σ p1).1 (f_X0_chain σ p1).2 (fun u r => ((gi (ttb u) 1).toInt = (gi (ttb σ) 1).toInt) ∧ ((gi (ttb u) 3).toInt = (gi (ttb σ) 3).toInt))) 0 0 (dL g).2.2.2.1 := by
  refine met_W RX0 (by decide) rfl (Nat.le_of_ble_eq_true rfl) ?_
  intro p e s m args below meth c C hr hlocks h ls hl
  have hx := C.1.1
  have hb := C.1.2.1
  have hml := C.1.2.2.1
  have hown := C.1.2.2.2.1
  have hts := C.1.2.2.2.2
  have hl : lv_has ls 6 [(0, .ref (g.2.2.1 99)), (1, .int p1)] := hl
  have hlpq : (gi (ttb σ) 1).toInt = (gi (ttb σ) 1).toInt := rfl
  have hldq : (gi (ttb σ) 3).toInt = (gi (ttb σ) 3).toInt := rfl
  have zlm1 : (-1 : Int32).toInt = -1 := rfl
  have zl0 : (0 : Int32).toInt = 0 := rfl
  have zl1 : (1 : Int32).toInt = 1 := rfl
  refine lv_aload_n hx hb dX0_chain_0 rfl (lv_at hl 0 rfl) ?_
  refine lv_aload_n hx hb dX0_chain_1 rfl (lv_at hl 0 rfl) ?_
  refine lv_iload_n hx hb dX0_chain_2 rfl (lv_at hl 1 rfl) ?_
  refine w_callz (ci := 0) (q0 := 6) (As := [.int p1]) (rest := [.ref (g.2.2.1 99)]) 1 (wXL g) C h (k_X0_isPerson l g σ p1 (by first | assumption | omega)) (lw_V q1024 q1026 qs41 q144 q1027) rfl rfl rfl rfl (by decide +kernel) ⟨Nat.le_of_ble_eq_true rfl, Nat.le_of_ble_eq_true rfl⟩ rfl hl.1 rfl (Nat.le_of_ble_eq_true rfl) ⟨Nat.le_of_ble_eq_true rfl, Nat.le_of_ble_eq_true rfl⟩ dX0_chain_3 (fun r3 σ3 H locs eσ3 er3 br3 hE3 h => ?_)
  rw [eσ3] at h
  clear hE3
  clear eσ3
  have j14 : ∀ (t0_14 : Int32) (H : Heap) (locs : List Loc) (ls : Array Slot) (ej14 : (if r3 = (0 : Int32) then ((1 : Int32)) else ((0 : Int32))) = t0_14) (bt0_14 : t0_14 = 0 ∨ t0_14 = 1) (hI14 : (0 < t0_14.toInt) ∨ (0 ≤ p1.toInt ∧ p1.toInt < (gi (ttb σ) 1).toInt)) (h : wH (dL g) σ s H locs) (hl : lv_has ls 6 [(0, .ref (g.2.2.1 99)), (1, .int p1)]), W p l e ({ frames := 2, cells := 0, slots := 0, locals := 46 } : Room) s m args below meth c H locs 0 0 (MQ below (wQi (dL g) (f_X0_chain σ p1).1 (f_X0_chain σ p1).2 (fun u r => ((gi (ttb u) 1).toInt = (gi (ttb σ) 1).toInt) ∧ ((gi (ttb u) 3).toInt = (gi (ttb σ) 3).toInt))) args s 0 0 (dL g).2.2.2.1) (F0 m 14 ls [.int t0_14, .ref (g.2.2.1 99)]) := by
    intro t0_14 H locs ls ej14 bt0_14 hI14 h hl
    have et0_14 := ej14.symm
    refine L_p7 C h dX0_chain_14 (fun σ14 H locs eσ14 h => ?_)
    have hNEW : (0 ≤ (gi (ttb σ14) 1).toInt ∧ (gi (ttb σ14) 1).toInt ≤ 6) ∧ (0 ≤ (gi (ttb σ14) 3).toInt ∧ (gi (ttb σ14) 3).toInt ≤ 16 ∧ (gi (ttb σ14) 3).toInt ≤ (g.1.2.1 50 : Int)) ∧ ((gi (ttb σ14) 1).toInt = (gi (ttb σ) 1).toInt) ∧ ((gi (ttb σ14) 3).toInt = (gi (ttb σ) 3).toInt) := ⟨(by rw [eσ14] <;> exact hlp), (by rw [eσ14] <;> exact hld), (by rw [eσ14] <;> exact hlpq), (by rw [eσ14] <;> exact hldq)⟩
    obtain ⟨hlp, hld, hlpq, hldq⟩ := hNEW
    have q7_14 : (gi (own σ14) 7).toInt = t0_14.toInt := by rw [eσ14]; rfl
    refine lv_aload_n hx hb dX0_chain_17 rfl (lv_at hl 0 rfl) ?_
    refine L_g7 C h dX0_chain_18 ?_
    refine lv_if_le (tgt := 26) hx hb dX0_chain_21 (by decide) (fun c21 => ?_) (fun c21 => ?_)
    · have i21 := c_le c21
      refine lv_iconst (v := 0) hx hb dX0_chain_26 (by decide) ?_
      refine lv_istore_n (lv' := [(2, .int (0 : Int32)), (0, .ref (g.2.2.1 99)), (1, .int p1)]) hx hb dX0_chain_27 rfl hl (by decide) rfl (fun ls hl => ?_)
      have hs1 := shl5_rng (b := p1) (by omega)
      refine lv_iconst (v := 1) hx hb dX0_chain_28 (by decide) ?_
      refine lv_iload_n hx hb dX0_chain_29 rfl (lv_at hl 2 rfl) ?_
      refine lv_ishl hx hb dX0_chain_30 ?_
      refine lv_topi (fun v31 ev31 => ?_)
      refine lv_istore_n (lv' := [(3, .int v31), (2, .int (0 : Int32)), (0, .ref (g.2.2.1 99)), (1, .int p1)]) hx hb dX0_chain_31 rfl hl (by decide) rfl (fun ls hl => ?_)
      have w31 : 1 ≤ v31.toInt ∧ v31.toInt ≤ 63 := by rw [ev31]; exact hs1
      have hL32 : ∀ (n : Nat) (x2_32 : Int32) (x3_32 : Int32) (H : Heap) (locs : List Loc) (ls : Array Slot), (1 ≤ x3_32.toInt ∧ x3_32.toInt ≤ 63 ∧ 0 ≤ x2_32.toInt ∧ x2_32.toInt ≤ x3_32.toInt) → (130 - x3_32.toInt - x2_32.toInt).toNat < n → wH (dL g) σ14 s H locs → lv_has ls 6 [(0, .ref (g.2.2.1 99)), (1, .int p1), (2, .int x2_32), (3, .int x3_32)] → (∀ (x2_32' : Int32) (x3_32' : Int32) (H : Heap) (locs : List Loc) (ls : Array Slot), f_X0_chain_L32 σ14 p1 n x2_32 x3_32 = (x2_32', x3_32') → (1 ≤ x3_32'.toInt ∧ x3_32'.toInt ≤ 63 ∧ 0 ≤ x2_32'.toInt ∧ x2_32'.toInt ≤ x3_32'.toInt) → wH (dL g) σ14 s H locs → lv_has ls 6 [(1, .int p1), (2, .int x2_32')] → W p l e ({ frames := 2, cells := 0, slots := 0, locals := 46 } : Room) s m args below meth c H locs 0 0 (MQ below (wQi (dL g) (f_X0_chain σ p1).1 (f_X0_chain σ p1).2 (fun u r => ((gi (ttb u) 1).toInt = (gi (ttb σ) 1).toInt) ∧ ((gi (ttb u) 3).toInt = (gi (ttb σ) 3).toInt))) args s 0 0 (dL g).2.2.2.1) (F0 m 121 ls [])) → W p l e ({ frames := 2, cells := 0, slots := 0, locals := 46 } : Room) s m args below meth c H locs 0 0 (MQ below (wQi (dL g) (f_X0_chain σ p1).1 (f_X0_chain σ p1).2 (fun u r => ((gi (ttb u) 1).toInt = (gi (ttb σ) 1).toInt) ∧ ((gi (ttb u) 3).toInt = (gi (ttb σ) 3).toInt))) args s 0 0 (dL g).2.2.2.1) (F0 m 32 ls []) := by
        intro n
        induction n with
        | zero =>
          intro x2_32 x3_32 H locs ls _ hm; exact absurd hm (Nat.not_lt_zero _)
        | succ n ih =>
          intro x2_32 x3_32 H locs ls hI32 hm h hl kk
          refine lv_iload_n hx hb dX0_chain_32 rfl (lv_at hl 2 rfl) ?_
          refine lv_iload_n hx hb dX0_chain_33 rfl (lv_at hl 3 rfl) ?_
          refine lv_icmp_eq (tgt := 121) hx hb dX0_chain_34 (by decide) (fun c34 => ?_) (fun c34 => ?_)
          · have i34 := c_eq c34
            exact kk x2_32 x3_32 _ _ _ (show f_X0_chain_L32 σ14 p1 (n + 1) x2_32 x3_32 = (x2_32, x3_32) from (by exact ((if_pos c34).trans rfl)))  (by first | assumption | omega) h (lv_sub hl [1, 2] rfl)
          · have i34 := c_ne c34
            refine lv_iload_n hx hb dX0_chain_37 rfl (lv_at hl 3 rfl) ?_
            refine lv_istore_n (lv' := [(2, .int x3_32), (0, .ref (g.2.2.1 99)), (1, .int p1), (3, .int x3_32)]) hx hb dX0_chain_38 rfl hl (by decide) rfl (fun ls hl => ?_)
            refine lv_iconst (v := 0) hx hb dX0_chain_39 (by decide) ?_
            refine lv_istore (lv' := [(4, .int (0 : Int32)), (2, .int x3_32), (0, .ref (g.2.2.1 99)), (1, .int p1), (3, .int x3_32)]) hx hb dX0_chain_40 hl (by decide) rfl (fun ls hl => ?_)
            have hL42 : ∀ (n : Nat) (x3_42 : Int32) (x4_42 : Int32) (H : Heap) (locs : List Loc) (ls : Array Slot), (0 ≤ x4_42.toInt ∧ x4_42.toInt ≤ (gi (ttb σ14) 1).toInt ∧ 1 ≤ x3_42.toInt ∧ x3_42.toInt ≤ 63 ∧ x3_32.toInt ≤ x3_42.toInt) → ((gi (ttb σ14) 1).toInt - x4_42.toInt).toNat < n → wH (dL g) σ14 s H locs → lv_has ls 6 [(0, .ref (g.2.2.1 99)), (1, .int p1), (2, .int x3_32), (3, .int x3_42), (4, .int x4_42)] → (∀ (x3_42' : Int32) (x4_42' : Int32) (H : Heap) (locs : List Loc) (ls : Array Slot), f_X0_chain_L42 σ14 p1 x3_32 n x3_42 x4_42 = (x3_42', x4_42') → (0 ≤ x4_42'.toInt ∧ x4_42'.toInt ≤ (gi (ttb σ14) 1).toInt ∧ 1 ≤ x3_42'.toInt ∧ x3_42'.toInt ≤ 63 ∧ x3_32.toInt ≤ x3_42'.toInt) → wH (dL g) σ14 s H locs → lv_has ls 6 [(0, .ref (g.2.2.1 99)), (1, .int p1), (2, .int x3_32), (3, .int x3_42')] → W p l e ({ frames := 2, cells := 0, slots := 0, locals := 46 } : Room) s m args below meth c H locs 0 0 (MQ below (wQi (dL g) (f_X0_chain σ p1).1 (f_X0_chain σ p1).2 (fun u r => ((gi (ttb u) 1).toInt = (gi (ttb σ) 1).toInt) ∧ ((gi (ttb u) 3).toInt = (gi (ttb σ) 3).toInt))) args s 0 0 (dL g).2.2.2.1) (F0 m 118 ls [])) → W p l e ({ frames := 2, cells := 0, slots := 0, locals := 46 } : Room) s m args below meth c H locs 0 0 (MQ below (wQi (dL g) (f_X0_chain σ p1).1 (f_X0_chain σ p1).2 (fun u r => ((gi (ttb u) 1).toInt = (gi (ttb σ) 1).toInt) ∧ ((gi (ttb u) 3).toInt = (gi (ttb σ) 3).toInt))) args s 0 0 (dL g).2.2.2.1) (F0 m 42 ls []) := by
              intro n
              induction n with
              | zero =>
                intro x3_42 x4_42 H locs ls _ hm; exact absurd hm (Nat.not_lt_zero _)
              | succ n ih =>
                intro x3_42 x4_42 H locs ls hI42 hm h hl kk
                refine lv_iload hx hb dX0_chain_42 (lv_at hl 4 rfl) ?_
                refine lv_aload_n hx hb dX0_chain_44 rfl (lv_at hl 0 rfl) ?_
                refine L_at (rest := [.int x4_42]) C h ⟨Nat.le_of_ble_eq_true rfl, Nat.le_of_ble_eq_true rfl⟩ hl.1 (Nat.le_of_ble_eq_true rfl) ⟨Nat.le_of_ble_eq_true rfl, Nat.le_of_ble_eq_true rfl⟩ dX0_chain_45 (fun H locs h => ?_)
                refine L_t1 C h dX0_chain_48 ?_
                refine lv_icmp_ge (tgt := 118) hx hb dX0_chain_51 (by decide) (fun c51 => ?_) (fun c51 => ?_)
                · have i51 := c_le c51
                  exact kk x3_42 x4_42 _ _ _ (show f_X0_chain_L42 σ14 p1 x3_32 (n + 1) x3_42 x4_42 = (x3_42, x4_42) from (by exact ((if_pos c51).trans rfl)))  (by first | assumption | omega) h (lv_sub hl [0, 1, 2, 3] rfl)
                · have i51 := c_nle c51
                  refine lv_iconst (v := 0) hx hb dX0_chain_54 (by decide) ?_
                  refine lv_istore (lv' := [(5, .int (0 : Int32)), (0, .ref (g.2.2.1 99)), (1, .int p1), (2, .int x3_32), (3, .int x3_42), (4, .int x4_42)]) hx hb dX0_chain_55 hl (by decide) rfl (fun ls hl => ?_)
                  have hL57 : ∀ (n : Nat) (x3_57 : Int32) (x5_57 : Int32) (H : Heap) (locs : List Loc) (ls : Array Slot), (0 ≤ x5_57.toInt ∧ x5_57.toInt ≤ (gi (ttb σ14) 1).toInt ∧ 1 ≤ x3_57.toInt ∧ x3_57.toInt ≤ 63 ∧ x3_32.toInt ≤ x3_57.toInt) → ((gi (ttb σ14) 1).toInt - x5_57.toInt).toNat < n → wH (dL g) σ14 s H locs → lv_has ls 6 [(0, .ref (g.2.2.1 99)), (1, .int p1), (2, .int x3_32), (3, .int x3_57), (4, .int x4_42), (5, .int x5_57)] → (∀ (x3_57' : Int32) (x5_57' : Int32) (H : Heap) (locs : List Loc) (ls : Array Slot), f_X0_chain_L57 σ14 p1 x3_32 x4_42 n x3_57 x5_57 = (x3_57', x5_57') → (0 ≤ x5_57'.toInt ∧ x5_57'.toInt ≤ (gi (ttb σ14) 1).toInt ∧ 1 ≤ x3_57'.toInt ∧ x3_57'.toInt ≤ 63 ∧ x3_32.toInt ≤ x3_57'.toInt) → wH (dL g) σ14 s H locs → lv_has ls 6 [(0, .ref (g.2.2.1 99)), (1, .int p1), (2, .int x3_32), (3, .int x3_57'), (4, .int x4_42)] → W p l e ({ frames := 2, cells := 0, slots := 0, locals := 46 } : Room) s m args below meth c H locs 0 0 (MQ below (wQi (dL g) (f_X0_chain σ p1).1 (f_X0_chain σ p1).2 (fun u r => ((gi (ttb u) 1).toInt = (gi (ttb σ) 1).toInt) ∧ ((gi (ttb u) 3).toInt = (gi (ttb σ) 3).toInt))) args s 0 0 (dL g).2.2.2.1) (F0 m 112 ls [])) → W p l e ({ frames := 2, cells := 0, slots := 0, locals := 46 } : Room) s m args below meth c H locs 0 0 (MQ below (wQi (dL g) (f_X0_chain σ p1).1 (f_X0_chain σ p1).2 (fun u r => ((gi (ttb u) 1).toInt = (gi (ttb σ) 1).toInt) ∧ ((gi (ttb u) 3).toInt = (gi (ttb σ) 3).toInt))) args s 0 0 (dL g).2.2.2.1) (F0 m 57 ls []) := by
                    intro n
                    induction n with
                    | zero =>
                      intro x3_57 x5_57 H locs ls _ hm; exact absurd hm (Nat.not_lt_zero _)
                    | succ n ih =>
                      intro x3_57 x5_57 H locs ls hI57 hm h hl kk
                      refine lv_iload hx hb dX0_chain_57 (lv_at hl 5 rfl) ?_
                      refine lv_aload_n hx hb dX0_chain_59 rfl (lv_at hl 0 rfl) ?_
                      refine L_at (rest := [.int x5_57]) C h ⟨Nat.le_of_ble_eq_true rfl, Nat.le_of_ble_eq_true rfl⟩ hl.1 (Nat.le_of_ble_eq_true rfl) ⟨Nat.le_of_ble_eq_true rfl, Nat.le_of_ble_eq_true rfl⟩ dX0_chain_60 (fun H locs h => ?_)
                      refine L_t1 C h dX0_chain_63 ?_
                      refine lv_icmp_ge (tgt := 112) hx hb dX0_chain_66 (by decide) (fun c66 => ?_) (fun c66 => ?_)
                      · have i66 := c_le c66
                        exact kk x3_57 x5_57 _ _ _ (show f_X0_chain_L57 σ14 p1 x3_32 x4_42 (n + 1) x3_57 x5_57 = (x3_57, x5_57) from (by exact ((if_pos c66).trans rfl)))  (by first | assumption | omega) h (lv_sub hl [0, 1, 2, 3, 4] rfl)
                      · have i66 := c_nle c66
                        refine lv_iload_n hx hb dX0_chain_69 rfl (lv_at hl 2 rfl) ?_
                        refine lv_iload hx hb dX0_chain_70 (lv_at hl 4 rfl) ?_
                        refine s_callz (As := [.int x3_32, .int x4_42]) (rest := []) 2 C.1 (k_X0_has l x3_32 x4_42) (lw_S q1219 q1220 q144 q1221) rfl rfl (by decide +kernel) ⟨Nat.le_of_ble_eq_true rfl, Nat.le_of_ble_eq_true rfl⟩ rfl hl.1 rfl (Nat.le_of_ble_eq_true rfl) ⟨Nat.le_of_ble_eq_true rfl, Nat.le_of_ble_eq_true rfl⟩ dX0_chain_72 h.2.2.1 (fun r72 H locs er72 br72 hz1 hk1 hS1 => ?_)
                        have h := h.same hk1 hS1
                        clear hz1 hk1 hS1
                        refine lv_if_eq (tgt := 106) hx hb dX0_chain_75 (by decide) (fun c75 => ?_) (fun c75 => ?_)
                        · have i75 := c_eq c75
                          refine lv_iinc (v := (x5_57 + (1 : Int32))) (lv' := [(5, .int (x5_57 + (1 : Int32))), (0, .ref (g.2.2.1 99)), (1, .int p1), (2, .int x3_32), (3, .int x3_57), (4, .int x4_42)]) hx hb dX0_chain_106 hl (k := 5) rfl rfl (by decide) rfl (fun ls hl => ?_)
                          refine lv_goto (tgt := 57) hx hb dX0_chain_109 (by decide) ?_
                          have tt5 : (x5_57 + (1 : Int32)).toInt = (x5_57.toInt + (1)) := (i_add (rfl : x5_57.toInt = x5_57.toInt) zl1 (by omega))
                          exact ih x3_57 (x5_57 + (1 : Int32)) _ _ _  (by first | assumption | omega) (by omega) h (lv_sub hl [1, 2, 3, 4, 5, 0] rfl) (fun x3_57' x5_57' H locs ls en hI h hl => kk x3_57' x5_57' H locs ls ((show f_X0_chain_L57 σ14 p1 x3_32 x4_42 (n + 1) x3_57 x5_57 = f_X0_chain_L57 σ14 p1 x3_32 x4_42 n x3_57 (x5_57 + (1 : Int32)) from (by have er72 := er72.symm; subst er72; exact ((if_neg c66).trans ((if_pos c75).trans rfl)))).trans en) hI h hl)
                        · have i75 := c_ne c75
                          have okr72 := lhas_ok er72 c75
                          refine lv_iload hx hb dX0_chain_78 (lv_at hl 4 rfl) ?_
                          refine lv_iload hx hb dX0_chain_80 (lv_at hl 5 rfl) ?_
                          refine lv_icmp_eq (tgt := 106) hx hb dX0_chain_82 (by decide) (fun c82 => ?_) (fun c82 => ?_)
                          · have i82 := c_eq c82
                            refine lv_iinc (v := (x5_57 + (1 : Int32))) (lv' := [(5, .int (x5_57 + (1 : Int32))), (0, .ref (g.2.2.1 99)), (1, .int p1), (2, .int x3_32), (3, .int x3_57), (4, .int x4_42)]) hx hb dX0_chain_106 hl (k := 5) rfl rfl (by decide) rfl (fun ls hl => ?_)
                            refine lv_goto (tgt := 57) hx hb dX0_chain_109 (by decide) ?_
                            have tt5 : (x5_57 + (1 : Int32)).toInt = (x5_57.toInt + (1)) := (i_add (rfl : x5_57.toInt = x5_57.toInt) zl1 (by omega))
                            exact ih x3_57 (x5_57 + (1 : Int32)) _ _ _  (by first | assumption | omega) (by omega) h (lv_sub hl [1, 2, 3, 4, 5, 0] rfl) (fun x3_57' x5_57' H locs ls en hI h hl => kk x3_57' x5_57' H locs ls ((show f_X0_chain_L57 σ14 p1 x3_32 x4_42 (n + 1) x3_57 x5_57 = f_X0_chain_L57 σ14 p1 x3_32 x4_42 n x3_57 (x5_57 + (1 : Int32)) from (by have er72 := er72.symm; subst er72; exact ((if_neg c66).trans ((if_neg c75).trans ((if_pos c82).trans rfl))))).trans en) hI h hl)
                          · have i82 := c_ne c82
                            refine lv_aload_n hx hb dX0_chain_85 rfl (lv_at hl 0 rfl) ?_
                            refine L_at (rest := []) C h ⟨Nat.le_of_ble_eq_true rfl, Nat.le_of_ble_eq_true rfl⟩ hl.1 (Nat.le_of_ble_eq_true rfl) ⟨Nat.le_of_ble_eq_true rfl, Nat.le_of_ble_eq_true rfl⟩ dX0_chain_86 (fun H locs h => ?_)
                            refine lv_iload hx hb dX0_chain_89 (lv_at hl 4 rfl) ?_
                            refine lv_iload hx hb dX0_chain_91 (lv_at hl 5 rfl) ?_
                            refine L_tcalli (As := [.int x4_42, .int x5_57]) (rest := []) 2 C h (k_X5_owes l g.1 (ttb σ14) x4_42 x5_57 (by first | assumption | omega) (by first | assumption | omega)) (lw_V q1243 q1144 q1145 q151 q1146) rfl rfl (by decide +kernel) ⟨Nat.le_of_ble_eq_true rfl, Nat.le_of_ble_eq_true rfl⟩ rfl hl.1 rfl (Nat.le_of_ble_eq_true rfl) ⟨Nat.le_of_ble_eq_true rfl, Nat.le_of_ble_eq_true rfl⟩ dX0_chain_93 (fun r93 σ93 H locs eσ93 er93 hE93 h => ?_)
                            have h : wH (dL g) σ14 s H locs := by rw [eσ93] at h; exact h
                            clear hE93
                            clear eσ93
                            refine lv_if_le (tgt := 106) hx hb dX0_chain_96 (by decide) (fun c96 => ?_) (fun c96 => ?_)
                            · have i96 := c_le c96
                              refine lv_iinc (v := (x5_57 + (1 : Int32))) (lv' := [(5, .int (x5_57 + (1 : Int32))), (0, .ref (g.2.2.1 99)), (1, .int p1), (2, .int x3_32), (3, .int x3_57), (4, .int x4_42)]) hx hb dX0_chain_106 hl (k := 5) rfl rfl (by decide) rfl (fun ls hl => ?_)
                              refine lv_goto (tgt := 57) hx hb dX0_chain_109 (by decide) ?_
                              have tt5 : (x5_57 + (1 : Int32)).toInt = (x5_57.toInt + (1)) := (i_add (rfl : x5_57.toInt = x5_57.toInt) zl1 (by omega))
                              exact ih x3_57 (x5_57 + (1 : Int32)) _ _ _  (by first | assumption | omega) (by omega) h (lv_sub hl [1, 2, 3, 4, 5, 0] rfl) (fun x3_57' x5_57' H locs ls en hI h hl => kk x3_57' x5_57' H locs ls ((show f_X0_chain_L57 σ14 p1 x3_32 x4_42 (n + 1) x3_57 x5_57 = f_X0_chain_L57 σ14 p1 x3_32 x4_42 n x3_57 (x5_57 + (1 : Int32)) from (by have er72 := er72.symm; subst er72; have er93 := er93.symm; subst er93; exact ((if_neg c66).trans ((if_neg c75).trans ((if_neg c82).trans ((if_pos c96).trans rfl)))))).trans en) hI h hl)
                            · have i96 := c_nle c96
                              refine lv_iload_n hx hb dX0_chain_99 rfl (lv_at hl 3 rfl) ?_
                              refine lv_iconst (v := 1) hx hb dX0_chain_100 (by decide) ?_
                              refine lv_iload hx hb dX0_chain_101 (lv_at hl 5 rfl) ?_
                              refine lv_ishl hx hb dX0_chain_103 ?_
                              refine lv_ior hx hb dX0_chain_104 ?_
                              refine lv_topi (fun v105 ev105 => ?_)
                              refine lv_istore_n (lv' := [(3, .int v105), (0, .ref (g.2.2.1 99)), (1, .int p1), (2, .int x3_32), (4, .int x4_42), (5, .int x5_57)]) hx hb dX0_chain_105 rfl hl (by decide) rfl (fun ls hl => ?_)
                              have w105 : x3_57.toInt ≤ v105.toInt ∧ v105.toInt ≤ 63 := by rw [ev105]; exact or_rng (by omega) (by omega)
                              refine lv_iinc (v := (x5_57 + (1 : Int32))) (lv' := [(5, .int (x5_57 + (1 : Int32))), (3, .int v105), (0, .ref (g.2.2.1 99)), (1, .int p1), (2, .int x3_32), (4, .int x4_42)]) hx hb dX0_chain_106 hl (k := 5) rfl rfl (by decide) rfl (fun ls hl => ?_)
                              refine lv_goto (tgt := 57) hx hb dX0_chain_109 (by decide) ?_
                              have tt5 : (x5_57 + (1 : Int32)).toInt = (x5_57.toInt + (1)) := (i_add (rfl : x5_57.toInt = x5_57.toInt) zl1 (by omega))
                              exact ih v105 (x5_57 + (1 : Int32)) _ _ _  (by first | assumption | omega) (by omega) h (lv_sub hl [2, 3, 4, 1, 5, 0] rfl) (fun x3_57' x5_57' H locs ls en hI h hl => kk x3_57' x5_57' H locs ls ((show f_X0_chain_L57 σ14 p1 x3_32 x4_42 (n + 1) x3_57 x5_57 = f_X0_chain_L57 σ14 p1 x3_32 x4_42 n v105 (x5_57 + (1 : Int32)) from (by have er72 := er72.symm; subst er72; have er93 := er93.symm; subst er93; have ev105 := ev105.symm; subst ev105; exact ((if_neg c66).trans ((if_neg c75).trans ((if_neg c82).trans ((if_neg c96).trans rfl)))))).trans en) hI h hl)
                  refine hL57 (7) x3_42 (0 : Int32) _ _ _  (by first | assumption | omega) (by omega) h (lv_sub hl [1, 2, 3, 4, 5, 0] rfl) (fun x3_57e x5_57e H locs ls eL57 hI57 h hl => ?_)
                  have ex3_57e : x3_57e = (f_X0_chain_L57 σ14 p1 x3_32 x4_42 (7) x3_42 (0 : Int32)).1 := by rw [eL57]
                  have ex5_57e : x5_57e = (f_X0_chain_L57 σ14 p1 x3_32 x4_42 (7) x3_42 (0 : Int32)).2 := by rw [eL57]
                  refine lv_iinc (v := (x4_42 + (1 : Int32))) (lv' := [(4, .int (x4_42 + (1 : Int32))), (0, .ref (g.2.2.1 99)), (1, .int p1), (2, .int x3_32), (3, .int x3_57e)]) hx hb dX0_chain_112 hl (k := 4) rfl rfl (by decide) rfl (fun ls hl => ?_)
                  refine lv_goto (tgt := 42) hx hb dX0_chain_115 (by decide) ?_
                  have tt4 : (x4_42 + (1 : Int32)).toInt = (x4_42.toInt + (1)) := (i_add (rfl : x4_42.toInt = x4_42.toInt) zl1 (by omega))
                  exact ih x3_57e (x4_42 + (1 : Int32)) _ _ _  (by first | assumption | omega) (by omega) h (lv_sub hl [1, 2, 3, 4, 0] rfl) (fun x3_42' x4_42' H locs ls en hI h hl => kk x3_42' x4_42' H locs ls ((show f_X0_chain_L42 σ14 p1 x3_32 (n + 1) x3_42 x4_42 = f_X0_chain_L42 σ14 p1 x3_32 n x3_57e (x4_42 + (1 : Int32)) from (by have ex3_57e := ex3_57e.symm; subst ex3_57e; have ex5_57e := ex5_57e.symm; subst ex5_57e; exact ((if_neg c51).trans rfl))).trans en) hI h hl)
            refine hL42 (7) x3_32 (0 : Int32) _ _ _  (by first | assumption | omega) (by omega) h (lv_sub hl [2, 3, 1, 4, 0] rfl) (fun x3_42e x4_42e H locs ls eL42 hI42 h hl => ?_)
            have ex3_42e : x3_42e = (f_X0_chain_L42 σ14 p1 x3_32 (7) x3_32 (0 : Int32)).1 := by rw [eL42]
            have ex4_42e : x4_42e = (f_X0_chain_L42 σ14 p1 x3_32 (7) x3_32 (0 : Int32)).2 := by rw [eL42]
            refine lv_goto (tgt := 32) hx hb dX0_chain_118 (by decide) ?_
            exact ih x3_32 x3_42e _ _ _  (by first | assumption | omega) (by omega) h hl (fun x2_32' x3_32' H locs ls en hI h hl => kk x2_32' x3_32' H locs ls ((show f_X0_chain_L32 σ14 p1 (n + 1) x2_32 x3_32 = f_X0_chain_L32 σ14 p1 n x3_32 x3_42e from (by have ex3_42e := ex3_42e.symm; subst ex3_42e; have ex4_42e := ex4_42e.symm; subst ex4_42e; exact ((if_neg c34).trans rfl))).trans en) hI h hl)
      refine hL32 (131) (0 : Int32) v31 _ _ _  (by first | assumption | omega) (by omega) h (lv_sub hl [2, 3, 1, 0] rfl) (fun x2_32e x3_32e H locs ls eL32 hI32 h hl => ?_)
      have ex2_32e : x2_32e = (f_X0_chain_L32 σ14 p1 (131) (0 : Int32) v31).1 := by rw [eL32]
      have ex3_32e : x3_32e = (f_X0_chain_L32 σ14 p1 (131) (0 : Int32) v31).2 := by rw [eL32]
      refine lv_iload_n hx hb dX0_chain_121 rfl (lv_at hl 1 rfl) ?_
      refine lv_iconst (v := 1) hx hb dX0_chain_122 (by decide) ?_
      refine lv_iload_n hx hb dX0_chain_123 rfl (lv_at hl 0 rfl) ?_
      refine lv_ishl hx hb dX0_chain_124 ?_
      refine lv_iconst (v := -1) hx hb dX0_chain_125 (by decide) ?_
      refine lv_ixor hx hb dX0_chain_126 ?_
      refine lv_iand hx hb dX0_chain_127 ?_
      have he : f_X0_chain σ p1 = (σ14, (x2_32e &&& (((1 : Int32) <<< (p1 &&& (31 : Int32))) ^^^ (-1 : Int32)))) := (by have er3 := er3.symm; subst er3; have et0_14 := et0_14.symm; subst et0_14; have eσ14 := eσ14.symm; subst eσ14; have ev31 := ev31.symm; subst ev31; have ex2_32e := ex2_32e.symm; subst ex2_32e; have ex3_32e := ex3_32e.symm; subst ex3_32e; exact ((if_pos c21).trans rfl))
      exact w_reti (wXL g) C h hr hlocks (congrArg Prod.fst he) (congrArg Prod.snd he) ⟨hlpq, hldq⟩ dX0_chain_128
    · have i21 := c_nle c21
      refine lv_iconst (v := -1) hx hb dX0_chain_24 (by decide) ?_
      have he : f_X0_chain σ p1 = (σ14, (-1 : Int32)) := (by have er3 := er3.symm; subst er3; have et0_14 := et0_14.symm; subst et0_14; have eσ14 := eσ14.symm; subst eσ14; exact ((if_neg c21).trans rfl))
      exact w_reti (wXL g) C h hr hlocks (congrArg Prod.fst he) (congrArg Prod.snd he) ⟨hlpq, hldq⟩ dX0_chain_25
  refine lv_if_eq (tgt := 13) hx hb dX0_chain_6 (by decide) (fun c6 => ?_) (fun c6 => ?_)
  · have i6 := c_eq c6
    refine lv_iconst (v := 1) hx hb dX0_chain_13 (by decide) ?_
    exact j14 _ _ _ _ (by exact ((if_pos c6).trans rfl)) (Or.inr rfl) (by first | assumption | omega) h hl
  · have i6 := c_ne c6
    have okr3 := lIsPerson_ok hlp er3 c6
    refine lv_iconst (v := 0) hx hb dX0_chain_9 (by decide) ?_
    refine lv_goto (tgt := 14) hx hb dX0_chain_10 (by decide) ?_
    exact j14 _ _ _ _ (by exact ((if_neg c6).trans rfl)) (Or.inl rfl) (by first | assumption | omega) h hl
