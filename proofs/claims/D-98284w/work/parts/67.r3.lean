/-! walks of methods by contract, printed by gen/mkwalk.py -/
set_option maxRecDepth 100000
def f_X7_name_L41 (σ : MS × MS) : Nat → Int64 → Int32 → Int64 × Int32
  | 0, x1_41, x3_41 => (x1_41, x3_41)
  | n + 1, x1_41, x3_41 => if (gi (own σ) 2) ≤ x3_41 then ((x1_41, x3_41)) else ((let v69 := (((x1_41 * (32 : Int64)) + (ga (own σ) 1 x3_41).toInt64) - (96 : Int64)); f_X7_name_L41 σ n v69 (x3_41 + (1 : Int32))))
def f_X7_name (σ : MS × MS) : ((MS × MS) × Int64) × Bool := if (gi (own σ) 3) = (1 : Int32) then (if (8 : Int32) < ((gi (own σ) 2) - (gi (own σ) 1)) then ((let σ30 := (f_X7_wrong σ); ((σ30, 0), true))) else ((let r23 := (f_X7_isKept σ); if r23 = (0 : Int32) then ((let v40 := (gi (own σ) 1); (let zL41 := f_X7_name_L41 σ (901) (0 : Int64) v40; let x1_41e := zL41.1; let x3_41e := zL41.2; ((σ, x1_41e), false)))) else ((let σ30 := (f_X7_wrong σ); ((σ30, 0), true)))))) else ((let σ30 := (f_X7_wrong σ); ((σ30, 0), true)))
set_option maxHeartbeats 4000000 in
set_option maxRecDepth 100000 in
theorem k_X7_name (l : Launch) (g : GR) (σ : MS × MS) (hlp : 0 ≤ (gi (ttb σ) 1).toInt ∧ (gi (ttb σ) 1).toInt ≤ 6) (hld : 0 ≤ (gi (ttb σ) 3).toInt ∧ (gi (ttb σ) 3).toInt ≤ 16 ∧ (gi (ttb σ) 3).toInt ≤ (g.1.2.1 50 : Int)) (hs9 : 0 ≤ (gi (own σ) 0).toInt ∧ (gi (own σ) 0).toInt ≤ 900) (hbe : 0 ≤ (gi (own σ) 2).toInt ∧ (gi (own σ) 2).toInt ≤ (gi (own σ) 0).toInt) (hab : 0 ≤ (gi (own σ) 1).toInt ∧ (gi (own σ) 1).toInt ≤ (gi (own σ) 2).toInt) (hsg : (gi (own σ) 3).toInt = 3 → (gi (own σ) 1).toInt < (gi (own σ) 2).toInt) : vx_Met l yX7_name (ws_ yX7_name cX7_name 4 (some .long)) ({ frames := 7, cells := 0, slots := 0, locals := 149 } : Room) (va_Pc [.ref (g.2.1 90)] (wU (dR g) σ)) (xQl g (f_X7_name σ).1.1 (f_X7_name σ).1.2 (f_X7_name σ).2 (fun u r => ((gi (ttb u) 1).toInt = (gi (ttb σ) 1).toInt) ∧ ((gi (ttb u) 3).toInt = (gi (ttb σ) 3).toInt) ∧ (ttb u = ttb σ) ∧ (gi (own u) 5 = gi (own σ) 5) ∧ ((gi (own σ) 1).toInt ≤ (gi (own u) 1).toInt) ∧ (0 ≤ (gi (own u) 0).toInt ∧ (gi (own u) 0).toInt ≤ 900) ∧ (0 ≤ (gi (own u) 2).toInt ∧ (gi (own u) 2).toInt ≤ (gi (own u) 0).toInt) ∧ (0 ≤ (gi (own u) 1).toInt ∧ (gi (own u) 1).toInt ≤ (gi (own u) 2).toInt) ∧ ((gi (own u) 3).toInt = 3 → (gi (own u) 1).toInt < (gi (own u) 2).toInt))) (xX g (f_X7_name σ).1.1 (f_X7_name σ).2) 0 0 (rA g) := by
  refine met_R (by decide) rfl (Nat.le_of_ble_eq_true rfl) ?_
  intro p e s m args below meth c C hr hlocks htab h ls hl
  have hx := C.1.1
  have hb := C.1.2.1
  have hml := C.1.2.2.1
  have hown := C.1.2.2.2.1
  have hts := C.1.2.2.2.2
  have hl : lv_has ls 4 [(0, .ref (g.2.1 90))] := hl
  have hlpq : (gi (ttb σ) 1).toInt = (gi (ttb σ) 1).toInt := rfl
  have hldq : (gi (ttb σ) 3).toInt = (gi (ttb σ) 3).toInt := rfl
  have hTT : ttb σ = ttb σ := rfl
  have hS5 : gi (own σ) 5 = gi (own σ) 5 := rfl
  have hMN : (gi (own σ) 1).toInt ≤ (gi (own σ) 1).toInt := Int.le_refl _
  have zl0 : (0 : Int32).toInt = 0 := rfl
  have zl1 : (1 : Int32).toInt = 1 := rfl
  have zl8 : (8 : Int32).toInt = 8 := rfl
  refine lv_aload_n hx hb dX7_name_0 rfl (lv_at hl 0 rfl) ?_
  refine R_g3 C h dX7_name_1 ?_
  refine lv_iconst (v := 1) hx hb dX7_name_4 (by decide) ?_
  refine lv_icmp_ne (tgt := 29) hx hb dX7_name_5 (by decide) (fun c5 => ?_) (fun c5 => ?_)
  · have i5 := c_ne c5
    refine lv_aload_n hx hb dX7_name_29 rfl (lv_at hl 0 rfl) ?_
    refine R_rcall (ci := 7) (q0 := 6) (As := []) (rest := []) 0 C h (k_X7_wrong l g σ) (lw_V q748 q750 qs18 q159 q751) rfl rfl rfl rfl (by decide +kernel) ⟨Nat.le_of_ble_eq_true rfl, Nat.le_of_ble_eq_true rfl⟩ rfl hl.1 rfl (Nat.le_of_ble_eq_true rfl) ⟨Nat.le_of_ble_eq_true rfl, Nat.le_of_ble_eq_true rfl⟩ dX7_name_30 (fun σ30 H locs eσ30 h => ?_)
    have he : f_X7_name σ = ((σ30, 0), true) := (by have eσ30 := eσ30.symm; subst eσ30; exact ((if_neg c5).trans rfl))
    exact vx_athrow C.1.1 C.1.2.1 dX7_name_33 (x_out C h htab hlocks (congrArg (fun z => z.1.1) he) (congrArg Prod.snd he))
  · have i5 := c_eq c5
    refine lv_aload_n hx hb dX7_name_8 rfl (lv_at hl 0 rfl) ?_
    refine R_g2 C h dX7_name_9 ?_
    refine lv_aload_n hx hb dX7_name_12 rfl (lv_at hl 0 rfl) ?_
    refine R_g1 C h dX7_name_13 ?_
    refine lv_isub hx hb dX7_name_16 ?_
    refine lv_bipush (v := 8) hx hb dX7_name_17 (by decide) ?_
    refine lv_icmp_gt (tgt := 29) hx hb dX7_name_19 (by decide) (fun c19 => ?_) (fun c19 => ?_)
    · have i19 := c_lt c19
      refine lv_aload_n hx hb dX7_name_29 rfl (lv_at hl 0 rfl) ?_
      refine R_rcall (ci := 7) (q0 := 6) (As := []) (rest := []) 0 C h (k_X7_wrong l g σ) (lw_V q748 q750 qs18 q159 q751) rfl rfl rfl rfl (by decide +kernel) ⟨Nat.le_of_ble_eq_true rfl, Nat.le_of_ble_eq_true rfl⟩ rfl hl.1 rfl (Nat.le_of_ble_eq_true rfl) ⟨Nat.le_of_ble_eq_true rfl, Nat.le_of_ble_eq_true rfl⟩ dX7_name_30 (fun σ30 H locs eσ30 h => ?_)
      have he : f_X7_name σ = ((σ30, 0), true) := (by have eσ30 := eσ30.symm; subst eσ30; exact ((if_pos c5).trans ((if_pos c19).trans rfl)))
      exact vx_athrow C.1.1 C.1.2.1 dX7_name_33 (x_out C h htab hlocks (congrArg (fun z => z.1.1) he) (congrArg Prod.snd he))
    · have i19 := c_nlt c19
      refine lv_aload_n hx hb dX7_name_22 rfl (lv_at hl 0 rfl) ?_
      refine w_callz (ci := 7) (q0 := 6) (As := []) (rest := []) 0 (wXR g) C h (k_X7_isKept l g σ (by first | assumption | omega) (by first | assumption | omega) (by first | assumption | omega)) (lw_V q700 q702 qs13 q159 q703) rfl rfl rfl rfl (by decide +kernel) ⟨Nat.le_of_ble_eq_true rfl, Nat.le_of_ble_eq_true rfl⟩ rfl hl.1 rfl (Nat.le_of_ble_eq_true rfl) ⟨Nat.le_of_ble_eq_true rfl, Nat.le_of_ble_eq_true rfl⟩ dX7_name_23 (fun r23 σ23 H locs eσ23 er23 br23 hE23 h => ?_)
      rw [eσ23] at h
      clear hE23
      clear eσ23
      refine lv_if_eq (tgt := 34) hx hb dX7_name_26 (by decide) (fun c26 => ?_) (fun c26 => ?_)
      · have i26 := c_eq c26
        refine lv_lconst (v := 0) hx hb dX7_name_34 (by decide) ?_
        refine lv_lstore_n (lv' := [(1, .long (0 : Int64)), (0, .ref (g.2.1 90))]) hx hb dX7_name_35 rfl hl (by decide) rfl (fun ls hl => ?_)
        refine lv_aload_n hx hb dX7_name_36 rfl (lv_at hl 1 rfl) ?_
        refine R_g1 C h dX7_name_37 ?_
        refine lv_topi (fun v40 ev40 => ?_)
        refine lv_istore_n (lv' := [(3, .int v40), (1, .long (0 : Int64)), (0, .ref (g.2.1 90))]) hx hb dX7_name_40 rfl hl (by decide) rfl (fun ls hl => ?_)
        have nv : v40.toInt = (gi (own σ) 1).toInt := by rw [ev40]
        have hL41 : ∀ (n : Nat) (x1_41 : Int64) (x3_41 : Int32) (H : Heap) (locs : List Loc) (ls : Array Slot), ((gi (own σ) 1).toInt ≤ x3_41.toInt ∧ x3_41.toInt ≤ (gi (own σ) 2).toInt) → ((gi (own σ) 2).toInt - x3_41.toInt).toNat < n → wH (dR g) σ s H locs → lv_has ls 4 [(0, .ref (g.2.1 90)), (1, .long x1_41), (3, .int x3_41)] → (∀ (x1_41' : Int64) (x3_41' : Int32) (H : Heap) (locs : List Loc) (ls : Array Slot), f_X7_name_L41 σ n x1_41 x3_41 = (x1_41', x3_41') → ((gi (own σ) 1).toInt ≤ x3_41'.toInt ∧ x3_41'.toInt ≤ (gi (own σ) 2).toInt) → wH (dR g) σ s H locs → lv_has ls 4 [(1, .long x1_41')] → W p l e ({ frames := 7, cells := 0, slots := 0, locals := 149 } : Room) s m args below meth c H locs 0 0 (vx_MQ below (xQl g (f_X7_name σ).1.1 (f_X7_name σ).1.2 (f_X7_name σ).2 (fun u r => ((gi (ttb u) 1).toInt = (gi (ttb σ) 1).toInt) ∧ ((gi (ttb u) 3).toInt = (gi (ttb σ) 3).toInt) ∧ (ttb u = ttb σ) ∧ (gi (own u) 5 = gi (own σ) 5) ∧ ((gi (own σ) 1).toInt ≤ (gi (own u) 1).toInt) ∧ (0 ≤ (gi (own u) 0).toInt ∧ (gi (own u) 0).toInt ≤ 900) ∧ (0 ≤ (gi (own u) 2).toInt ∧ (gi (own u) 2).toInt ≤ (gi (own u) 0).toInt) ∧ (0 ≤ (gi (own u) 1).toInt ∧ (gi (own u) 1).toInt ≤ (gi (own u) 2).toInt) ∧ ((gi (own u) 3).toInt = 3 → (gi (own u) 1).toInt < (gi (own u) 2).toInt))) (xX g (f_X7_name σ).1.1 (f_X7_name σ).2) args s 0 0 (rA g)) (F0 m 76 ls [])) → W p l e ({ frames := 7, cells := 0, slots := 0, locals := 149 } : Room) s m args below meth c H locs 0 0 (vx_MQ below (xQl g (f_X7_name σ).1.1 (f_X7_name σ).1.2 (f_X7_name σ).2 (fun u r => ((gi (ttb u) 1).toInt = (gi (ttb σ) 1).toInt) ∧ ((gi (ttb u) 3).toInt = (gi (ttb σ) 3).toInt) ∧ (ttb u = ttb σ) ∧ (gi (own u) 5 = gi (own σ) 5) ∧ ((gi (own σ) 1).toInt ≤ (gi (own u) 1).toInt) ∧ (0 ≤ (gi (own u) 0).toInt ∧ (gi (own u) 0).toInt ≤ 900) ∧ (0 ≤ (gi (own u) 2).toInt ∧ (gi (own u) 2).toInt ≤ (gi (own u) 0).toInt) ∧ (0 ≤ (gi (own u) 1).toInt ∧ (gi (own u) 1).toInt ≤ (gi (own u) 2).toInt) ∧ ((gi (own u) 3).toInt = 3 → (gi (own u) 1).toInt < (gi (own u) 2).toInt))) (xX g (f_X7_name σ).1.1 (f_X7_name σ).2) args s 0 0 (rA g)) (F0 m 41 ls []) := by
          intro n
          induction n with
          | zero =>
            intro x1_41 x3_41 H locs ls _ hm; exact absurd hm (Nat.not_lt_zero _)
          | succ n ih =>
            intro x1_41 x3_41 H locs ls hI41 hm h hl kk
            refine lv_iload_n hx hb dX7_name_41 rfl (lv_at hl 2 rfl) ?_
            refine lv_aload_n hx hb dX7_name_42 rfl (lv_at hl 0 rfl) ?_
            refine R_g2 C h dX7_name_43 ?_
            refine lv_icmp_ge (tgt := 76) hx hb dX7_name_46 (by decide) (fun c46 => ?_) (fun c46 => ?_)
            · have i46 := c_le c46
              exact kk x1_41 x3_41 _ _ _ (show f_X7_name_L41 σ (n + 1) x1_41 x3_41 = (x1_41, x3_41) from (by exact ((if_pos c46).trans rfl)))  (by first | assumption | omega) h (lv_sub hl [1] rfl)
            · have i46 := c_nle c46
              refine lv_lload_n hx hb dX7_name_49 rfl (lv_at hl 1 rfl) ?_
              refine lv_ldc2 hx hb hown (hts _ q752) dX7_name_50 ?_
              refine lv_lmul hx hb dX7_name_53 ?_
              refine lv_aload_n hx hb dX7_name_54 rfl (lv_at hl 0 rfl) ?_
              refine R_g8 C h dX7_name_55 ?_
              refine R_tape C h dX7_name_58 ?_
              refine lv_iload_n hx hb dX7_name_61 rfl (lv_at hl 2 rfl) ?_
              refine R_bald C h (ix_of (rfl : x3_41.toInt = x3_41.toInt) (by omega)) dX7_name_62 ?_
              refine lv_i2l (v := (ga (own σ) 1 x3_41).toInt64) hx hb dX7_name_63 rfl ?_
              refine lv_ladd hx hb dX7_name_64 ?_
              refine lv_ldc2 hx hb hown (hts _ q753) dX7_name_65 ?_
              refine lv_lsub hx hb dX7_name_68 ?_
              refine lv_topl (fun v69 ev69 => ?_)
              refine lv_lstore_n (lv' := [(1, .long v69), (0, .ref (g.2.1 90)), (3, .int x3_41)]) hx hb dX7_name_69 rfl hl (by decide) rfl (fun ls hl => ?_)
              refine lv_iinc (v := (x3_41 + (1 : Int32))) (lv' := [(3, .int (x3_41 + (1 : Int32))), (1, .long v69), (0, .ref (g.2.1 90))]) hx hb dX7_name_70 hl (k := 2) rfl rfl (by decide) rfl (fun ls hl => ?_)
              refine lv_goto (tgt := 41) hx hb dX7_name_73 (by decide) ?_
              have tt3 : (x3_41 + (1 : Int32)).toInt = (x3_41.toInt + (1)) := (i_add (rfl : x3_41.toInt = x3_41.toInt) zl1 (by omega))
              exact ih v69 (x3_41 + (1 : Int32)) _ _ _  (by first | assumption | omega) (by omega) h (lv_sub hl [2, 1, 0] rfl) (fun x1_41' x3_41' H locs ls en hI h hl => kk x1_41' x3_41' H locs ls ((show f_X7_name_L41 σ (n + 1) x1_41 x3_41 = f_X7_name_L41 σ n v69 (x3_41 + (1 : Int32)) from (by have ev69 := ev69.symm; subst ev69; exact ((if_neg c46).trans rfl))).trans en) hI h hl)
        refine hL41 (901) (0 : Int64) v40 _ _ _  (by first | assumption | omega) (by omega) h (lv_sub hl [2, 1, 0] rfl) (fun x1_41e x3_41e H locs ls eL41 hI41 h hl => ?_)
        have ex1_41e : x1_41e = (f_X7_name_L41 σ (901) (0 : Int64) v40).1 := by rw [eL41]
        have ex3_41e : x3_41e = (f_X7_name_L41 σ (901) (0 : Int64) v40).2 := by rw [eL41]
        refine lv_lload_n hx hb dX7_name_76 rfl (lv_at hl 0 rfl) ?_
        have he : f_X7_name σ = ((σ, x1_41e), false) := (by have er23 := er23.symm; subst er23; have ev40 := ev40.symm; subst ev40; have ex1_41e := ex1_41e.symm; subst ex1_41e; have ex3_41e := ex3_41e.symm; subst ex3_41e; exact ((if_pos c5).trans ((if_neg c19).trans ((if_pos c26).trans rfl))))
        exact x_retl C h hr hlocks (congrArg (fun z => z.1.1) he) (congrArg (fun z => z.1.2) he) (congrArg Prod.snd he) ⟨hlpq, hldq, hTT, hS5, hMN, (by first | assumption | omega | (unfold Hd; omega)), (by first | assumption | omega | (unfold Hd; omega)), (by first | assumption | omega | (unfold Hd; omega)), (by first | assumption | omega | (unfold Hd; omega))⟩ dX7_name_77
      · have i26 := c_ne c26
        refine lv_aload_n hx hb dX7_name_29 rfl (lv_at hl 0 rfl) ?_
        refine R_rcall (ci := 7) (q0 := 6) (As := []) (rest := []) 0 C h (k_X7_wrong l g σ) (lw_V q748 q750 qs18 q159 q751) rfl rfl rfl rfl (by decide +kernel) ⟨Nat.le_of_ble_eq_true rfl, Nat.le_of_ble_eq_true rfl⟩ rfl hl.1 rfl (Nat.le_of_ble_eq_true rfl) ⟨Nat.le_of_ble_eq_true rfl, Nat.le_of_ble_eq_true rfl⟩ dX7_name_30 (fun σ30 H locs eσ30 h => ?_)
        have he : f_X7_name σ = ((σ30, 0), true) := (by have er23 := er23.symm; subst er23; have eσ30 := eσ30.symm; subst eσ30; exact ((if_pos c5).trans ((if_neg c19).trans ((if_neg c26).trans rfl))))
        exact vx_athrow C.1.1 C.1.2.1 dX7_name_33 (x_out C h htab hlocks (congrArg (fun z => z.1.1) he) (congrArg Prod.snd he))
def f_X7_known (σ : MS × MS) : ((MS × MS) × Int32) × Bool := (let z2 := (f_X7_name σ); if z2.2 = true then ((z2.1.1, 0), true) else (let σ2 := z2.1.1; let r2 := z2.1.2; let r5 := (f_X5_named (ttb σ2) r2); if (0 : Int32) ≤ r5 then (((σ2, r5), false)) else ((let σ25 := (f_X2_at σ2 (3 : Int32) (gi (own σ2) 1)); ((σ25, 0), true)))))
set_option maxHeartbeats 4000000 in
set_option maxRecDepth 100000 in
theorem k_X7_known (l : Launch) (g : GR) (σ : MS × MS) (hlp : 0 ≤ (gi (ttb σ) 1).toInt ∧ (gi (ttb σ) 1).toInt ≤ 6) (hld : 0 ≤ (gi (ttb σ) 3).toInt ∧ (gi (ttb σ) 3).toInt ≤ 16 ∧ (gi (ttb σ) 3).toInt ≤ (g.1.2.1 50 : Int)) (hs9 : 0 ≤ (gi (own σ) 0).toInt ∧ (gi (own σ) 0).toInt ≤ 900) (hbe : 0 ≤ (gi (own σ) 2).toInt ∧ (gi (own σ) 2).toInt ≤ (gi (own σ) 0).toInt) (hab : 0 ≤ (gi (own σ) 1).toInt ∧ (gi (own σ) 1).toInt ≤ (gi (own σ) 2).toInt) (hsg : (gi (own σ) 3).toInt = 3 → (gi (own σ) 1).toInt < (gi (own σ) 2).toInt) : vx_Met l yX7_known (ws_ yX7_known cX7_known 3 (some .int)) ({ frames := 8, cells := 0, slots := 0, locals := 172 } : Room) (va_Pc [.ref (g.2.1 90), .ref (g.1.2.1 99)] (wU (dR g) σ)) (xQi g (f_X7_known σ).1.1 (f_X7_known σ).1.2 (f_X7_known σ).2 (fun u r => ((gi (ttb u) 1).toInt = (gi (ttb σ) 1).toInt) ∧ ((gi (ttb u) 3).toInt = (gi (ttb σ) 3).toInt) ∧ (ttb u = ttb σ) ∧ (gi (own u) 5 = gi (own σ) 5) ∧ ((gi (own σ) 1).toInt ≤ (gi (own u) 1).toInt) ∧ (0 ≤ r.toInt ∧ r.toInt < (gi (ttb σ) 1).toInt) ∧ (0 ≤ (gi (own u) 0).toInt ∧ (gi (own u) 0).toInt ≤ 900) ∧ (0 ≤ (gi (own u) 2).toInt ∧ (gi (own u) 2).toInt ≤ (gi (own u) 0).toInt) ∧ (0 ≤ (gi (own u) 1).toInt ∧ (gi (own u) 1).toInt ≤ (gi (own u) 2).toInt) ∧ ((gi (own u) 3).toInt = 3 → (gi (own u) 1).toInt < (gi (own u) 2).toInt))) (xX g (f_X7_known σ).1.1 (f_X7_known σ).2) 0 0 (rA g) := by
  refine met_R (by decide) rfl (Nat.le_of_ble_eq_true rfl) ?_
  intro p e s m args below meth c C hr hlocks htab h ls hl
  have hx := C.1.1
  have hb := C.1.2.1
  have hml := C.1.2.2.1
  have hown := C.1.2.2.2.1
  have hts := C.1.2.2.2.2
  have hl : lv_has ls 3 [(0, .ref (g.2.1 90)), (1, .ref (g.1.2.1 99))] := hl
  have hlpq : (gi (ttb σ) 1).toInt = (gi (ttb σ) 1).toInt := rfl
  have hldq : (gi (ttb σ) 3).toInt = (gi (ttb σ) 3).toInt := rfl
  have hTT : ttb σ = ttb σ := rfl
  have hS5 : gi (own σ) 5 = gi (own σ) 5 := rfl
  have hMN : (gi (own σ) 1).toInt ≤ (gi (own σ) 1).toInt := Int.le_refl _
  have zl0 : (0 : Int32).toInt = 0 := rfl
  have zl3 : (3 : Int32).toInt = 3 := rfl
  refine lv_aload_n hx hb dX7_known_0 rfl (lv_at hl 1 rfl) ?_
  refine lv_aload_n hx hb dX7_known_1 rfl (lv_at hl 0 rfl) ?_
  refine R_xcalll (As := []) (rest := [.ref (g.1.2.1 99)]) 0 C h (k_X7_name l g σ (by first | assumption | omega) (by first | assumption | omega) (by first | assumption | omega) (by first | assumption | omega) (by first | assumption | omega) (by first | assumption | omega)) (lw_V q696 q698 qs12 q159 q699) rfl rfl (by decide +kernel) ⟨Nat.le_of_ble_eq_true rfl, Nat.le_of_ble_eq_true rfl⟩ rfl hl.1 rfl (Nat.le_of_ble_eq_true rfl) ⟨Nat.le_of_ble_eq_true rfl, Nat.le_of_ble_eq_true rfl⟩ dX7_known_2 (fun σ2 H locs eσ2 bx2 h => ?_) (fun r2 σ2 H locs bx2 eσ2 er2 hE2 h => ?_)
  · have he : f_X7_known σ = ((σ2, 0), true) := (by have eσ2 := eσ2.symm; subst eσ2; exact ((if_pos bx2).trans rfl))
    exact x_out C h htab hlocks (congrArg (fun z => z.1.1) he) (congrArg Prod.snd he)
  have bx2 := (fun q => Bool.noConfusion (bx2.symm.trans q) : ¬ ((f_X7_name σ)).2 = true)
  have hE2 : ((gi (ttb σ2) 1).toInt = (gi (ttb σ) 1).toInt) ∧ ((gi (ttb σ2) 3).toInt = (gi (ttb σ) 3).toInt) ∧ (ttb σ2 = ttb σ) ∧ (gi (own σ2) 5 = gi (own σ) 5) ∧ ((gi (own σ) 1).toInt ≤ (gi (own σ2) 1).toInt) ∧ (0 ≤ (gi (own σ2) 0).toInt ∧ (gi (own σ2) 0).toInt ≤ 900) ∧ (0 ≤ (gi (own σ2) 2).toInt ∧ (gi (own σ2) 2).toInt ≤ (gi (own σ2) 0).toInt) ∧ (0 ≤ (gi (own σ2) 1).toInt ∧ (gi (own σ2) 1).toInt ≤ (gi (own σ2) 2).toInt) ∧ ((gi (own σ2) 3).toInt = 3 → (gi (own σ2) 1).toInt < (gi (own σ2) 2).toInt) := hE2
  obtain ⟨hlpq_2, hldq_2, hTT_2, hS5_2, hMN_2, hs9_2, hbe_2, hab_2, hsg_2⟩ := hE2
  have hNEW : (0 ≤ (gi (ttb σ2) 1).toInt ∧ (gi (ttb σ2) 1).toInt ≤ 6) ∧ (0 ≤ (gi (ttb σ2) 3).toInt ∧ (gi (ttb σ2) 3).toInt ≤ 16 ∧ (gi (ttb σ2) 3).toInt ≤ (g.1.2.1 50 : Int)) ∧ (0 ≤ (gi (own σ2) 0).toInt ∧ (gi (own σ2) 0).toInt ≤ 900) ∧ (0 ≤ (gi (own σ2) 2).toInt ∧ (gi (own σ2) 2).toInt ≤ (gi (own σ2) 0).toInt) ∧ (0 ≤ (gi (own σ2) 1).toInt ∧ (gi (own σ2) 1).toInt ≤ (gi (own σ2) 2).toInt) ∧ ((gi (own σ2) 3).toInt = 3 → (gi (own σ2) 1).toInt < (gi (own σ2) 2).toInt) ∧ ((gi (ttb σ2) 1).toInt = (gi (ttb σ) 1).toInt) ∧ ((gi (ttb σ2) 3).toInt = (gi (ttb σ) 3).toInt) ∧ (ttb σ2 = ttb σ) ∧ (gi (own σ2) 5 = gi (own σ) 5) ∧ ((gi (own σ) 1).toInt ≤ (gi (own σ2) 1).toInt) := ⟨(by first | assumption | omega), (by first | assumption | omega), (by first | assumption | omega), (by first | assumption | omega), (by first | assumption | omega), (by first | assumption | omega), (by first | assumption | omega), (by first | assumption | omega), (hTT_2.trans hTT), (hS5_2.trans hS5), (by first | assumption | omega)⟩
  obtain ⟨hlp, hld, hs9, hbe, hab, hsg, hlpq, hldq, hTT, hS5, hMN⟩ := hNEW
  refine R_tcalli (As := [.long r2]) (rest := []) 1 C h (k_X5_named l g.1 (ttb σ2) r2 (by first | assumption | omega)) (lw_V q754 q755 q756 q151 q757) rfl rfl (by decide +kernel) ⟨Nat.le_of_ble_eq_true rfl, Nat.le_of_ble_eq_true rfl⟩ rfl hl.1 rfl (Nat.le_of_ble_eq_true rfl) ⟨Nat.le_of_ble_eq_true rfl, Nat.le_of_ble_eq_true rfl⟩ dX7_known_5 (fun r5 σ5 H locs eσ5 er5 hE5 h => ?_)
  have h : wH (dR g) σ2 s H locs := by rw [eσ5] at h; exact h
  have hE5 : (-1 ≤ r5.toInt ∧ (r5.toInt < (gi (ttb σ2) 1).toInt ∨ r5.toInt = -1)) := hE5
  have nrg_5 := hE5
  clear eσ5
  refine lv_istore_n (lv' := [(2, .int r5), (0, .ref (g.2.1 90)), (1, .ref (g.1.2.1 99))]) hx hb dX7_known_8 rfl hl (by decide) rfl (fun ls hl => ?_)
  refine lv_iload_n hx hb dX7_known_9 rfl (lv_at hl 0 rfl) ?_
  refine lv_if_ge (tgt := 29) hx hb dX7_known_10 (by decide) (fun c10 => ?_) (fun c10 => ?_)
  · have i10 := c_le c10
    refine lv_iload_n hx hb dX7_known_29 rfl (lv_at hl 0 rfl) ?_
    have he : f_X7_known σ = ((σ2, r5), false) := (by have eσ2 := eσ2.symm; subst eσ2; have er2 := er2.symm; subst er2; have er5 := er5.symm; subst er5; exact ((if_neg bx2).trans ((if_pos c10).trans rfl)))
    exact x_reti C h hr hlocks (congrArg (fun z => z.1.1) he) (congrArg (fun z => z.1.2) he) (congrArg Prod.snd he) ⟨hlpq, hldq, hTT, hS5, hMN, (by first | assumption | omega | (unfold Hd; omega)), (by first | assumption | omega | (unfold Hd; omega)), (by first | assumption | omega | (unfold Hd; omega)), (by first | assumption | omega | (unfold Hd; omega)), (by first | assumption | omega | (unfold Hd; omega))⟩ dX7_known_30
  · have i10 := c_nle c10
    refine lv_aload_n hx hb dX7_known_13 rfl (lv_at hl 1 rfl) ?_
    refine R_g8 C h dX7_known_14 ?_
    refine R_bad C h dX7_known_17 ?_
    refine lv_iconst (v := 3) hx hb dX7_known_20 (by decide) ?_
    refine lv_aload_n hx hb dX7_known_21 rfl (lv_at hl 1 rfl) ?_
    refine R_g1 C h dX7_known_22 ?_
    refine R_rcall (ci := 2) (q0 := 7) (As := [.int (3 : Int32), .int (gi (own σ2) 1)]) (rest := []) 2 C h (k_X2_at l g σ2 (3 : Int32) (gi (own σ2) 1)) (lw_V q692 q693 q694 q148 q695) rfl rfl rfl rfl (by decide +kernel) ⟨Nat.le_of_ble_eq_true rfl, Nat.le_of_ble_eq_true rfl⟩ rfl hl.1 rfl (Nat.le_of_ble_eq_true rfl) ⟨Nat.le_of_ble_eq_true rfl, Nat.le_of_ble_eq_true rfl⟩ dX7_known_25 (fun σ25 H locs eσ25 h => ?_)
    have he : f_X7_known σ = ((σ25, 0), true) := (by have eσ2 := eσ2.symm; subst eσ2; have er2 := er2.symm; subst er2; have er5 := er5.symm; subst er5; have eσ25 := eσ25.symm; subst eσ25; exact ((if_neg bx2).trans ((if_neg c10).trans rfl)))
    exact vx_athrow C.1.1 C.1.2.1 dX7_known_28 (x_out C h htab hlocks (congrArg (fun z => z.1.1) he) (congrArg Prod.snd he))
def f_X7_who (σ : MS × MS) : ((MS × MS) × Int32) × Bool := (let z2 := (f_X7_known σ); if z2.2 = true then ((z2.1.1, 0), true) else (let σ2 := z2.1.1; let r2 := z2.1.2; let σ7 := (f_X7_next σ2); ((σ7, r2), false)))
set_option maxHeartbeats 4000000 in
set_option maxRecDepth 100000 in
theorem k_X7_who (l : Launch) (g : GR) (σ : MS × MS) (hlp : 0 ≤ (gi (ttb σ) 1).toInt ∧ (gi (ttb σ) 1).toInt ≤ 6) (hld : 0 ≤ (gi (ttb σ) 3).toInt ∧ (gi (ttb σ) 3).toInt ≤ 16 ∧ (gi (ttb σ) 3).toInt ≤ (g.1.2.1 50 : Int)) (hs9 : 0 ≤ (gi (own σ) 0).toInt ∧ (gi (own σ) 0).toInt ≤ 900) (hbe : 0 ≤ (gi (own σ) 2).toInt ∧ (gi (own σ) 2).toInt ≤ (gi (own σ) 0).toInt) (hab : 0 ≤ (gi (own σ) 1).toInt ∧ (gi (own σ) 1).toInt ≤ (gi (own σ) 2).toInt) (hsg : (gi (own σ) 3).toInt = 3 → (gi (own σ) 1).toInt < (gi (own σ) 2).toInt) : vx_Met l yX7_who (ws_ yX7_who cX7_who 3 (some .int)) ({ frames := 9, cells := 0, slots := 0, locals := 194 } : Room) (va_Pc [.ref (g.2.1 90), .ref (g.1.2.1 99)] (wU (dR g) σ)) (xQi g (f_X7_who σ).1.1 (f_X7_who σ).1.2 (f_X7_who σ).2 (fun u r => ((gi (ttb u) 1).toInt = (gi (ttb σ) 1).toInt) ∧ ((gi (ttb u) 3).toInt = (gi (ttb σ) 3).toInt) ∧ (ttb u = ttb σ) ∧ (gi (own u) 5 = gi (own σ) 5) ∧ ((gi (own σ) 1).toInt ≤ (gi (own u) 1).toInt) ∧ (0 ≤ r.toInt ∧ r.toInt < (gi (ttb σ) 1).toInt) ∧ (0 ≤ (gi (own u) 0).toInt ∧ (gi (own u) 0).toInt ≤ 900) ∧ (0 ≤ (gi (own u) 2).toInt ∧ (gi (own u) 2).toInt ≤ (gi (own u) 0).toInt) ∧ (0 ≤ (gi (own u) 1).toInt ∧ (gi (own u) 1).toInt ≤ (gi (own u) 2).toInt) ∧ ((gi (own u) 3).toInt = 3 → (gi (own u) 1).toInt < (gi (own u) 2).toInt))) (xX g (f_X7_who σ).1.1 (f_X7_who σ).2) 0 0 (rA g) := by
  refine met_R (by decide) rfl (Nat.le_of_ble_eq_true rfl) ?_
  intro p e s m args below meth c C hr hlocks htab h ls hl
  have hx := C.1.1
  have hb := C.1.2.1
  have hml := C.1.2.2.1
  have hown := C.1.2.2.2.1
  have hts := C.1.2.2.2.2
  have hl : lv_has ls 3 [(0, .ref (g.2.1 90)), (1, .ref (g.1.2.1 99))] := hl
  have hlpq : (gi (ttb σ) 1).toInt = (gi (ttb σ) 1).toInt := rfl
  have hldq : (gi (ttb σ) 3).toInt = (gi (ttb σ) 3).toInt := rfl
  have hTT : ttb σ = ttb σ := rfl
  have hS5 : gi (own σ) 5 = gi (own σ) 5 := rfl
  have hMN : (gi (own σ) 1).toInt ≤ (gi (own σ) 1).toInt := Int.le_refl _
  refine lv_aload_n hx hb dX7_who_0 rfl (lv_at hl 0 rfl) ?_
  refine lv_aload_n hx hb dX7_who_1 rfl (lv_at hl 1 rfl) ?_
  refine R_xcalli (As := [.ref (g.1.2.1 99)]) (rest := []) 1 C h (k_X7_known l g σ (by first | assumption | omega) (by first | assumption | omega) (by first | assumption | omega) (by first | assumption | omega) (by first | assumption | omega) (by first | assumption | omega)) (lw_V q817 q819 qs23 q159 q820) rfl rfl (by decide +kernel) ⟨Nat.le_of_ble_eq_true rfl, Nat.le_of_ble_eq_true rfl⟩ rfl hl.1 rfl (Nat.le_of_ble_eq_true rfl) ⟨Nat.le_of_ble_eq_true rfl, Nat.le_of_ble_eq_true rfl⟩ dX7_who_2 (fun σ2 H locs eσ2 bx2 h => ?_) (fun r2 σ2 H locs bx2 eσ2 er2 hE2 h => ?_)
  · have he : f_X7_who σ = ((σ2, 0), true) := (by have eσ2 := eσ2.symm; subst eσ2; exact ((if_pos bx2).trans rfl))
    exact x_out C h htab hlocks (congrArg (fun z => z.1.1) he) (congrArg Prod.snd he)
  have bx2 := (fun q => Bool.noConfusion (bx2.symm.trans q) : ¬ ((f_X7_known σ)).2 = true)
  have hE2 : ((gi (ttb σ2) 1).toInt = (gi (ttb σ) 1).toInt) ∧ ((gi (ttb σ2) 3).toInt = (gi (ttb σ) 3).toInt) ∧ (ttb σ2 = ttb σ) ∧ (gi (own σ2) 5 = gi (own σ) 5) ∧ ((gi (own σ) 1).toInt ≤ (gi (own σ2) 1).toInt) ∧ (0 ≤ r2.toInt ∧ r2.toInt < (gi (ttb σ) 1).toInt) ∧ (0 ≤ (gi (own σ2) 0).toInt ∧ (gi (own σ2) 0).toInt ≤ 900) ∧ (0 ≤ (gi (own σ2) 2).toInt ∧ (gi (own σ2) 2).toInt ≤ (gi (own σ2) 0).toInt) ∧ (0 ≤ (gi (own σ2) 1).toInt ∧ (gi (own σ2) 1).toInt ≤ (gi (own σ2) 2).toInt) ∧ ((gi (own σ2) 3).toInt = 3 → (gi (own σ2) 1).toInt < (gi (own σ2) 2).toInt) := hE2
  obtain ⟨hlpq_2, hldq_2, hTT_2, hS5_2, hMN_2, hkr_2, hs9_2, hbe_2, hab_2, hsg_2⟩ := hE2
  have hNEW : (0 ≤ (gi (ttb σ2) 1).toInt ∧ (gi (ttb σ2) 1).toInt ≤ 6) ∧ (0 ≤ (gi (ttb σ2) 3).toInt ∧ (gi (ttb σ2) 3).toInt ≤ 16 ∧ (gi (ttb σ2) 3).toInt ≤ (g.1.2.1 50 : Int)) ∧ (0 ≤ (gi (own σ2) 0).toInt ∧ (gi (own σ2) 0).toInt ≤ 900) ∧ (0 ≤ (gi (own σ2) 2).toInt ∧ (gi (own σ2) 2).toInt ≤ (gi (own σ2) 0).toInt) ∧ (0 ≤ (gi (own σ2) 1).toInt ∧ (gi (own σ2) 1).toInt ≤ (gi (own σ2) 2).toInt) ∧ ((gi (own σ2) 3).toInt = 3 → (gi (own σ2) 1).toInt < (gi (own σ2) 2).toInt) ∧ ((gi (ttb σ2) 1).toInt = (gi (ttb σ) 1).toInt) ∧ ((gi (ttb σ2) 3).toInt = (gi (ttb σ) 3).toInt) ∧ (ttb σ2 = ttb σ) ∧ (gi (own σ2) 5 = gi (own σ) 5) ∧ ((gi (own σ) 1).toInt ≤ (gi (own σ2) 1).toInt) := ⟨(by first | assumption | omega), (by first | assumption | omega), (by first | assumption | omega), (by first | assumption | omega), (by first | assumption | omega), (by first | assumption | omega), (by first | assumption | omega), (by first | assumption | omega), (hTT_2.trans hTT), (hS5_2.trans hS5), (by first | assumption | omega)⟩
  obtain ⟨hlp, hld, hs9, hbe, hab, hsg, hlpq, hldq, hTT, hS5, hMN⟩ := hNEW
  refine lv_istore_n (lv' := [(2, .int r2), (0, .ref (g.2.1 90)), (1, .ref (g.1.2.1 99))]) hx hb dX7_who_5 rfl hl (by decide) rfl (fun ls hl => ?_)
  refine lv_aload_n hx hb dX7_who_6 rfl (lv_at hl 1 rfl) ?_
  refine w_callv (ci := 7) (q0 := 6) (As := []) (rest := []) 0 (wXR g) C h (k_X7_next l g σ2 (by first | assumption | omega) (by first | assumption | omega) (by first | assumption | omega) (by first | assumption | omega) (by first | assumption | omega)) (lw_V q590 q592 qs7 q159 q593) rfl rfl rfl rfl (by decide +kernel) ⟨Nat.le_of_ble_eq_true rfl, Nat.le_of_ble_eq_true rfl⟩ rfl hl.1 rfl (Nat.le_of_ble_eq_true rfl) ⟨Nat.le_of_ble_eq_true rfl, Nat.le_of_ble_eq_true rfl⟩ dX7_who_7 (fun σ7 H locs eσ7 hE7 h => ?_)
  have hE7 : ((gi (ttb σ7) 1).toInt = (gi (ttb σ2) 1).toInt) ∧ ((gi (ttb σ7) 3).toInt = (gi (ttb σ2) 3).toInt) ∧ (ttb σ7 = ttb σ2) ∧ (gi (own σ7) 5 = gi (own σ2) 5) ∧ ((gi (own σ2) 1).toInt ≤ (gi (own σ7) 1).toInt) ∧ (0 ≤ (gi (own σ7) 0).toInt ∧ (gi (own σ7) 0).toInt ≤ 900) ∧ (0 ≤ (gi (own σ7) 2).toInt ∧ (gi (own σ7) 2).toInt ≤ (gi (own σ7) 0).toInt) ∧ (0 ≤ (gi (own σ7) 1).toInt ∧ (gi (own σ7) 1).toInt ≤ (gi (own σ7) 2).toInt) ∧ ((gi (own σ7) 3).toInt = 3 → (gi (own σ7) 1).toInt < (gi (own σ7) 2).toInt) ∧ ((gi (own σ2) 2).toInt ≤ (gi (own σ7) 1).toInt) := hE7
  obtain ⟨hlpq_7, hldq_7, hTT_7, hS5_7, hMN_7, hs9_7, hbe_7, hab_7, hsg_7, hnx_7⟩ := hE7
  have hNEW : (0 ≤ (gi (ttb σ7) 1).toInt ∧ (gi (ttb σ7) 1).toInt ≤ 6) ∧ (0 ≤ (gi (ttb σ7) 3).toInt ∧ (gi (ttb σ7) 3).toInt ≤ 16 ∧ (gi (ttb σ7) 3).toInt ≤ (g.1.2.1 50 : Int)) ∧ (0 ≤ (gi (own σ7) 0).toInt ∧ (gi (own σ7) 0).toInt ≤ 900) ∧ (0 ≤ (gi (own σ7) 2).toInt ∧ (gi (own σ7) 2).toInt ≤ (gi (own σ7) 0).toInt) ∧ (0 ≤ (gi (own σ7) 1).toInt ∧ (gi (own σ7) 1).toInt ≤ (gi (own σ7) 2).toInt) ∧ ((gi (own σ7) 3).toInt = 3 → (gi (own σ7) 1).toInt < (gi (own σ7) 2).toInt) ∧ ((gi (ttb σ7) 1).toInt = (gi (ttb σ) 1).toInt) ∧ ((gi (ttb σ7) 3).toInt = (gi (ttb σ) 3).toInt) ∧ (ttb σ7 = ttb σ) ∧ (gi (own σ7) 5 = gi (own σ) 5) ∧ ((gi (own σ) 1).toInt ≤ (gi (own σ7) 1).toInt) := ⟨(by first | assumption | omega), (by first | assumption | omega), (by first | assumption | omega), (by first | assumption | omega), (by first | assumption | omega), (by first | assumption | omega), (by first | assumption | omega), (by first | assumption | omega), (hTT_7.trans hTT), (hS5_7.trans hS5), (by first | assumption | omega)⟩
  clear hlp hld hs9 hbe hab hsg hlpq hldq hTT hS5 hMN
  obtain ⟨hlp, hld, hs9, hbe, hab, hsg, hlpq, hldq, hTT, hS5, hMN⟩ := hNEW
  refine lv_iload_n hx hb dX7_who_10 rfl (lv_at hl 0 rfl) ?_
  have he : f_X7_who σ = ((σ7, r2), false) := (by have eσ2 := eσ2.symm; subst eσ2; have er2 := er2.symm; subst er2; have eσ7 := eσ7.symm; subst eσ7; exact ((if_neg bx2).trans rfl))
  exact x_reti C h hr hlocks (congrArg (fun z => z.1.1) he) (congrArg (fun z => z.1.2) he) (congrArg Prod.snd he) ⟨hlpq, hldq, hTT, hS5, hMN, (by first | assumption | omega | (unfold Hd; omega)), (by first | assumption | omega | (unfold Hd; omega)), (by first | assumption | omega | (unfold Hd; omega)), (by first | assumption | omega | (unfold Hd; omega)), (by first | assumption | omega | (unfold Hd; omega))⟩ dX7_who_11
def f_X7_otherThan (σ : MS × MS) (p2 : Int32) : ((MS × MS) × Int32) × Bool := (let z2 := (f_X7_known σ); if z2.2 = true then ((z2.1.1, 0), true) else (let σ2 := z2.1.1; let r2 := z2.1.2; if r2 = p2 then ((let σ23 := (f_X2_at σ2 (5 : Int32) (gi (own σ2) 1)); ((σ23, 0), true))) else ((let σ28 := (f_X7_next σ2); ((σ28, r2), false)))))
set_option maxHeartbeats 4000000 in
set_option maxRecDepth 100000 in
theorem k_X7_otherThan (l : Launch) (g : GR) (σ : MS × MS) (p2 : Int32) (hlp : 0 ≤ (gi (ttb σ) 1).toInt ∧ (gi (ttb σ) 1).toInt ≤ 6) (hld : 0 ≤ (gi (ttb σ) 3).toInt ∧ (gi (ttb σ) 3).toInt ≤ 16 ∧ (gi (ttb σ) 3).toInt ≤ (g.1.2.1 50 : Int)) (hs9 : 0 ≤ (gi (own σ) 0).toInt ∧ (gi (own σ) 0).toInt ≤ 900) (hbe : 0 ≤ (gi (own σ) 2).toInt ∧ (gi (own σ) 2).toInt ≤ (gi (own σ) 0).toInt) (hab : 0 ≤ (gi (own σ) 1).toInt ∧ (gi (own σ) 1).toInt ≤ (gi (own σ) 2).toInt) (hsg : (gi (own σ) 3).toInt = 3 → (gi (own σ) 1).toInt < (gi (own σ) 2).toInt) : vx_Met l yX7_otherThan (ws_ yX7_otherThan cX7_otherThan 4 (some .int)) ({ frames := 9, cells := 0, slots := 0, locals := 194 } : Room) (va_Pc [.ref (g.2.1 90), .ref (g.1.2.1 99), .int p2] (wU (dR g) σ)) (xQi g (f_X7_otherThan σ p2).1.1 (f_X7_otherThan σ p2).1.2 (f_X7_otherThan σ p2).2 (fun u r => ((gi (ttb u) 1).toInt = (gi (ttb σ) 1).toInt) ∧ ((gi (ttb u) 3).toInt = (gi (ttb σ) 3).toInt) ∧ (ttb u = ttb σ) ∧ (gi (own u) 5 = gi (own σ) 5) ∧ ((gi (own σ) 1).toInt ≤ (gi (own u) 1).toInt) ∧ (0 ≤ r.toInt ∧ r.toInt < (gi (ttb σ) 1).toInt) ∧ (0 ≤ (gi (own u) 0).toInt ∧ (gi (own u) 0).toInt ≤ 900) ∧ (0 ≤ (gi (own u) 2).toInt ∧ (gi (own u) 2).toInt ≤ (gi (own u) 0).toInt) ∧ (0 ≤ (gi (own u) 1).toInt ∧ (gi (own u) 1).toInt ≤ (gi (own u) 2).toInt) ∧ ((gi (own u) 3).toInt = 3 → (gi (own u) 1).toInt < (gi (own u) 2).toInt))) (xX g (f_X7_otherThan σ p2).1.1 (f_X7_otherThan σ p2).2) 0 0 (rA g) := by
  refine met_R (by decide) rfl (Nat.le_of_ble_eq_true rfl) ?_
  intro p e s m args below meth c C hr hlocks htab h ls hl
  have hx := C.1.1
  have hb := C.1.2.1
  have hml := C.1.2.2.1
  have hown := C.1.2.2.2.1
  have hts := C.1.2.2.2.2
  have hl : lv_has ls 4 [(0, .ref (g.2.1 90)), (1, .ref (g.1.2.1 99)), (2, .int p2)] := hl
  have hlpq : (gi (ttb σ) 1).toInt = (gi (ttb σ) 1).toInt := rfl
  have hldq : (gi (ttb σ) 3).toInt = (gi (ttb σ) 3).toInt := rfl
  have hTT : ttb σ = ttb σ := rfl
  have hS5 : gi (own σ) 5 = gi (own σ) 5 := rfl
  have hMN : (gi (own σ) 1).toInt ≤ (gi (own σ) 1).toInt := Int.le_refl _
  have zl5 : (5 : Int32).toInt = 5 := rfl
  refine lv_aload_n hx hb dX7_otherThan_0 rfl (lv_at hl 0 rfl) ?_
  refine lv_aload_n hx hb dX7_otherThan_1 rfl (lv_at hl 1 rfl) ?_
  refine R_xcalli (As := [.ref (g.1.2.1 99)]) (rest := []) 1 C h (k_X7_known l g σ (by first | assumption | omega) (by first | assumption | omega) (by first | assumption | omega) (by first | assumption | omega) (by first | assumption | omega) (by first | assumption | omega)) (lw_V q817 q819 qs23 q159 q820) rfl rfl (by decide +kernel) ⟨Nat.le_of_ble_eq_true rfl, Nat.le_of_ble_eq_true rfl⟩ rfl hl.1 rfl (Nat.le_of_ble_eq_true rfl) ⟨Nat.le_of_ble_eq_true rfl, Nat.le_of_ble_eq_true rfl⟩ dX7_otherThan_2 (fun σ2 H locs eσ2 bx2 h => ?_) (fun r2 σ2 H locs bx2 eσ2 er2 hE2 h => ?_)
  · have he : f_X7_otherThan σ p2 = ((σ2, 0), true) := (by have eσ2 := eσ2.symm; subst eσ2; exact ((if_pos bx2).trans rfl))
    exact x_out C h htab hlocks (congrArg (fun z => z.1.1) he) (congrArg Prod.snd he)
  have bx2 := (fun q => Bool.noConfusion (bx2.symm.trans q) : ¬ ((f_X7_known σ)).2 = true)
  have hE2 : ((gi (ttb σ2) 1).toInt = (gi (ttb σ) 1).toInt) ∧ ((gi (ttb σ2) 3).toInt = (gi (ttb σ) 3).toInt) ∧ (ttb σ2 = ttb σ) ∧ (gi (own σ2) 5 = gi (own σ) 5) ∧ ((gi (own σ) 1).toInt ≤ (gi (own σ2) 1).toInt) ∧ (0 ≤ r2.toInt ∧ r2.toInt < (gi (ttb σ) 1).toInt) ∧ (0 ≤ (gi (own σ2) 0).toInt ∧ (gi (own σ2) 0).toInt ≤ 900) ∧ (0 ≤ (gi (own σ2) 2).toInt ∧ (gi (own σ2) 2).toInt ≤ (gi (own σ2) 0).toInt) ∧ (0 ≤ (gi (own σ2) 1).toInt ∧ (gi (own σ2) 1).toInt ≤ (gi (own σ2) 2).toInt) ∧ ((gi (own σ2) 3).toInt = 3 → (gi (own σ2) 1).toInt < (gi (own σ2) 2).toInt) := hE2
  obtain ⟨hlpq_2, hldq_2, hTT_2, hS5_2, hMN_2, hkr_2, hs9_2, hbe_2, hab_2, hsg_2⟩ := hE2
  have hNEW : (0 ≤ (gi (ttb σ2) 1).toInt ∧ (gi (ttb σ2) 1).toInt ≤ 6) ∧ (0 ≤ (gi (ttb σ2) 3).toInt ∧ (gi (ttb σ2) 3).toInt ≤ 16 ∧ (gi (ttb σ2) 3).toInt ≤ (g.1.2.1 50 : Int)) ∧ (0 ≤ (gi (own σ2) 0).toInt ∧ (gi (own σ2) 0).toInt ≤ 900) ∧ (0 ≤ (gi (own σ2) 2).toInt ∧ (gi (own σ2) 2).toInt ≤ (gi (own σ2) 0).toInt) ∧ (0 ≤ (gi (own σ2) 1).toInt ∧ (gi (own σ2) 1).toInt ≤ (gi (own σ2) 2).toInt) ∧ ((gi (own σ2) 3).toInt = 3 → (gi (own σ2) 1).toInt < (gi (own σ2) 2).toInt) ∧ ((gi (ttb σ2) 1).toInt = (gi (ttb σ) 1).toInt) ∧ ((gi (ttb σ2) 3).toInt = (gi (ttb σ) 3).toInt) ∧ (ttb σ2 = ttb σ) ∧ (gi (own σ2) 5 = gi (own σ) 5) ∧ ((gi (own σ) 1).toInt ≤ (gi (own σ2) 1).toInt) := ⟨(by first | assumption | omega), (by first | assumption | omega), (by first | assumption | omega), (by first | assumption | omega), (by first | assumption | omega), (by first | assumption | omega), (by first | assumption | omega), (by first | assumption | omega), (hTT_2.trans hTT), (hS5_2.trans hS5), (by first | assumption | omega)⟩
  obtain ⟨hlp, hld, hs9, hbe, hab, hsg, hlpq, hldq, hTT, hS5, hMN⟩ := hNEW
  refine lv_istore_n (lv' := [(3, .int r2), (0, .ref (g.2.1 90)), (1, .ref (g.1.2.1 99)), (2, .int p2)]) hx hb dX7_otherThan_5 rfl hl (by decide) rfl (fun ls hl => ?_)
  refine lv_iload_n hx hb dX7_otherThan_6 rfl (lv_at hl 0 rfl) ?_
  refine lv_iload_n hx hb dX7_otherThan_7 rfl (lv_at hl 3 rfl) ?_
  refine lv_icmp_ne (tgt := 27) hx hb dX7_otherThan_8 (by decide) (fun c8 => ?_) (fun c8 => ?_)
  · have i8 := c_ne c8
    refine lv_aload_n hx hb dX7_otherThan_27 rfl (lv_at hl 1 rfl) ?_
    refine w_callv (ci := 7) (q0 := 6) (As := []) (rest := []) 0 (wXR g) C h (k_X7_next l g σ2 (by first | assumption | omega) (by first | assumption | omega) (by first | assumption | omega) (by first | assumption | omega) (by first | assumption | omega)) (lw_V q590 q592 qs7 q159 q593) rfl rfl rfl rfl (by decide +kernel) ⟨Nat.le_of_ble_eq_true rfl, Nat.le_of_ble_eq_true rfl⟩ rfl hl.1 rfl (Nat.le_of_ble_eq_true rfl) ⟨Nat.le_of_ble_eq_true rfl, Nat.le_of_ble_eq_true rfl⟩ dX7_otherThan_28 (fun σ28 H locs eσ28 hE28 h => ?_)
    have hE28 : ((gi (ttb σ28) 1).toInt = (gi (ttb σ2) 1).toInt) ∧ ((gi (ttb σ28) 3).toInt = (gi (ttb σ2) 3).toInt) ∧ (ttb σ28 = ttb σ2) ∧ (gi (own σ28) 5 = gi (own σ2) 5) ∧ ((gi (own σ2) 1).toInt ≤ (gi (own σ28) 1).toInt) ∧ (0 ≤ (gi (own σ28) 0).toInt ∧ (gi (own σ28) 0).toInt ≤ 900) ∧ (0 ≤ (gi (own σ28) 2).toInt ∧ (gi (own σ28) 2).toInt ≤ (gi (own σ28) 0).toInt) ∧ (0 ≤ (gi (own σ28) 1).toInt ∧ (gi (own σ28) 1).toInt ≤ (gi (own σ28) 2).toInt) ∧ ((gi (own σ28) 3).toInt = 3 → (gi (own σ28) 1).toInt < (gi (own σ28) 2).toInt) ∧ ((gi (own σ2) 2).toInt ≤ (gi (own σ28) 1).toInt) := hE28
    obtain ⟨hlpq_28, hldq_28, hTT_28, hS5_28, hMN_28, hs9_28, hbe_28, hab_28, hsg_28, hnx_28⟩ := hE28
    have hNEW : (0 ≤ (gi (ttb σ28) 1).toInt ∧ (gi (ttb σ28) 1).toInt ≤ 6) ∧ (0 ≤ (gi (ttb σ28) 3).toInt ∧ (gi (ttb σ28) 3).toInt ≤ 16 ∧ (gi (ttb σ28) 3).toInt ≤ (g.1.2.1 50 : Int)) ∧ (0 ≤ (gi (own σ28) 0).toInt ∧ (gi (own σ28) 0).toInt ≤ 900) ∧ (0 ≤ (gi (own σ28) 2).toInt ∧ (gi (own σ28) 2).toInt ≤ (gi (own σ28) 0).toInt) ∧ (0 ≤ (gi (own σ28) 1).toInt ∧ (gi (own σ28) 1).toInt ≤ (gi (own σ28) 2).toInt) ∧ ((gi (own σ28) 3).toInt = 3 → (gi (own σ28) 1).toInt < (gi (own σ28) 2).toInt) ∧ ((gi (ttb σ28) 1).toInt = (gi (ttb σ) 1).toInt) ∧ ((gi (ttb σ28) 3).toInt = (gi (ttb σ) 3).toInt) ∧ (ttb σ28 = ttb σ) ∧ (gi (own σ28) 5 = gi (own σ) 5) ∧ ((gi (own σ) 1).toInt ≤ (gi (own σ28) 1).toInt) := ⟨(by first | assumption | omega), (by first | assumption | omega), (by first | assumption | omega), (by first | assumption | omega), (by first | assumption | omega), (by first | assumption | omega), (by first | assumption | omega), (by first | assumption | omega), (hTT_28.trans hTT), (hS5_28.trans hS5), (by first | assumption | omega)⟩
    clear hlp hld hs9 hbe hab hsg hlpq hldq hTT hS5 hMN
    obtain ⟨hlp, hld, hs9, hbe, hab, hsg, hlpq, hldq, hTT, hS5, hMN⟩ := hNEW
    refine lv_iload_n hx hb dX7_otherThan_31 rfl (lv_at hl 0 rfl) ?_
    have he : f_X7_otherThan σ p2 = ((σ28, r2), false) := (by have eσ2 := eσ2.symm; subst eσ2; have er2 := er2.symm; subst er2; have eσ28 := eσ28.symm; subst eσ28; exact ((if_neg bx2).trans ((if_neg c8).trans rfl)))
    exact x_reti C h hr hlocks (congrArg (fun z => z.1.1) he) (congrArg (fun z => z.1.2) he) (congrArg Prod.snd he) ⟨hlpq, hldq, hTT, hS5, hMN, (by first | assumption | omega | (unfold Hd; omega)), (by first | assumption | omega | (unfold Hd; omega)), (by first | assumption | omega | (unfold Hd; omega)), (by first | assumption | omega | (unfold Hd; omega)), (by first | assumption | omega | (unfold Hd; omega))⟩ dX7_otherThan_32
  · have i8 := c_eq c8
    refine lv_aload_n hx hb dX7_otherThan_11 rfl (lv_at hl 1 rfl) ?_
    refine R_g8 C h dX7_otherThan_12 ?_
    refine R_bad C h dX7_otherThan_15 ?_
    refine lv_iconst (v := 5) hx hb dX7_otherThan_18 (by decide) ?_
    refine lv_aload_n hx hb dX7_otherThan_19 rfl (lv_at hl 1 rfl) ?_
    refine R_g1 C h dX7_otherThan_20 ?_
    refine R_rcall (ci := 2) (q0 := 7) (As := [.int (5 : Int32), .int (gi (own σ2) 1)]) (rest := []) 2 C h (k_X2_at l g σ2 (5 : Int32) (gi (own σ2) 1)) (lw_V q692 q693 q694 q148 q695) rfl rfl rfl rfl (by decide +kernel) ⟨Nat.le_of_ble_eq_true rfl, Nat.le_of_ble_eq_true rfl⟩ rfl hl.1 rfl (Nat.le_of_ble_eq_true rfl) ⟨Nat.le_of_ble_eq_true rfl, Nat.le_of_ble_eq_true rfl⟩ dX7_otherThan_23 (fun σ23 H locs eσ23 h => ?_)
    have he : f_X7_otherThan σ p2 = ((σ23, 0), true) := (by have eσ2 := eσ2.symm; subst eσ2; have er2 := er2.symm; subst er2; have eσ23 := eσ23.symm; subst eσ23; exact ((if_neg bx2).trans ((if_pos c8).trans rfl)))
    exact vx_athrow C.1.1 C.1.2.1 dX7_otherThan_26 (x_out C h htab hlocks (congrArg (fun z => z.1.1) he) (congrArg Prod.snd he))
def f_X7_single (σ : MS × MS) (p2 : Int32) : ((MS × MS) × Int32) × Bool := (let z2 := (f_X7_known σ); if z2.2 = true then ((z2.1.1, 0), true) else (let σ2 := z2.1.1; let r2 := z2.1.2; if r2 = p2 then ((let σ35 := (f_X2_at σ2 (5 : Int32) (gi (own σ2) 1)); ((σ35, 0), true))) else (if (ga (ttb σ2) 25 r2) < (0 : Int32) then ((let σ40 := (f_X7_next σ2); ((σ40, r2), false))) else ((let σ35 := (f_X2_at σ2 (5 : Int32) (gi (own σ2) 1)); ((σ35, 0), true))))))
set_option maxHeartbeats 4000000 in
set_option maxRecDepth 100000 in
theorem k_X7_single (l : Launch) (g : GR) (σ : MS × MS) (p2 : Int32) (hlp : 0 ≤ (gi (ttb σ) 1).toInt ∧ (gi (ttb σ) 1).toInt ≤ 6) (hld : 0 ≤ (gi (ttb σ) 3).toInt ∧ (gi (ttb σ) 3).toInt ≤ 16 ∧ (gi (ttb σ) 3).toInt ≤ (g.1.2.1 50 : Int)) (hs9 : 0 ≤ (gi (own σ) 0).toInt ∧ (gi (own σ) 0).toInt ≤ 900) (hbe : 0 ≤ (gi (own σ) 2).toInt ∧ (gi (own σ) 2).toInt ≤ (gi (own σ) 0).toInt) (hab : 0 ≤ (gi (own σ) 1).toInt ∧ (gi (own σ) 1).toInt ≤ (gi (own σ) 2).toInt) (hsg : (gi (own σ) 3).toInt = 3 → (gi (own σ) 1).toInt < (gi (own σ) 2).toInt) : vx_Met l yX7_single (ws_ yX7_single cX7_single 4 (some .int)) ({ frames := 9, cells := 0, slots := 0, locals := 194 } : Room) (va_Pc [.ref (g.2.1 90), .ref (g.1.2.1 99), .int p2] (wU (dR g) σ)) (xQi g (f_X7_single σ p2).1.1 (f_X7_single σ p2).1.2 (f_X7_single σ p2).2 (fun u r => ((gi (ttb u) 1).toInt = (gi (ttb σ) 1).toInt) ∧ ((gi (ttb u) 3).toInt = (gi (ttb σ) 3).toInt) ∧ (ttb u = ttb σ) ∧ (gi (own u) 5 = gi (own σ) 5) ∧ ((gi (own σ) 1).toInt ≤ (gi (own u) 1).toInt) ∧ (0 ≤ r.toInt ∧ r.toInt < (gi (ttb σ) 1).toInt) ∧ (0 ≤ (gi (own u) 0).toInt ∧ (gi (own u) 0).toInt ≤ 900) ∧ (0 ≤ (gi (own u) 2).toInt ∧ (gi (own u) 2).toInt ≤ (gi (own u) 0).toInt) ∧ (0 ≤ (gi (own u) 1).toInt ∧ (gi (own u) 1).toInt ≤ (gi (own u) 2).toInt) ∧ ((gi (own u) 3).toInt = 3 → (gi (own u) 1).toInt < (gi (own u) 2).toInt))) (xX g (f_X7_single σ p2).1.1 (f_X7_single σ p2).2) 0 0 (rA g) := by
  refine met_R (by decide) rfl (Nat.le_of_ble_eq_true rfl) ?_
  intro p e s m args below meth c C hr hlocks htab h ls hl
  have hx := C.1.1
  have hb := C.1.2.1
  have hml := C.1.2.2.1
  have hown := C.1.2.2.2.1
  have hts := C.1.2.2.2.2
  have hl : lv_has ls 4 [(0, .ref (g.2.1 90)), (1, .ref (g.1.2.1 99)), (2, .int p2)] := hl
  have hlpq : (gi (ttb σ) 1).toInt = (gi (ttb σ) 1).toInt := rfl
  have hldq : (gi (ttb σ) 3).toInt = (gi (ttb σ) 3).toInt := rfl
  have hTT : ttb σ = ttb σ := rfl
  have hS5 : gi (own σ) 5 = gi (own σ) 5 := rfl
  have hMN : (gi (own σ) 1).toInt ≤ (gi (own σ) 1).toInt := Int.le_refl _
  have zl0 : (0 : Int32).toInt = 0 := rfl
  have zl5 : (5 : Int32).toInt = 5 := rfl
  refine lv_aload_n hx hb dX7_single_0 rfl (lv_at hl 0 rfl) ?_
  refine lv_aload_n hx hb dX7_single_1 rfl (lv_at hl 1 rfl) ?_
  refine R_xcalli (As := [.ref (g.1.2.1 99)]) (rest := []) 1 C h (k_X7_known l g σ (by first | assumption | omega) (by first | assumption | omega) (by first | assumption | omega) (by first | assumption | omega) (by first | assumption | omega) (by first | assumption | omega)) (lw_V q817 q819 qs23 q159 q820) rfl rfl (by decide +kernel) ⟨Nat.le_of_ble_eq_true rfl, Nat.le_of_ble_eq_true rfl⟩ rfl hl.1 rfl (Nat.le_of_ble_eq_true rfl) ⟨Nat.le_of_ble_eq_true rfl, Nat.le_of_ble_eq_true rfl⟩ dX7_single_2 (fun σ2 H locs eσ2 bx2 h => ?_) (fun r2 σ2 H locs bx2 eσ2 er2 hE2 h => ?_)
  · have he : f_X7_single σ p2 = ((σ2, 0), true) := (by have eσ2 := eσ2.symm; subst eσ2; exact ((if_pos bx2).trans rfl))
    exact x_out C h htab hlocks (congrArg (fun z => z.1.1) he) (congrArg Prod.snd he)
  have bx2 := (fun q => Bool.noConfusion (bx2.symm.trans q) : ¬ ((f_X7_known σ)).2 = true)
  have hE2 : ((gi (ttb σ2) 1).toInt = (gi (ttb σ) 1).toInt) ∧ ((gi (ttb σ2) 3).toInt = (gi (ttb σ) 3).toInt) ∧ (ttb σ2 = ttb σ) ∧ (gi (own σ2) 5 = gi (own σ) 5) ∧ ((gi (own σ) 1).toInt ≤ (gi (own σ2) 1).toInt) ∧ (0 ≤ r2.toInt ∧ r2.toInt < (gi (ttb σ) 1).toInt) ∧ (0 ≤ (gi (own σ2) 0).toInt ∧ (gi (own σ2) 0).toInt ≤ 900) ∧ (0 ≤ (gi (own σ2) 2).toInt ∧ (gi (own σ2) 2).toInt ≤ (gi (own σ2) 0).toInt) ∧ (0 ≤ (gi (own σ2) 1).toInt ∧ (gi (own σ2) 1).toInt ≤ (gi (own σ2) 2).toInt) ∧ ((gi (own σ2) 3).toInt = 3 → (gi (own σ2) 1).toInt < (gi (own σ2) 2).toInt) := hE2
  obtain ⟨hlpq_2, hldq_2, hTT_2, hS5_2, hMN_2, hkr_2, hs9_2, hbe_2, hab_2, hsg_2⟩ := hE2
  have hNEW : (0 ≤ (gi (ttb σ2) 1).toInt ∧ (gi (ttb σ2) 1).toInt ≤ 6) ∧ (0 ≤ (gi (ttb σ2) 3).toInt ∧ (gi (ttb σ2) 3).toInt ≤ 16 ∧ (gi (ttb σ2) 3).toInt ≤ (g.1.2.1 50 : Int)) ∧ (0 ≤ (gi (own σ2) 0).toInt ∧ (gi (own σ2) 0).toInt ≤ 900) ∧ (0 ≤ (gi (own σ2) 2).toInt ∧ (gi (own σ2) 2).toInt ≤ (gi (own σ2) 0).toInt) ∧ (0 ≤ (gi (own σ2) 1).toInt ∧ (gi (own σ2) 1).toInt ≤ (gi (own σ2) 2).toInt) ∧ ((gi (own σ2) 3).toInt = 3 → (gi (own σ2) 1).toInt < (gi (own σ2) 2).toInt) ∧ ((gi (ttb σ2) 1).toInt = (gi (ttb σ) 1).toInt) ∧ ((gi (ttb σ2) 3).toInt = (gi (ttb σ) 3).toInt) ∧ (ttb σ2 = ttb σ) ∧ (gi (own σ2) 5 = gi (own σ) 5) ∧ ((gi (own σ) 1).toInt ≤ (gi (own σ2) 1).toInt) := ⟨(by first | assumption | omega), (by first | assumption | omega), (by first | assumption | omega), (by first | assumption | omega), (by first | assumption | omega), (by first | assumption | omega), (by first | assumption | omega), (by first | assumption | omega), (hTT_2.trans hTT), (hS5_2.trans hS5), (by first | assumption | omega)⟩
  obtain ⟨hlp, hld, hs9, hbe, hab, hsg, hlpq, hldq, hTT, hS5, hMN⟩ := hNEW
  refine lv_istore_n (lv' := [(3, .int r2), (0, .ref (g.2.1 90)), (1, .ref (g.1.2.1 99)), (2, .int p2)]) hx hb dX7_single_5 rfl hl (by decide) rfl (fun ls hl => ?_)
  refine lv_iload_n hx hb dX7_single_6 rfl (lv_at hl 0 rfl) ?_
  refine lv_iload_n hx hb dX7_single_7 rfl (lv_at hl 3 rfl) ?_
  refine lv_icmp_eq (tgt := 23) hx hb dX7_single_8 (by decide) (fun c8 => ?_) (fun c8 => ?_)
  · have i8 := c_eq c8
    refine lv_aload_n hx hb dX7_single_23 rfl (lv_at hl 1 rfl) ?_
    refine R_g8 C h dX7_single_24 ?_
    refine R_bad C h dX7_single_27 ?_
    refine lv_iconst (v := 5) hx hb dX7_single_30 (by decide) ?_
    refine lv_aload_n hx hb dX7_single_31 rfl (lv_at hl 1 rfl) ?_
    refine R_g1 C h dX7_single_32 ?_
    refine R_rcall (ci := 2) (q0 := 7) (As := [.int (5 : Int32), .int (gi (own σ2) 1)]) (rest := []) 2 C h (k_X2_at l g σ2 (5 : Int32) (gi (own σ2) 1)) (lw_V q692 q693 q694 q148 q695) rfl rfl rfl rfl (by decide +kernel) ⟨Nat.le_of_ble_eq_true rfl, Nat.le_of_ble_eq_true rfl⟩ rfl hl.1 rfl (Nat.le_of_ble_eq_true rfl) ⟨Nat.le_of_ble_eq_true rfl, Nat.le_of_ble_eq_true rfl⟩ dX7_single_35 (fun σ35 H locs eσ35 h => ?_)
    have he : f_X7_single σ p2 = ((σ35, 0), true) := (by have eσ2 := eσ2.symm; subst eσ2; have er2 := er2.symm; subst er2; have eσ35 := eσ35.symm; subst eσ35; exact ((if_neg bx2).trans ((if_pos c8).trans rfl)))
    exact vx_athrow C.1.1 C.1.2.1 dX7_single_38 (x_out C h htab hlocks (congrArg (fun z => z.1.1) he) (congrArg Prod.snd he))
  · have i8 := c_ne c8
    refine lv_aload_n hx hb dX7_single_11 rfl (lv_at hl 2 rfl) ?_
    refine R_t0 C h dX7_single_12 ?_
    refine lv_iload_n hx hb dX7_single_15 rfl (lv_at hl 0 rfl) ?_
    refine R_pers C h (by omega) dX7_single_16 ?_
    refine R_f5 C h (by omega) dX7_single_17 ?_
    refine lv_if_lt (tgt := 39) hx hb dX7_single_20 (by decide) (fun c20 => ?_) (fun c20 => ?_)
    · have i20 := c_lt c20
      refine lv_aload_n hx hb dX7_single_39 rfl (lv_at hl 1 rfl) ?_
      refine w_callv (ci := 7) (q0 := 6) (As := []) (rest := []) 0 (wXR g) C h (k_X7_next l g σ2 (by first | assumption | omega) (by first | assumption | omega) (by first | assumption | omega) (by first | assumption | omega) (by first | assumption | omega)) (lw_V q590 q592 qs7 q159 q593) rfl rfl rfl rfl (by decide +kernel) ⟨Nat.le_of_ble_eq_true rfl, Nat.le_of_ble_eq_true rfl⟩ rfl hl.1 rfl (Nat.le_of_ble_eq_true rfl) ⟨Nat.le_of_ble_eq_true rfl, Nat.le_of_ble_eq_true rfl⟩ dX7_single_40 (fun σ40 H locs eσ40 hE40 h => ?_)
      have hE40 : ((gi (ttb σ40) 1).toInt = (gi (ttb σ2) 1).toInt) ∧ ((gi (ttb σ40) 3).toInt = (gi (ttb σ2) 3).toInt) ∧ (ttb σ40 = ttb σ2) ∧ (gi (own σ40) 5 = gi (own σ2) 5) ∧ ((gi (own σ2) 1).toInt ≤ (gi (own σ40) 1).toInt) ∧ (0 ≤ (gi (own σ40) 0).toInt ∧ (gi (own σ40) 0).toInt ≤ 900) ∧ (0 ≤ (gi (own σ40) 2).toInt ∧ (gi (own σ40) 2).toInt ≤ (gi (own σ40) 0).toInt) ∧ (0 ≤ (gi (own σ40) 1).toInt ∧ (gi (own σ40) 1).toInt ≤ (gi (own σ40) 2).toInt) ∧ ((gi (own σ40) 3).toInt = 3 → (gi (own σ40) 1).toInt < (gi (own σ40) 2).toInt) ∧ ((gi (own σ2) 2).toInt ≤ (gi (own σ40) 1).toInt) := hE40
      obtain ⟨hlpq_40, hldq_40, hTT_40, hS5_40, hMN_40, hs9_40, hbe_40, hab_40, hsg_40, hnx_40⟩ := hE40
      have hNEW : (0 ≤ (gi (ttb σ40) 1).toInt ∧ (gi (ttb σ40) 1).toInt ≤ 6) ∧ (0 ≤ (gi (ttb σ40) 3).toInt ∧ (gi (ttb σ40) 3).toInt ≤ 16 ∧ (gi (ttb σ40) 3).toInt ≤ (g.1.2.1 50 : Int)) ∧ (0 ≤ (gi (own σ40) 0).toInt ∧ (gi (own σ40) 0).toInt ≤ 900) ∧ (0 ≤ (gi (own σ40) 2).toInt ∧ (gi (own σ40) 2).toInt ≤ (gi (own σ40) 0).toInt) ∧ (0 ≤ (gi (own σ40) 1).toInt ∧ (gi (own σ40) 1).toInt ≤ (gi (own σ40) 2).toInt) ∧ ((gi (own σ40) 3).toInt = 3 → (gi (own σ40) 1).toInt < (gi (own σ40) 2).toInt) ∧ ((gi (ttb σ40) 1).toInt = (gi (ttb σ) 1).toInt) ∧ ((gi (ttb σ40) 3).toInt = (gi (ttb σ) 3).toInt) ∧ (ttb σ40 = ttb σ) ∧ (gi (own σ40) 5 = gi (own σ) 5) ∧ ((gi (own σ) 1).toInt ≤ (gi (own σ40) 1).toInt) := ⟨(by first | assumption | omega), (by first | assumption | omega), (by first | assumption | omega), (by first | assumption | omega), (by first | assumption | omega), (by first | assumption | omega), (by first | assumption | omega), (by first | assumption | omega), (hTT_40.trans hTT), (hS5_40.trans hS5), (by first | assumption | omega)⟩
      clear hlp hld hs9 hbe hab hsg hlpq hldq hTT hS5 hMN
      obtain ⟨hlp, hld, hs9, hbe, hab, hsg, hlpq, hldq, hTT, hS5, hMN⟩ := hNEW
      refine lv_iload_n hx hb dX7_single_43 rfl (lv_at hl 0 rfl) ?_
      have he : f_X7_single σ p2 = ((σ40, r2), false) := (by have eσ2 := eσ2.symm; subst eσ2; have er2 := er2.symm; subst er2; have eσ40 := eσ40.symm; subst eσ40; exact ((if_neg bx2).trans ((if_neg c8).trans ((if_pos c20).trans rfl))))
      exact x_reti C h hr hlocks (congrArg (fun z => z.1.1) he) (congrArg (fun z => z.1.2) he) (congrArg Prod.snd he) ⟨hlpq, hldq, hTT, hS5, hMN, (by first | assumption | omega | (unfold Hd; omega)), (by first | assumption | omega | (unfold Hd; omega)), (by first | assumption | omega | (unfold Hd; omega)), (by first | assumption | omega | (unfold Hd; omega)), (by first | assumption | omega | (unfold Hd; omega))⟩ dX7_single_44
    · have i20 := c_nlt c20
      refine lv_aload_n hx hb dX7_single_23 rfl (lv_at hl 1 rfl) ?_
      refine R_g8 C h dX7_single_24 ?_
      refine R_bad C h dX7_single_27 ?_
      refine lv_iconst (v := 5) hx hb dX7_single_30 (by decide) ?_
      refine lv_aload_n hx hb dX7_single_31 rfl (lv_at hl 1 rfl) ?_
      refine R_g1 C h dX7_single_32 ?_
      refine R_rcall (ci := 2) (q0 := 7) (As := [.int (5 : Int32), .int (gi (own σ2) 1)]) (rest := []) 2 C h (k_X2_at l g σ2 (5 : Int32) (gi (own σ2) 1)) (lw_V q692 q693 q694 q148 q695) rfl rfl rfl rfl (by decide +kernel) ⟨Nat.le_of_ble_eq_true rfl, Nat.le_of_ble_eq_true rfl⟩ rfl hl.1 rfl (Nat.le_of_ble_eq_true rfl) ⟨Nat.le_of_ble_eq_true rfl, Nat.le_of_ble_eq_true rfl⟩ dX7_single_35 (fun σ35 H locs eσ35 h => ?_)
      have he : f_X7_single σ p2 = ((σ35, 0), true) := (by have eσ2 := eσ2.symm; subst eσ2; have er2 := er2.symm; subst er2; have eσ35 := eσ35.symm; subst eσ35; exact ((if_neg bx2).trans ((if_neg c8).trans ((if_neg c20).trans rfl))))
      exact vx_athrow C.1.1 C.1.2.1 dX7_single_38 (x_out C h htab hlocks (congrArg (fun z => z.1.1) he) (congrArg Prod.snd he))
def f_X7_payer (σ : MS × MS) : ((MS × MS) × Int32) × Bool := (let r3 := (f_X7_isWord σ 21); if r3 = (0 : Int32) then (((σ, (-1 : Int32)), false)) else ((let σ12 := (f_X7_next σ); let z17 := (f_X7_who σ12); if z17.2 = true then ((z17.1.1, 0), true) else (let σ17 := z17.1.1; let r17 := z17.1.2; ((σ17, r17), false)))))
set_option maxHeartbeats 4000000 in
set_option maxRecDepth 100000 in
theorem k_X7_payer (l : Launch) (g : GR) (σ : MS × MS) (hlp : 0 ≤ (gi (ttb σ) 1).toInt ∧ (gi (ttb σ) 1).toInt ≤ 6) (hld : 0 ≤ (gi (ttb σ) 3).toInt ∧ (gi (ttb σ) 3).toInt ≤ 16 ∧ (gi (ttb σ) 3).toInt ≤ (g.1.2.1 50 : Int)) (hs9 : 0 ≤ (gi (own σ) 0).toInt ∧ (gi (own σ) 0).toInt ≤ 900) (hbe : 0 ≤ (gi (own σ) 2).toInt ∧ (gi (own σ) 2).toInt ≤ (gi (own σ) 0).toInt) (hab : 0 ≤ (gi (own σ) 1).toInt ∧ (gi (own σ) 1).toInt ≤ (gi (own σ) 2).toInt) (hsg : (gi (own σ) 3).toInt = 3 → (gi (own σ) 1).toInt < (gi (own σ) 2).toInt) : vx_Met l yX7_payer (ws_ yX7_payer cX7_payer 2 (some .int)) ({ frames := 10, cells := 0, slots := 0, locals := 216 } : Room) (va_Pc [.ref (g.2.1 90), .ref (g.1.2.1 99)] (wU (dR g) σ)) (xQi g (f_X7_payer σ).1.1 (f_X7_payer σ).1.2 (f_X7_payer σ).2 (fun u r => ((gi (ttb u) 1).toInt = (gi (ttb σ) 1).toInt) ∧ ((gi (ttb u) 3).toInt = (gi (ttb σ) 3).toInt) ∧ (ttb u = ttb σ) ∧ (gi (own u) 5 = gi (own σ) 5) ∧ ((gi (own σ) 1).toInt ≤ (gi (own u) 1).toInt) ∧ (-1 ≤ r.toInt ∧ r.toInt < (gi (ttb σ) 1).toInt) ∧ (0 ≤ (gi (own u) 0).toInt ∧ (gi (own u) 0).toInt ≤ 900) ∧ (0 ≤ (gi (own u) 2).toInt ∧ (gi (own u) 2).toInt ≤ (gi (own u) 0).toInt) ∧ (0 ≤ (gi (own u) 1).toInt ∧ (gi (own u) 1).toInt ≤ (gi (own u) 2).toInt) ∧ ((gi (own u) 3).toInt = 3 → (gi (own u) 1).toInt < (gi (own u) 2).toInt))) (xX g (f_X7_payer σ).1.1 (f_X7_payer σ).2) 0 0 (rA g) := by
  refine met_R (by decide) rfl (Nat.le_of_ble_eq_true rfl) ?_
  intro p e s m args below meth c C hr hlocks htab h ls hl
  have hx := C.1.1
  have hb := C.1.2.1
  have hml := C.1.2.2.1
  have hown := C.1.2.2.2.1
  have hts := C.1.2.2.2.2
  have hl : lv_has ls 2 [(0, .ref (g.2.1 90)), (1, .ref (g.1.2.1 99))] := hl
  have hlpq : (gi (ttb σ) 1).toInt = (gi (ttb σ) 1).toInt := rfl
  have hldq : (gi (ttb σ) 3).toInt = (gi (ttb σ) 3).toInt := rfl
  have hTT : ttb σ = ttb σ := rfl
  have hS5 : gi (own σ) 5 = gi (own σ) 5 := rfl
  have hMN : (gi (own σ) 1).toInt ≤ (gi (own σ) 1).toInt := Int.le_refl _
  have zlm1 : (-1 : Int32).toInt = -1 := rfl
  have zl0 : (0 : Int32).toInt = 0 := rfl
  refine lv_aload_n hx hb dX7_payer_0 rfl (lv_at hl 0 rfl) ?_
  refine R_s21 C dX7_payer_1 ?_
  refine w_callz (ci := 7) (q0 := 6) (As := [.ref (g.2.2.2.1 21).1]) (rest := []) 1 (wXR g) C h (k_X7_isWord l g σ 21 (by first | assumption | omega) (by first | assumption | omega) (by first | assumption | omega) (by first | assumption | omega)) (lw_V q636 q638 qs10 q159 q639) rfl rfl rfl rfl (by decide +kernel) ⟨Nat.le_of_ble_eq_true rfl, Nat.le_of_ble_eq_true rfl⟩ rfl hl.1 rfl (Nat.le_of_ble_eq_true rfl) ⟨Nat.le_of_ble_eq_true rfl, Nat.le_of_ble_eq_true rfl⟩ dX7_payer_3 (fun r3 σ3 H locs eσ3 er3 br3 hE3 h => ?_)
  rw [eσ3] at h
  have hE3 : (¬ r3 = 0 → (gi (own σ) 1).toInt < (gi (own σ) 2).toInt) := hE3
  have hwl_3 := hE3
  clear eσ3
  refine lv_if_ne (tgt := 11) hx hb dX7_payer_6 (by decide) (fun c6 => ?_) (fun c6 => ?_)
  · have i6 := c_ne c6
    have okr3 := hwl_3 c6
    refine lv_aload_n hx hb dX7_payer_11 rfl (lv_at hl 0 rfl) ?_
    refine w_callv (ci := 7) (q0 := 6) (As := []) (rest := []) 0 (wXR g) C h (k_X7_next l g σ (by first | assumption | omega) (by first | assumption | omega) (by first | assumption | omega) (by first | assumption | omega) (by first | assumption | omega)) (lw_V q590 q592 qs7 q159 q593) rfl rfl rfl rfl (by decide +kernel) ⟨Nat.le_of_ble_eq_true rfl, Nat.le_of_ble_eq_true rfl⟩ rfl hl.1 rfl (Nat.le_of_ble_eq_true rfl) ⟨Nat.le_of_ble_eq_true rfl, Nat.le_of_ble_eq_true rfl⟩ dX7_payer_12 (fun σ12 H locs eσ12 hE12 h => ?_)
    have hE12 : ((gi (ttb σ12) 1).toInt = (gi (ttb σ) 1).toInt) ∧ ((gi (ttb σ12) 3).toInt = (gi (ttb σ) 3).toInt) ∧ (ttb σ12 = ttb σ) ∧ (gi (own σ12) 5 = gi (own σ) 5) ∧ ((gi (own σ) 1).toInt ≤ (gi (own σ12) 1).toInt) ∧ (0 ≤ (gi (own σ12) 0).toInt ∧ (gi (own σ12) 0).toInt ≤ 900) ∧ (0 ≤ (gi (own σ12) 2).toInt ∧ (gi (own σ12) 2).toInt ≤ (gi (own σ12) 0).toInt) ∧ (0 ≤ (gi (own σ12) 1).toInt ∧ (gi (own σ12) 1).toInt ≤ (gi (own σ12) 2).toInt) ∧ ((gi (own σ12) 3).toInt = 3 → (gi (own σ12) 1).toInt < (gi (own σ12) 2).toInt) ∧ ((gi (own σ) 2).toInt ≤ (gi (own σ12) 1).toInt) := hE12
    obtain ⟨hlpq_12, hldq_12, hTT_12, hS5_12, hMN_12, hs9_12, hbe_12, hab_12, hsg_12, hnx_12⟩ := hE12
    have hNEW : (0 ≤ (gi (ttb σ12) 1).toInt ∧ (gi (ttb σ12) 1).toInt ≤ 6) ∧ (0 ≤ (gi (ttb σ12) 3).toInt ∧ (gi (ttb σ12) 3).toInt ≤ 16 ∧ (gi (ttb σ12) 3).toInt ≤ (g.1.2.1 50 : Int)) ∧ (0 ≤ (gi (own σ12) 0).toInt ∧ (gi (own σ12) 0).toInt ≤ 900) ∧ (0 ≤ (gi (own σ12) 2).toInt ∧ (gi (own σ12) 2).toInt ≤ (gi (own σ12) 0).toInt) ∧ (0 ≤ (gi (own σ12) 1).toInt ∧ (gi (own σ12) 1).toInt ≤ (gi (own σ12) 2).toInt) ∧ ((gi (own σ12) 3).toInt = 3 → (gi (own σ12) 1).toInt < (gi (own σ12) 2).toInt) ∧ ((gi (ttb σ12) 1).toInt = (gi (ttb σ) 1).toInt) ∧ ((gi (ttb σ12) 3).toInt = (gi (ttb σ) 3).toInt) ∧ (ttb σ12 = ttb σ) ∧ (gi (own σ12) 5 = gi (own σ) 5) ∧ ((gi (own σ) 1).toInt ≤ (gi (own σ12) 1).toInt) := ⟨(by first | assumption | omega), (by first | assumption | omega), (by first | assumption | omega), (by first | assumption | omega), (by first | assumption | omega), (by first | assumption | omega), (by first | assumption | omega), (by first | assumption | omega), (hTT_12.trans hTT), (hS5_12.trans hS5), (by first | assumption | omega)⟩
    obtain ⟨hlp, hld, hs9, hbe, hab, hsg, hlpq, hldq, hTT, hS5, hMN⟩ := hNEW
    refine lv_aload_n hx hb dX7_payer_15 rfl (lv_at hl 0 rfl) ?_
    refine lv_aload_n hx hb dX7_payer_16 rfl (lv_at hl 1 rfl) ?_
    refine R_xcalli (As := [.ref (g.1.2.1 99)]) (rest := []) 1 C h (k_X7_who l g σ12 (by first | assumption | omega) (by first | assumption | omega) (by first | assumption | omega) (by first | assumption | omega) (by first | assumption | omega) (by first | assumption | omega)) (lw_V q825 q827 qs25 q159 q828) rfl rfl (by decide +kernel) ⟨Nat.le_of_ble_eq_true rfl, Nat.le_of_ble_eq_true rfl⟩ rfl hl.1 rfl (Nat.le_of_ble_eq_true rfl) ⟨Nat.le_of_ble_eq_true rfl, Nat.le_of_ble_eq_true rfl⟩ dX7_payer_17 (fun σ17 H locs eσ17 bx17 h => ?_) (fun r17 σ17 H locs bx17 eσ17 er17 hE17 h => ?_)
    · have he : f_X7_payer σ = ((σ17, 0), true) := (by have er3 := er3.symm; subst er3; have eσ12 := eσ12.symm; subst eσ12; have eσ17 := eσ17.symm; subst eσ17; exact ((if_neg c6).trans ((if_pos bx17).trans rfl)))
      exact x_out C h htab hlocks (congrArg (fun z => z.1.1) he) (congrArg Prod.snd he)
    have bx17 := (fun q => Bool.noConfusion (bx17.symm.trans q) : ¬ ((f_X7_who σ12)).2 = true)
    have hE17 : ((gi (ttb σ17) 1).toInt = (gi (ttb σ12) 1).toInt) ∧ ((gi (ttb σ17) 3).toInt = (gi (ttb σ12) 3).toInt) ∧ (ttb σ17 = ttb σ12) ∧ (gi (own σ17) 5 = gi (own σ12) 5) ∧ ((gi (own σ12) 1).toInt ≤ (gi (own σ17) 1).toInt) ∧ (0 ≤ r17.toInt ∧ r17.toInt < (gi (ttb σ12) 1).toInt) ∧ (0 ≤ (gi (own σ17) 0).toInt ∧ (gi (own σ17) 0).toInt ≤ 900) ∧ (0 ≤ (gi (own σ17) 2).toInt ∧ (gi (own σ17) 2).toInt ≤ (gi (own σ17) 0).toInt) ∧ (0 ≤ (gi (own σ17) 1).toInt ∧ (gi (own σ17) 1).toInt ≤ (gi (own σ17) 2).toInt) ∧ ((gi (own σ17) 3).toInt = 3 → (gi (own σ17) 1).toInt < (gi (own σ17) 2).toInt) := hE17
    obtain ⟨hlpq_17, hldq_17, hTT_17, hS5_17, hMN_17, hkr_17, hs9_17, hbe_17, hab_17, hsg_17⟩ := hE17
    have hNEW : (0 ≤ (gi (ttb σ17) 1).toInt ∧ (gi (ttb σ17) 1).toInt ≤ 6) ∧ (0 ≤ (gi (ttb σ17) 3).toInt ∧ (gi (ttb σ17) 3).toInt ≤ 16 ∧ (gi (ttb σ17) 3).toInt ≤ (g.1.2.1 50 : Int)) ∧ (0 ≤ (gi (own σ17) 0).toInt ∧ (gi (own σ17) 0).toInt ≤ 900) ∧ (0 ≤ (gi (own σ17) 2).toInt ∧ (gi (own σ17) 2).toInt ≤ (gi (own σ17) 0).toInt) ∧ (0 ≤ (gi (own σ17) 1).toInt ∧ (gi (own σ17) 1).toInt ≤ (gi (own σ17) 2).toInt) ∧ ((gi (own σ17) 3).toInt = 3 → (gi (own σ17) 1).toInt < (gi (own σ17) 2).toInt) ∧ ((gi (ttb σ17) 1).toInt = (gi (ttb σ) 1).toInt) ∧ ((gi (ttb σ17) 3).toInt = (gi (ttb σ) 3).toInt) ∧ (ttb σ17 = ttb σ) ∧ (gi (own σ17) 5 = gi (own σ) 5) ∧ ((gi (own σ) 1).toInt ≤ (gi (own σ17) 1).toInt) := ⟨(by first | assumption | omega), (by first | assumption | omega), (by first | assumption | omega), (by first | assumption | omega), (by first | assumption | omega), (by first | assumption | omega), (by first | assumption | omega), (by first | assumption | omega), (hTT_17.trans hTT), (hS5_17.trans hS5), (by first | assumption | omega)⟩
    clear hlp hld hs9 hbe hab hsg hlpq hldq hTT hS5 hMN
    obtain ⟨hlp, hld, hs9, hbe, hab, hsg, hlpq, hldq, hTT, hS5, hMN⟩ := hNEW
    have he : f_X7_payer σ = ((σ17, r17), false) := (by have er3 := er3.symm; subst er3; have eσ12 := eσ12.symm; subst eσ12; have eσ17 := eσ17.symm; subst eσ17; have er17 := er17.symm; subst er17; exact ((if_neg c6).trans ((if_neg bx17).trans rfl)))
    exact x_reti C h hr hlocks (congrArg (fun z => z.1.1) he) (congrArg (fun z => z.1.2) he) (congrArg Prod.snd he) ⟨hlpq, hldq, hTT, hS5, hMN, (by first | assumption | omega | (unfold Hd; omega)), (by first | assumption | omega | (unfold Hd; omega)), (by first | assumption | omega | (unfold Hd; omega)), (by first | assumption | omega | (unfold Hd; omega)), (by first | assumption | omega | (unfold Hd; omega))⟩ dX7_payer_20
  · have i6 := c_eq c6
    refine lv_iconst (v := -1) hx hb dX7_payer_9 (by decide) ?_
    have he : f_X7_payer σ = ((σ, (-1 : Int32)), false) := (by have er3 := er3.symm; subst er3; exact ((if_pos c6).trans rfl))
    exact x_reti C h hr hlocks (congrArg (fun z => z.1.1) he) (congrArg (fun z => z.1.2) he) (congrArg Prod.snd he) ⟨hlpq, hldq, hTT, hS5, hMN, (by first | assumption | omega | (unfold Hd; omega)), (by first | assumption | omega | (unfold Hd; omega)), (by first | assumption | omega | (unfold Hd; omega)), (by first | assumption | omega | (unfold Hd; omega)), (by first | assumption | omega | (unfold Hd; omega))⟩ dX7_payer_10
def f_X7_split (σ : MS × MS) : ((MS × MS) × Int32) × Bool := if (gi (own σ) 6) = (0 : Int32) then ((let σ25 := lsi σ 6 (1 : Int32); let σ29 := (f_X7_next σ25); let r33 := (f_X7_splits σ29); if (0 : Int32) ≤ r33 then ((let σ47 := (f_X7_next σ29); ((σ47, r33), false))) else ((let σ42 := (f_X7_wrong σ29); ((σ42, 0), true))))) else ((let σ19 := (f_X2_at σ (5 : Int32) (gi (own σ) 1)); ((σ19, 0), true)))
set_option maxHeartbeats 4000000 in
set_option maxRecDepth 100000 in
theorem k_X7_split (l : Launch) (g : GR) (σ : MS × MS) (hlp : 0 ≤ (gi (ttb σ) 1).toInt ∧ (gi (ttb σ) 1).toInt ≤ 6) (hld : 0 ≤ (gi (ttb σ) 3).toInt ∧ (gi (ttb σ) 3).toInt ≤ 16 ∧ (gi (ttb σ) 3).toInt ≤ (g.1.2.1 50 : Int)) (hs9 : 0 ≤ (gi (own σ) 0).toInt ∧ (gi (own σ) 0).toInt ≤ 900) (hbe : 0 ≤ (gi (own σ) 2).toInt ∧ (gi (own σ) 2).toInt ≤ (gi (own σ) 0).toInt) (hab : 0 ≤ (gi (own σ) 1).toInt ∧ (gi (own σ) 1).toInt ≤ (gi (own σ) 2).toInt) (hsg : (gi (own σ) 3).toInt = 3 → (gi (own σ) 1).toInt < (gi (own σ) 2).toInt) : vx_Met l yX7_split (ws_ yX7_split cX7_split 2 (some .int)) ({ frames := 6, cells := 0, slots := 0, locals := 127 } : Room) (va_Pc [.ref (g.2.1 90)] (wU (dR g) σ)) (xQi g (f_X7_split σ).1.1 (f_X7_split σ).1.2 (f_X7_split σ).2 (fun u r => ((gi (ttb u) 1).toInt = (gi (ttb σ) 1).toInt) ∧ ((gi (ttb u) 3).toInt = (gi (ttb σ) 3).toInt) ∧ (ttb u = ttb σ) ∧ (gi (own u) 5 = gi (own σ) 5) ∧ ((gi (own σ) 1).toInt ≤ (gi (own u) 1).toInt) ∧ (0 ≤ r.toInt ∧ r.toInt ≤ 2) ∧ (0 ≤ (gi (own u) 0).toInt ∧ (gi (own u) 0).toInt ≤ 900) ∧ (0 ≤ (gi (own u) 2).toInt ∧ (gi (own u) 2).toInt ≤ (gi (own u) 0).toInt) ∧ (0 ≤ (gi (own u) 1).toInt ∧ (gi (own u) 1).toInt ≤ (gi (own u) 2).toInt) ∧ ((gi (own u) 3).toInt = 3 → (gi (own u) 1).toInt < (gi (own u) 2).toInt))) (xX g (f_X7_split σ).1.1 (f_X7_split σ).2) 0 0 (rA g) := by
  refine met_R (by decide) rfl (Nat.le_of_ble_eq_true rfl) ?_
  intro p e s m args below meth c C hr hlocks htab h ls hl
  have hx := C.1.1
  have hb := C.1.2.1
  have hml := C.1.2.2.1
  have hown := C.1.2.2.2.1
  have hts := C.1.2.2.2.2
  have hl : lv_has ls 2 [(0, .ref (g.2.1 90))] := hl
  have hlpq : (gi (ttb σ) 1).toInt = (gi (ttb σ) 1).toInt := rfl
  have hldq : (gi (ttb σ) 3).toInt = (gi (ttb σ) 3).toInt := rfl
  have hTT : ttb σ = ttb σ := rfl
  have hS5 : gi (own σ) 5 = gi (own σ) 5 := rfl
  have hMN : (gi (own σ) 1).toInt ≤ (gi (own σ) 1).toInt := Int.le_refl _
  have zl0 : (0 : Int32).toInt = 0 := rfl
  have zl1 : (1 : Int32).toInt = 1 := rfl
  have zl5 : (5 : Int32).toInt = 5 := rfl
  refine lv_aload_n hx hb dX7_split_0 rfl (lv_at hl 0 rfl) ?_
  refine R_g6 C h dX7_split_1 ?_
  refine lv_if_eq (tgt := 23) hx hb dX7_split_4 (by decide) (fun c4 => ?_) (fun c4 => ?_)
  · have i4 := c_eq c4
    refine lv_aload_n hx hb dX7_split_23 rfl (lv_at hl 0 rfl) ?_
    refine lv_iconst (v := 1) hx hb dX7_split_24 (by decide) ?_
    refine R_p6 C h rfl dX7_split_25 (fun σ25 H locs eσ25 h => ?_)
    have hNEW : (0 ≤ (gi (ttb σ25) 1).toInt ∧ (gi (ttb σ25) 1).toInt ≤ 6) ∧ (0 ≤ (gi (ttb σ25) 3).toInt ∧ (gi (ttb σ25) 3).toInt ≤ 16 ∧ (gi (ttb σ25) 3).toInt ≤ (g.1.2.1 50 : Int)) ∧ (0 ≤ (gi (own σ25) 0).toInt ∧ (gi (own σ25) 0).toInt ≤ 900) ∧ (0 ≤ (gi (own σ25) 2).toInt ∧ (gi (own σ25) 2).toInt ≤ (gi (own σ25) 0).toInt) ∧ (0 ≤ (gi (own σ25) 1).toInt ∧ (gi (own σ25) 1).toInt ≤ (gi (own σ25) 2).toInt) ∧ ((gi (own σ25) 3).toInt = 3 → (gi (own σ25) 1).toInt < (gi (own σ25) 2).toInt) ∧ ((gi (ttb σ25) 1).toInt = (gi (ttb σ) 1).toInt) ∧ ((gi (ttb σ25) 3).toInt = (gi (ttb σ) 3).toInt) ∧ (ttb σ25 = ttb σ) ∧ (gi (own σ25) 5 = gi (own σ) 5) ∧ ((gi (own σ) 1).toInt ≤ (gi (own σ25) 1).toInt) := ⟨(by rw [eσ25] <;> exact hlp), (by rw [eσ25] <;> exact hld), (by rw [eσ25] <;> exact hs9), (by rw [eσ25] <;> exact hbe), (by rw [eσ25] <;> exact hab), (by rw [eσ25] <;> exact hsg), (by rw [eσ25] <;> exact hlpq), (by rw [eσ25] <;> exact hldq), (by rw [eσ25] <;> exact hTT), (by rw [eσ25] <;> exact hS5), (by rw [eσ25] <;> exact hMN)⟩
    obtain ⟨hlp, hld, hs9, hbe, hab, hsg, hlpq, hldq, hTT, hS5, hMN⟩ := hNEW
    refine lv_aload_n hx hb dX7_split_28 rfl (lv_at hl 0 rfl) ?_
    refine w_callv (ci := 7) (q0 := 6) (As := []) (rest := []) 0 (wXR g) C h (k_X7_next l g σ25 (by first | assumption | omega) (by first | assumption | omega) (by first | assumption | omega) (by first | assumption | omega) (by first | assumption | omega)) (lw_V q590 q592 qs7 q159 q593) rfl rfl rfl rfl (by decide +kernel) ⟨Nat.le_of_ble_eq_true rfl, Nat.le_of_ble_eq_true rfl⟩ rfl hl.1 rfl (Nat.le_of_ble_eq_true rfl) ⟨Nat.le_of_ble_eq_true rfl, Nat.le_of_ble_eq_true rfl⟩ dX7_split_29 (fun σ29 H locs eσ29 hE29 h => ?_)
    have hE29 : ((gi (ttb σ29) 1).toInt = (gi (ttb σ25) 1).toInt) ∧ ((gi (ttb σ29) 3).toInt = (gi (ttb σ25) 3).toInt) ∧ (ttb σ29 = ttb σ25) ∧ (gi (own σ29) 5 = gi (own σ25) 5) ∧ ((gi (own σ25) 1).toInt ≤ (gi (own σ29) 1).toInt) ∧ (0 ≤ (gi (own σ29) 0).toInt ∧ (gi (own σ29) 0).toInt ≤ 900) ∧ (0 ≤ (gi (own σ29) 2).toInt ∧ (gi (own σ29) 2).toInt ≤ (gi (own σ29) 0).toInt) ∧ (0 ≤ (gi (own σ29) 1).toInt ∧ (gi (own σ29) 1).toInt ≤ (gi (own σ29) 2).toInt) ∧ ((gi (own σ29) 3).toInt = 3 → (gi (own σ29) 1).toInt < (gi (own σ29) 2).toInt) ∧ ((gi (own σ25) 2).toInt ≤ (gi (own σ29) 1).toInt) := hE29
    obtain ⟨hlpq_29, hldq_29, hTT_29, hS5_29, hMN_29, hs9_29, hbe_29, hab_29, hsg_29, hnx_29⟩ := hE29
    have hNEW : (0 ≤ (gi (ttb σ29) 1).toInt ∧ (gi (ttb σ29) 1).toInt ≤ 6) ∧ (0 ≤ (gi (ttb σ29) 3).toInt ∧ (gi (ttb σ29) 3).toInt ≤ 16 ∧ (gi (ttb σ29) 3).toInt ≤ (g.1.2.1 50 : Int)) ∧ (0 ≤ (gi (own σ29) 0).toInt ∧ (gi (own σ29) 0).toInt ≤ 900) ∧ (0 ≤ (gi (own σ29) 2).toInt ∧ (gi (own σ29) 2).toInt ≤ (gi (own σ29) 0).toInt) ∧ (0 ≤ (gi (own σ29) 1).toInt ∧ (gi (own σ29) 1).toInt ≤ (gi (own σ29) 2).toInt) ∧ ((gi (own σ29) 3).toInt = 3 → (gi (own σ29) 1).toInt < (gi (own σ29) 2).toInt) ∧ ((gi (ttb σ29) 1).toInt = (gi (ttb σ) 1).toInt) ∧ ((gi (ttb σ29) 3).toInt = (gi (ttb σ) 3).toInt) ∧ (ttb σ29 = ttb σ) ∧ (gi (own σ29) 5 = gi (own σ) 5) ∧ ((gi (own σ) 1).toInt ≤ (gi (own σ29) 1).toInt) := ⟨(by first | assumption | omega), (by first | assumption | omega), (by first | assumption | omega), (by first | assumption | omega), (by first | assumption | omega), (by first | assumption | omega), (by first | assumption | omega), (by first | assumption | omega), (hTT_29.trans hTT), (hS5_29.trans hS5), (by first | assumption | omega)⟩
    clear hlp hld hs9 hbe hab hsg hlpq hldq hTT hS5 hMN
    obtain ⟨hlp, hld, hs9, hbe, hab, hsg, hlpq, hldq, hTT, hS5, hMN⟩ := hNEW
    refine lv_aload_n hx hb dX7_split_32 rfl (lv_at hl 0 rfl) ?_
    refine w_calli (ci := 7) (q0 := 6) (As := []) (rest := []) 0 (wXR g) C h (k_X7_splits l g σ29 (by first | assumption | omega) (by first | assumption | omega) (by first | assumption | omega)) (lw_V q734 q736 qs16 q159 q737) rfl rfl rfl rfl (by decide +kernel) ⟨Nat.le_of_ble_eq_true rfl, Nat.le_of_ble_eq_true rfl⟩ rfl hl.1 rfl (Nat.le_of_ble_eq_true rfl) ⟨Nat.le_of_ble_eq_true rfl, Nat.le_of_ble_eq_true rfl⟩ dX7_split_33 (fun r33 σ33 H locs eσ33 er33 hE33 h => ?_)
    rw [eσ33] at h
    have hE33 : (-1 ≤ r33.toInt ∧ r33.toInt ≤ 2) ∧ (0 ≤ r33.toInt → (gi (own σ29) 1).toInt < (gi (own σ29) 2).toInt) := hE33
    obtain ⟨hrg_33, hpw_33⟩ := hE33
    clear eσ33
    refine lv_istore_n (lv' := [(1, .int r33), (0, .ref (g.2.1 90))]) hx hb dX7_split_36 rfl hl (by decide) rfl (fun ls hl => ?_)
    refine lv_iload_n hx hb dX7_split_37 rfl (lv_at hl 0 rfl) ?_
    refine lv_if_ge (tgt := 46) hx hb dX7_split_38 (by decide) (fun c38 => ?_) (fun c38 => ?_)
    · have i38 := c_le c38
      refine lv_aload_n hx hb dX7_split_46 rfl (lv_at hl 1 rfl) ?_
      refine w_callv (ci := 7) (q0 := 6) (As := []) (rest := []) 0 (wXR g) C h (k_X7_next l g σ29 (by first | assumption | omega) (by first | assumption | omega) (by first | assumption | omega) (by first | assumption | omega) (by first | assumption | omega)) (lw_V q590 q592 qs7 q159 q593) rfl rfl rfl rfl (by decide +kernel) ⟨Nat.le_of_ble_eq_true rfl, Nat.le_of_ble_eq_true rfl⟩ rfl hl.1 rfl (Nat.le_of_ble_eq_true rfl) ⟨Nat.le_of_ble_eq_true rfl, Nat.le_of_ble_eq_true rfl⟩ dX7_split_47 (fun σ47 H locs eσ47 hE47 h => ?_)
      have hE47 : ((gi (ttb σ47) 1).toInt = (gi (ttb σ29) 1).toInt) ∧ ((gi (ttb σ47) 3).toInt = (gi (ttb σ29) 3).toInt) ∧ (ttb σ47 = ttb σ29) ∧ (gi (own σ47) 5 = gi (own σ29) 5) ∧ ((gi (own σ29) 1).toInt ≤ (gi (own σ47) 1).toInt) ∧ (0 ≤ (gi (own σ47) 0).toInt ∧ (gi (own σ47) 0).toInt ≤ 900) ∧ (0 ≤ (gi (own σ47) 2).toInt ∧ (gi (own σ47) 2).toInt ≤ (gi (own σ47) 0).toInt) ∧ (0 ≤ (gi (own σ47) 1).toInt ∧ (gi (own σ47) 1).toInt ≤ (gi (own σ47) 2).toInt) ∧ ((gi (own σ47) 3).toInt = 3 → (gi (own σ47) 1).toInt < (gi (own σ47) 2).toInt) ∧ ((gi (own σ29) 2).toInt ≤ (gi (own σ47) 1).toInt) := hE47
      obtain ⟨hlpq_47, hldq_47, hTT_47, hS5_47, hMN_47, hs9_47, hbe_47, hab_47, hsg_47, hnx_47⟩ := hE47
      have hNEW : (0 ≤ (gi (ttb σ47) 1).toInt ∧ (gi (ttb σ47) 1).toInt ≤ 6) ∧ (0 ≤ (gi (ttb σ47) 3).toInt ∧ (gi (ttb σ47) 3).toInt ≤ 16 ∧ (gi (ttb σ47) 3).toInt ≤ (g.1.2.1 50 : Int)) ∧ (0 ≤ (gi (own σ47) 0).toInt ∧ (gi (own σ47) 0).toInt ≤ 900) ∧ (0 ≤ (gi (own σ47) 2).toInt ∧ (gi (own σ47) 2).toInt ≤ (gi (own σ47) 0).toInt) ∧ (0 ≤ (gi (own σ47) 1).toInt ∧ (gi (own σ47) 1).toInt ≤ (gi (own σ47) 2).toInt) ∧ ((gi (own σ47) 3).toInt = 3 → (gi (own σ47) 1).toInt < (gi (own σ47) 2).toInt) ∧ ((gi (ttb σ47) 1).toInt = (gi (ttb σ) 1).toInt) ∧ ((gi (ttb σ47) 3).toInt = (gi (ttb σ) 3).toInt) ∧ (ttb σ47 = ttb σ) ∧ (gi (own σ47) 5 = gi (own σ) 5) ∧ ((gi (own σ) 1).toInt ≤ (gi (own σ47) 1).toInt) := ⟨(by first | assumption | omega), (by first | assumption | omega), (by first | assumption | omega), (by first | assumption | omega), (by first | assumption | omega), (by first | assumption | omega), (by first | assumption | omega), (by first | assumption | omega), (hTT_47.trans hTT), (hS5_47.trans hS5), (by first | assumption | omega)⟩
      clear hlp hld hs9 hbe hab hsg hlpq hldq hTT hS5 hMN
      obtain ⟨hlp, hld, hs9, hbe, hab, hsg, hlpq, hldq, hTT, hS5, hMN⟩ := hNEW
      refine lv_iload_n hx hb dX7_split_50 rfl (lv_at hl 0 rfl) ?_
      have he : f_X7_split σ = ((σ47, r33), false) := (by have eσ25 := eσ25.symm; subst eσ25; have eσ29 := eσ29.symm; subst eσ29; have er33 := er33.symm; subst er33; have eσ47 := eσ47.symm; subst eσ47; exact ((if_pos c4).trans ((if_pos c38).trans rfl)))
      exact x_reti C h hr hlocks (congrArg (fun z => z.1.1) he) (congrArg (fun z => z.1.2) he) (congrArg Prod.snd he) ⟨hlpq, hldq, hTT, hS5, hMN, (by first | assumption | omega | (unfold Hd; omega)), (by first | assumption | omega | (unfold Hd; omega)), (by first | assumption | omega | (unfold Hd; omega)), (by first | assumption | omega | (unfold Hd; omega)), (by first | assumption | omega | (unfold Hd; omega))⟩ dX7_split_51
    · have i38 := c_nle c38
      refine lv_aload_n hx hb dX7_split_41 rfl (lv_at hl 1 rfl) ?_
      refine R_rcall (ci := 7) (q0 := 6) (As := []) (rest := []) 0 C h (k_X7_wrong l g σ29) (lw_V q748 q750 qs18 q159 q751) rfl rfl rfl rfl (by decide +kernel) ⟨Nat.le_of_ble_eq_true rfl, Nat.le_of_ble_eq_true rfl⟩ rfl hl.1 rfl (Nat.le_of_ble_eq_true rfl) ⟨Nat.le_of_ble_eq_true rfl, Nat.le_of_ble_eq_true rfl⟩ dX7_split_42 (fun σ42 H locs eσ42 h => ?_)
      have he : f_X7_split σ = ((σ42, 0), true) := (by have eσ25 := eσ25.symm; subst eσ25; have eσ29 := eσ29.symm; subst eσ29; have er33 := er33.symm; subst er33; have eσ42 := eσ42.symm; subst eσ42; exact ((if_pos c4).trans ((if_neg c38).trans rfl)))
      exact vx_athrow C.1.1 C.1.2.1 dX7_split_45 (x_out C h htab hlocks (congrArg (fun z => z.1.1) he) (congrArg Prod.snd he))
  · have i4 := c_ne c4
    refine lv_aload_n hx hb dX7_split_7 rfl (lv_at hl 0 rfl) ?_
    refine R_g8 C h dX7_split_8 ?_
    refine R_bad C h dX7_split_11 ?_
    refine lv_iconst (v := 5) hx hb dX7_split_14 (by decide) ?_
    refine lv_aload_n hx hb dX7_split_15 rfl (lv_at hl 0 rfl) ?_
    refine R_g1 C h dX7_split_16 ?_
    refine R_rcall (ci := 2) (q0 := 7) (As := [.int (5 : Int32), .int (gi (own σ) 1)]) (rest := []) 2 C h (k_X2_at l g σ (5 : Int32) (gi (own σ) 1)) (lw_V q692 q693 q694 q148 q695) rfl rfl rfl rfl (by decide +kernel) ⟨Nat.le_of_ble_eq_true rfl, Nat.le_of_ble_eq_true rfl⟩ rfl hl.1 rfl (Nat.le_of_ble_eq_true rfl) ⟨Nat.le_of_ble_eq_true rfl, Nat.le_of_ble_eq_true rfl⟩ dX7_split_19 (fun σ19 H locs eσ19 h => ?_)
    have he : f_X7_split σ = ((σ19, 0), true) := (by have eσ19 := eσ19.symm; subst eσ19; exact ((if_neg c4).trans rfl))
    exact vx_athrow C.1.1 C.1.2.1 dX7_split_22 (x_out C h htab hlocks (congrArg (fun z => z.1.1) he) (congrArg Prod.snd he))
def f_X7_law (σ : MS × MS) : ((MS × MS) × Int32) × Bool := if (gi (own σ) 7) = (0 : Int32) then ((let σ25 := lsi σ 7 (1 : Int32); let σ29 := (f_X7_next σ25); let r33 := (f_X7_laws σ29); if (0 : Int32) ≤ r33 then ((let σ47 := (f_X7_next σ29); ((σ47, r33), false))) else ((let σ42 := (f_X7_wrong σ29); ((σ42, 0), true))))) else ((let σ19 := (f_X2_at σ (5 : Int32) (gi (own σ) 1)); ((σ19, 0), true)))
set_option maxHeartbeats 4000000 in
set_option maxRecDepth 100000 in
theorem k_X7_law (l : Launch) (g : GR) (σ : MS × MS) (hlp : 0 ≤ (gi (ttb σ) 1).toInt ∧ (gi (ttb σ) 1).toInt ≤ 6) (hld : 0 ≤ (gi (ttb σ) 3).toInt ∧ (gi (ttb σ) 3).toInt ≤ 16 ∧ (gi (ttb σ) 3).toInt ≤ (g.1.2.1 50 : Int)) (hs9 : 0 ≤ (gi (own σ) 0).toInt ∧ (gi (own σ) 0).toInt ≤ 900) (hbe : 0 ≤ (gi (own σ) 2).toInt ∧ (gi (own σ) 2).toInt ≤ (gi (own σ) 0).toInt) (hab : 0 ≤ (gi (own σ) 1).toInt ∧ (gi (own σ) 1).toInt ≤ (gi (own σ) 2).toInt) (hsg : (gi (own σ) 3).toInt = 3 → (gi (own σ) 1).toInt < (gi (own σ) 2).toInt) : vx_Met l yX7_law (ws_ yX7_law cX7_law 2 (some .int)) ({ frames := 6, cells := 0, slots := 0, locals := 127 } : Room) (va_Pc [.ref (g.2.1 90)] (wU (dR g) σ)) (xQi g (f_X7_law σ).1.1 (f_X7_law σ).1.2 (f_X7_law σ).2 (fun u r => ((gi (ttb u) 1).toInt = (gi (ttb σ) 1).toInt) ∧ ((gi (ttb u) 3).toInt = (gi (ttb σ) 3).toInt) ∧ (ttb u = ttb σ) ∧ (gi (own u) 5 = gi (own σ) 5) ∧ ((gi (own σ) 1).toInt ≤ (gi (own u) 1).toInt) ∧ (0 ≤ r.toInt ∧ r.toInt ≤ 3) ∧ (0 ≤ (gi (own u) 0).toInt ∧ (gi (own u) 0).toInt ≤ 900) ∧ (0 ≤ (gi (own u) 2).toInt ∧ (gi (own u) 2).toInt ≤ (gi (own u) 0).toInt) ∧ (0 ≤ (gi (own u) 1).toInt ∧ (gi (own u) 1).toInt ≤ (gi (own u) 2).toInt) ∧ ((gi (own u) 3).toInt = 3 → (gi (own u) 1).toInt < (gi (own u) 2).toInt))) (xX g (f_X7_law σ).1.1 (f_X7_law σ).2) 0 0 (rA g) := by
  refine met_R (by decide) rfl (Nat.le_of_ble_eq_true rfl) ?_
  intro p e s m args below meth c C hr hlocks htab h ls hl
  have hx := C.1.1
  have hb := C.1.2.1
  have hml := C.1.2.2.1
  have hown := C.1.2.2.2.1
  have hts := C.1.2.2.2.2
  have hl : lv_has ls 2 [(0, .ref (g.2.1 90))] := hl
  have hlpq : (gi (ttb σ) 1).toInt = (gi (ttb σ) 1).toInt := rfl
  have hldq : (gi (ttb σ) 3).toInt = (gi (ttb σ) 3).toInt := rfl
  have hTT : ttb σ = ttb σ := rfl
  have hS5 : gi (own σ) 5 = gi (own σ) 5 := rfl
  have hMN : (gi (own σ) 1).toInt ≤ (gi (own σ) 1).toInt := Int.le_refl _
  have zl0 : (0 : Int32).toInt = 0 := rfl
  have zl1 : (1 : Int32).toInt = 1 := rfl
  have zl5 : (5 : Int32).toInt = 5 := rfl
  refine lv_aload_n hx hb dX7_law_0 rfl (lv_at hl 0 rfl) ?_
  refine R_g7 C h dX7_law_1 ?_
  refine lv_if_eq (tgt := 23) hx hb dX7_law_4 (by decide) (fun c4 => ?_) (fun c4 => ?_)
  · have i4 := c_eq c4
    refine lv_aload_n hx hb dX7_law_23 rfl (lv_at hl 0 rfl) ?_
    refine lv_iconst (v := 1) hx hb dX7_law_24 (by decide) ?_
    refine R_p7 C h rfl dX7_law_25 (fun σ25 H locs eσ25 h => ?_)
    have hNEW : (0 ≤ (gi (ttb σ25) 1).toInt ∧ (gi (ttb σ25) 1).toInt ≤ 6) ∧ (0 ≤ (gi (ttb σ25) 3).toInt ∧ (gi (ttb σ25) 3).toInt ≤ 16 ∧ (gi (ttb σ25) 3).toInt ≤ (g.1.2.1 50 : Int)) ∧ (0 ≤ (gi (own σ25) 0).toInt ∧ (gi (own σ25) 0).toInt ≤ 900) ∧ (0 ≤ (gi (own σ25) 2).toInt ∧ (gi (own σ25) 2).toInt ≤ (gi (own σ25) 0).toInt) ∧ (0 ≤ (gi (own σ25) 1).toInt ∧ (gi (own σ25) 1).toInt ≤ (gi (own σ25) 2).toInt) ∧ ((gi (own σ25) 3).toInt = 3 → (gi (own σ25) 1).toInt < (gi (own σ25) 2).toInt) ∧ ((gi (ttb σ25) 1).toInt = (gi (ttb σ) 1).toInt) ∧ ((gi (ttb σ25) 3).toInt = (gi (ttb σ) 3).toInt) ∧ (ttb σ25 = ttb σ) ∧ (gi (own σ25) 5 = gi (own σ) 5) ∧ ((gi (own σ) 1).toInt ≤ (gi (own σ25) 1).toInt) := ⟨(by rw [eσ25] <;> exact hlp), (by rw [eσ25] <;> exact hld), (by rw [eσ25] <;> exact hs9), (by rw [eσ25] <;> exact hbe), (by rw [eσ25] <;> exact hab), (by rw [eσ25] <;> exact hsg), (by rw [eσ25] <;> exact hlpq), (by rw [eσ25] <;> exact hldq), (by rw [eσ25] <;> exact hTT), (by rw [eσ25] <;> exact hS5), (by rw [eσ25] <;> exact hMN)⟩
    obtain ⟨hlp, hld, hs9, hbe, hab, hsg, hlpq, hldq, hTT, hS5, hMN⟩ := hNEW
    refine lv_aload_n hx hb dX7_law_28 rfl (lv_at hl 0 rfl) ?_
    refine w_callv (ci := 7) (q0 := 6) (As := []) (rest := []) 0 (wXR g) C h (k_X7_next l g σ25 (by first | assumption | omega) (by first | assumption | omega) (by first | assumption | omega) (by first | assumption | omega) (by first | assumption | omega)) (lw_V q590 q592 qs7 q159 q593) rfl rfl rfl rfl (by decide +kernel) ⟨Nat.le_of_ble_eq_true rfl, Nat.le_of_ble_eq_true rfl⟩ rfl hl.1 rfl (Nat.le_of_ble_eq_true rfl) ⟨Nat.le_of_ble_eq_true rfl, Nat.le_of_ble_eq_true rfl⟩ dX7_law_29 (fun σ29 H locs eσ29 hE29 h => ?_)
    have hE29 : ((gi (ttb σ29) 1).toInt = (gi (ttb σ25) 1).toInt) ∧ ((gi (ttb σ29) 3).toInt = (gi (ttb σ25) 3).toInt) ∧ (ttb σ29 = ttb σ25) ∧ (gi (own σ29) 5 = gi (own σ25) 5) ∧ ((gi (own σ25) 1).toInt ≤ (gi (own σ29) 1).toInt) ∧ (0 ≤ (gi (own σ29) 0).toInt ∧ (gi (own σ29) 0).toInt ≤ 900) ∧ (0 ≤ (gi (own σ29) 2).toInt ∧ (gi (own σ29) 2).toInt ≤ (gi (own σ29) 0).toInt) ∧ (0 ≤ (gi (own σ29) 1).toInt ∧ (gi (own σ29) 1).toInt ≤ (gi (own σ29) 2).toInt) ∧ ((gi (own σ29) 3).toInt = 3 → (gi (own σ29) 1).toInt < (gi (own σ29) 2).toInt) ∧ ((gi (own σ25) 2).toInt ≤ (gi (own σ29) 1).toInt) := hE29
    obtain ⟨hlpq_29, hldq_29, hTT_29, hS5_29, hMN_29, hs9_29, hbe_29, hab_29, hsg_29, hnx_29⟩ := hE29
    have hNEW : (0 ≤ (gi (ttb σ29) 1).toInt ∧ (gi (ttb σ29) 1).toInt ≤ 6) ∧ (0 ≤ (gi (ttb σ29) 3).toInt ∧ (gi (ttb σ29) 3).toInt ≤ 16 ∧ (gi (ttb σ29) 3).toInt ≤ (g.1.2.1 50 : Int)) ∧ (0 ≤ (gi (own σ29) 0).toInt ∧ (gi (own σ29) 0).toInt ≤ 900) ∧ (0 ≤ (gi (own σ29) 2).toInt ∧ (gi (own σ29) 2).toInt ≤ (gi (own σ29) 0).toInt) ∧ (0 ≤ (gi (own σ29) 1).toInt ∧ (gi (own σ29) 1).toInt ≤ (gi (own σ29) 2).toInt) ∧ ((gi (own σ29) 3).toInt = 3 → (gi (own σ29) 1).toInt < (gi (own σ29) 2).toInt) ∧ ((gi (ttb σ29) 1).toInt = (gi (ttb σ) 1).toInt) ∧ ((gi (ttb σ29) 3).toInt = (gi (ttb σ) 3).toInt) ∧ (ttb σ29 = ttb σ) ∧ (gi (own σ29) 5 = gi (own σ) 5) ∧ ((gi (own σ) 1).toInt ≤ (gi (own σ29) 1).toInt) := ⟨(by first | assumption | omega), (by first | assumption | omega), (by first | assumption | omega), (by first | assumption | omega), (by first | assumption | omega), (by first | assumption | omega), (by first | assumption | omega), (by first | assumption | omega), (hTT_29.trans hTT), (hS5_29.trans hS5), (by first | assumption | omega)⟩
    clear hlp hld hs9 hbe hab hsg hlpq hldq hTT hS5 hMN
    obtain ⟨hlp, hld, hs9, hbe, hab, hsg, hlpq, hldq, hTT, hS5, hMN⟩ := hNEW
    refine lv_aload_n hx hb dX7_law_32 rfl (lv_at hl 0 rfl) ?_
    refine w_calli (ci := 7) (q0 := 6) (As := []) (rest := []) 0 (wXR g) C h (k_X7_laws l g σ29 (by first | assumption | omega) (by first | assumption | omega) (by first | assumption | omega)) (lw_V q741 q743 qs17 q159 q744) rfl rfl rfl rfl (by decide +kernel) ⟨Nat.le_of_ble_eq_true rfl, Nat.le_of_ble_eq_true rfl⟩ rfl hl.1 rfl (Nat.le_of_ble_eq_true rfl) ⟨Nat.le_of_ble_eq_true rfl, Nat.le_of_ble_eq_true rfl⟩ dX7_law_33 (fun r33 σ33 H locs eσ33 er33 hE33 h => ?_)
    rw [eσ33] at h
    have hE33 : (-1 ≤ r33.toInt ∧ r33.toInt ≤ 3) ∧ (0 ≤ r33.toInt → (gi (own σ29) 1).toInt < (gi (own σ29) 2).toInt) := hE33
    obtain ⟨hrg_33, hpw_33⟩ := hE33
    clear eσ33
    refine lv_istore_n (lv' := [(1, .int r33), (0, .ref (g.2.1 90))]) hx hb dX7_law_36 rfl hl (by decide) rfl (fun ls hl => ?_)
    refine lv_iload_n hx hb dX7_law_37 rfl (lv_at hl 0 rfl) ?_
    refine lv_if_ge (tgt := 46) hx hb dX7_law_38 (by decide) (fun c38 => ?_) (fun c38 => ?_)
    · have i38 := c_le c38
      refine lv_aload_n hx hb dX7_law_46 rfl (lv_at hl 1 rfl) ?_
      refine w_callv (ci := 7) (q0 := 6) (As := []) (rest := []) 0 (wXR g) C h (k_X7_next l g σ29 (by first | assumption | omega) (by first | assumption | omega) (by first | assumption | omega) (by first | assumption | omega) (by first | assumption | omega)) (lw_V q590 q592 qs7 q159 q593) rfl rfl rfl rfl (by decide +kernel) ⟨Nat.le_of_ble_eq_true rfl, Nat.le_of_ble_eq_true rfl⟩ rfl hl.1 rfl (Nat.le_of_ble_eq_true rfl) ⟨Nat.le_of_ble_eq_true rfl, Nat.le_of_ble_eq_true rfl⟩ dX7_law_47 (fun σ47 H locs eσ47 hE47 h => ?_)
      have hE47 : ((gi (ttb σ47) 1).toInt = (gi (ttb σ29) 1).toInt) ∧ ((gi (ttb σ47) 3).toInt = (gi (ttb σ29) 3).toInt) ∧ (ttb σ47 = ttb σ29) ∧ (gi (own σ47) 5 = gi (own σ29) 5) ∧ ((gi (own σ29) 1).toInt ≤ (gi (own σ47) 1).toInt) ∧ (0 ≤ (gi (own σ47) 0).toInt ∧ (gi (own σ47) 0).toInt ≤ 900) ∧ (0 ≤ (gi (own σ47) 2).toInt ∧ (gi (own σ47) 2).toInt ≤ (gi (own σ47) 0).toInt) ∧ (0 ≤ (gi (own σ47) 1).toInt ∧ (gi (own σ47) 1).toInt ≤ (gi (own σ47) 2).toInt) ∧ ((gi (own σ47) 3).toInt = 3 → (gi (own σ47) 1).toInt < (gi (own σ47) 2).toInt) ∧ ((gi (own σ29) 2).toInt ≤ (gi (own σ47) 1).toInt) := hE47
      obtain ⟨hlpq_47, hldq_47, hTT_47, hS5_47, hMN_47, hs9_47, hbe_47, hab_47, hsg_47, hnx_47⟩ := hE47
      have hNEW : (0 ≤ (gi (ttb σ47) 1).toInt ∧ (gi (ttb σ47) 1).toInt ≤ 6) ∧ (0 ≤ (gi (ttb σ47) 3).toInt ∧ (gi (ttb σ47) 3).toInt ≤ 16 ∧ (gi (ttb σ47) 3).toInt ≤ (g.1.2.1 50 : Int)) ∧ (0 ≤ (gi (own σ47) 0).toInt ∧ (gi (own σ47) 0).toInt ≤ 900) ∧ (0 ≤ (gi (own σ47) 2).toInt ∧ (gi (own σ47) 2).toInt ≤ (gi (own σ47) 0).toInt) ∧ (0 ≤ (gi (own σ47) 1).toInt ∧ (gi (own σ47) 1).toInt ≤ (gi (own σ47) 2).toInt) ∧ ((gi (own σ47) 3).toInt = 3 → (gi (own σ47) 1).toInt < (gi (own σ47) 2).toInt) ∧ ((gi (ttb σ47) 1).toInt = (gi (ttb σ) 1).toInt) ∧ ((gi (ttb σ47) 3).toInt = (gi (ttb σ) 3).toInt) ∧ (ttb σ47 = ttb σ) ∧ (gi (own σ47) 5 = gi (own σ) 5) ∧ ((gi (own σ) 1).toInt ≤ (gi (own σ47) 1).toInt) := ⟨(by first | assumption | omega), (by first | assumption | omega), (by first | assumption | omega), (by first | assumption | omega), (by first | assumption | omega), (by first | assumption | omega), (by first | assumption | omega), (by first | assumption | omega), (hTT_47.trans hTT), (hS5_47.trans hS5), (by first | assumption | omega)⟩
      clear hlp hld hs9 hbe hab hsg hlpq hldq hTT hS5 hMN
      obtain ⟨hlp, hld, hs9, hbe, hab, hsg, hlpq, hldq, hTT, hS5, hMN⟩ := hNEW
      refine lv_iload_n hx hb dX7_law_50 rfl (lv_at hl 0 rfl) ?_
      have he : f_X7_law σ = ((σ47, r33), false) := (by have eσ25 := eσ25.symm; subst eσ25; have eσ29 := eσ29.symm; subst eσ29; have er33 := er33.symm; subst er33; have eσ47 := eσ47.symm; subst eσ47; exact ((if_pos c4).trans ((if_pos c38).trans rfl)))
      exact x_reti C h hr hlocks (congrArg (fun z => z.1.1) he) (congrArg (fun z => z.1.2) he) (congrArg Prod.snd he) ⟨hlpq, hldq, hTT, hS5, hMN, (by first | assumption | omega | (unfold Hd; omega)), (by first | assumption | omega | (unfold Hd; omega)), (by first | assumption | omega | (unfold Hd; omega)), (by first | assumption | omega | (unfold Hd; omega)), (by first | assumption | omega | (unfold Hd; omega))⟩ dX7_law_51
    · have i38 := c_nle c38
      refine lv_aload_n hx hb dX7_law_41 rfl (lv_at hl 1 rfl) ?_
      refine R_rcall (ci := 7) (q0 := 6) (As := []) (rest := []) 0 C h (k_X7_wrong l g σ29) (lw_V q748 q750 qs18 q159 q751) rfl rfl rfl rfl (by decide +kernel) ⟨Nat.le_of_ble_eq_true rfl, Nat.le_of_ble_eq_true rfl⟩ rfl hl.1 rfl (Nat.le_of_ble_eq_true rfl) ⟨Nat.le_of_ble_eq_true rfl, Nat.le_of_ble_eq_true rfl⟩ dX7_law_42 (fun σ42 H locs eσ42 h => ?_)
      have he : f_X7_law σ = ((σ42, 0), true) := (by have eσ25 := eσ25.symm; subst eσ25; have eσ29 := eσ29.symm; subst eσ29; have er33 := er33.symm; subst er33; have eσ42 := eσ42.symm; subst eσ42; exact ((if_pos c4).trans ((if_neg c38).trans rfl)))
      exact vx_athrow C.1.1 C.1.2.1 dX7_law_45 (x_out C h htab hlocks (congrArg (fun z => z.1.1) he) (congrArg Prod.snd he))
  · have i4 := c_ne c4
    refine lv_aload_n hx hb dX7_law_7 rfl (lv_at hl 0 rfl) ?_
    refine R_g8 C h dX7_law_8 ?_
    refine R_bad C h dX7_law_11 ?_
    refine lv_iconst (v := 5) hx hb dX7_law_14 (by decide) ?_
    refine lv_aload_n hx hb dX7_law_15 rfl (lv_at hl 0 rfl) ?_
    refine R_g1 C h dX7_law_16 ?_
    refine R_rcall (ci := 2) (q0 := 7) (As := [.int (5 : Int32), .int (gi (own σ) 1)]) (rest := []) 2 C h (k_X2_at l g σ (5 : Int32) (gi (own σ) 1)) (lw_V q692 q693 q694 q148 q695) rfl rfl rfl rfl (by decide +kernel) ⟨Nat.le_of_ble_eq_true rfl, Nat.le_of_ble_eq_true rfl⟩ rfl hl.1 rfl (Nat.le_of_ble_eq_true rfl) ⟨Nat.le_of_ble_eq_true rfl, Nat.le_of_ble_eq_true rfl⟩ dX7_law_19 (fun σ19 H locs eσ19 h => ?_)
    have he : f_X7_law σ = ((σ19, 0), true) := (by have eσ19 := eσ19.symm; subst eσ19; exact ((if_neg c4).trans rfl))
    exact vx_athrow C.1.1 C.1.2.1 dX7_law_22 (x_out C h htab hlocks (congrArg (fun z => z.1.1) he) (congrArg Prod.snd he))
def f_X7_owes (σ : MS × MS) : (MS × MS) × Bool := (let σ1 := (f_X7_next σ); let z6 := (f_X7_who σ1); if z6.2 = true then (z6.1.1, true) else (let σ6 := z6.1.1; let r6 := z6.1.2; let z13 := (f_X7_otherThan σ6 r6); if z13.2 = true then (z13.1.1, true) else (let σ13 := z13.1.1; let r13 := z13.1.2; let z25 := (f_X7_number σ13 (0 : Int32) (9999 : Int32)); if z25.2 = true then (z25.1.1, true) else (let σ25 := z25.1.1; let r25 := z25.1.2; let σ28 := tput σ25 (f_X5_owe (ttb σ25) r6 r13 r25); (σ28, false)))))
set_option maxHeartbeats 4000000 in
set_option maxRecDepth 100000 in
theorem k_X7_owes (l : Launch) (g : GR) (σ : MS × MS) (hlp : 0 ≤ (gi (ttb σ) 1).toInt ∧ (gi (ttb σ) 1).toInt ≤ 6) (hld : 0 ≤ (gi (ttb σ) 3).toInt ∧ (gi (ttb σ) 3).toInt ≤ 16 ∧ (gi (ttb σ) 3).toInt ≤ (g.1.2.1 50 : Int)) (hs9 : 0 ≤ (gi (own σ) 0).toInt ∧ (gi (own σ) 0).toInt ≤ 900) (hbe : 0 ≤ (gi (own σ) 2).toInt ∧ (gi (own σ) 2).toInt ≤ (gi (own σ) 0).toInt) (hab : 0 ≤ (gi (own σ) 1).toInt ∧ (gi (own σ) 1).toInt ≤ (gi (own σ) 2).toInt) (hsg : (gi (own σ) 3).toInt = 3 → (gi (own σ) 1).toInt < (gi (own σ) 2).toInt) : vx_Met l yX7_owes (ws_ yX7_owes cX7_owes 4 none) ({ frames := 10, cells := 0, slots := 0, locals := 217 } : Room) (va_Pc [.ref (g.2.1 90), .ref (g.1.2.1 99)] (wU (dR g) σ)) (xQv g (f_X7_owes σ).1 (f_X7_owes σ).2 (fun u => ((gi (ttb u) 1).toInt = (gi (ttb σ) 1).toInt) ∧ ((gi (ttb u) 3).toInt = (gi (ttb σ) 3).toInt) ∧ (gi (own u) 5 = gi (own σ) 5) ∧ ((gi (own σ) 1).toInt ≤ (gi (own u) 1).toInt) ∧ (0 ≤ (gi (own u) 0).toInt ∧ (gi (own u) 0).toInt ≤ 900) ∧ (0 ≤ (gi (own u) 2).toInt ∧ (gi (own u) 2).toInt ≤ (gi (own u) 0).toInt) ∧ (0 ≤ (gi (own u) 1).toInt ∧ (gi (own u) 1).toInt ≤ (gi (own u) 2).toInt) ∧ ((gi (own u) 3).toInt = 3 → (gi (own u) 1).toInt < (gi (own u) 2).toInt))) (xX g (f_X7_owes σ).1 (f_X7_owes σ).2) 0 0 (rA g) := by
  refine met_R (by decide) rfl (Nat.le_of_ble_eq_true rfl) ?_
  intro p e s m args below meth c C hr hlocks htab h ls hl
  have hx := C.1.1
  have hb := C.1.2.1
  have hml := C.1.2.2.1
  have hown := C.1.2.2.2.1
  have hts := C.1.2.2.2.2
  have hl : lv_has ls 4 [(0, .ref (g.2.1 90)), (1, .ref (g.1.2.1 99))] := hl
  have hlpq : (gi (ttb σ) 1).toInt = (gi (ttb σ) 1).toInt := rfl
  have hldq : (gi (ttb σ) 3).toInt = (gi (ttb σ) 3).toInt := rfl
  have hS5 : gi (own σ) 5 = gi (own σ) 5 := rfl
  have hMN : (gi (own σ) 1).toInt ≤ (gi (own σ) 1).toInt := Int.le_refl _
  have zl0 : (0 : Int32).toInt = 0 := rfl
  have zl9999 : (9999 : Int32).toInt = 9999 := rfl
  refine lv_aload_n hx hb dX7_owes_0 rfl (lv_at hl 0 rfl) ?_
  refine w_callv (ci := 7) (q0 := 6) (As := []) (rest := []) 0 (wXR g) C h (k_X7_next l g σ (by first | assumption | omega) (by first | assumption | omega) (by first | assumption | omega) (by first | assumption | omega) (by first | assumption | omega)) (lw_V q590 q592 qs7 q159 q593) rfl rfl rfl rfl (by decide +kernel) ⟨Nat.le_of_ble_eq_true rfl, Nat.le_of_ble_eq_true rfl⟩ rfl hl.1 rfl (Nat.le_of_ble_eq_true rfl) ⟨Nat.le_of_ble_eq_true rfl, Nat.le_of_ble_eq_true rfl⟩ dX7_owes_1 (fun σ1 H locs eσ1 hE1 h => ?_)
  have hE1 : ((gi (ttb σ1) 1).toInt = (gi (ttb σ) 1).toInt) ∧ ((gi (ttb σ1) 3).toInt = (gi (ttb σ) 3).toInt) ∧ (ttb σ1 = ttb σ) ∧ (gi (own σ1) 5 = gi (own σ) 5) ∧ ((gi (own σ) 1).toInt ≤ (gi (own σ1) 1).toInt) ∧ (0 ≤ (gi (own σ1) 0).toInt ∧ (gi (own σ1) 0).toInt ≤ 900) ∧ (0 ≤ (gi (own σ1) 2).toInt ∧ (gi (own σ1) 2).toInt ≤ (gi (own σ1) 0).toInt) ∧ (0 ≤ (gi (own σ1) 1).toInt ∧ (gi (own σ1) 1).toInt ≤ (gi (own σ1) 2).toInt) ∧ ((gi (own σ1) 3).toInt = 3 → (gi (own σ1) 1).toInt < (gi (own σ1) 2).toInt) ∧ ((gi (own σ) 2).toInt ≤ (gi (own σ1) 1).toInt) := hE1
  obtain ⟨hlpq_1, hldq_1, hTT_1, hS5_1, hMN_1, hs9_1, hbe_1, hab_1, hsg_1, hnx_1⟩ := hE1
  have hNEW : (0 ≤ (gi (ttb σ1) 1).toInt ∧ (gi (ttb σ1) 1).toInt ≤ 6) ∧ (0 ≤ (gi (ttb σ1) 3).toInt ∧ (gi (ttb σ1) 3).toInt ≤ 16 ∧ (gi (ttb σ1) 3).toInt ≤ (g.1.2.1 50 : Int)) ∧ (0 ≤ (gi (own σ1) 0).toInt ∧ (gi (own σ1) 0).toInt ≤ 900) ∧ (0 ≤ (gi (own σ1) 2).toInt ∧ (gi (own σ1) 2).toInt ≤ (gi (own σ1) 0).toInt) ∧ (0 ≤ (gi (own σ1) 1).toInt ∧ (gi (own σ1) 1).toInt ≤ (gi (own σ1) 2).toInt) ∧ ((gi (own σ1) 3).toInt = 3 → (gi (own σ1) 1).toInt < (gi (own σ1) 2).toInt) ∧ ((gi (ttb σ1) 1).toInt = (gi (ttb σ) 1).toInt) ∧ ((gi (ttb σ1) 3).toInt = (gi (ttb σ) 3).toInt) ∧ (gi (own σ1) 5 = gi (own σ) 5) ∧ ((gi (own σ) 1).toInt ≤ (gi (own σ1) 1).toInt) := ⟨(by first | assumption | omega), (by first | assumption | omega), (by first | assumption | omega), (by first | assumption | omega), (by first | assumption | omega), (by first | assumption | omega), (by first | assumption | omega), (by first | assumption | omega), (hS5_1.trans hS5), (by first | assumption | omega)⟩
  obtain ⟨hlp, hld, hs9, hbe, hab, hsg, hlpq, hldq, hS5, hMN⟩ := hNEW
  refine lv_aload_n hx hb dX7_owes_4 rfl (lv_at hl 0 rfl) ?_
  refine lv_aload_n hx hb dX7_owes_5 rfl (lv_at hl 1 rfl) ?_
  refine R_xcalli (As := [.ref (g.1.2.1 99)]) (rest := []) 1 C h (k_X7_who l g σ1 (by first | assumption | omega) (by first | assumption | omega) (by first | assumption | omega) (by first | assumption | omega) (by first | assumption | omega) (by first | assumption | omega)) (lw_V q825 q827 qs25 q159 q828) rfl rfl (by decide +kernel) ⟨Nat.le_of_ble_eq_true rfl, Nat.le_of_ble_eq_true rfl⟩ rfl hl.1 rfl (Nat.le_of_ble_eq_true rfl) ⟨Nat.le_of_ble_eq_true rfl, Nat.le_of_ble_eq_true rfl⟩ dX7_owes_6 (fun σ6 H locs eσ6 bx6 h => ?_) (fun r6 σ6 H locs bx6 eσ6 er6 hE6 h => ?_)
  · have he : f_X7_owes σ = (σ6, true) := (by have eσ1 := eσ1.symm; subst eσ1; have eσ6 := eσ6.symm; subst eσ6; exact ((if_pos bx6).trans rfl))
    exact x_out C h htab hlocks (congrArg Prod.fst he) (congrArg Prod.snd he)
  have bx6 := (fun q => Bool.noConfusion (bx6.symm.trans q) : ¬ ((f_X7_who σ1)).2 = true)
  have hE6 : ((gi (ttb σ6) 1).toInt = (gi (ttb σ1) 1).toInt) ∧ ((gi (ttb σ6) 3).toInt = (gi (ttb σ1) 3).toInt) ∧ (ttb σ6 = ttb σ1) ∧ (gi (own σ6) 5 = gi (own σ1) 5) ∧ ((gi (own σ1) 1).toInt ≤ (gi (own σ6) 1).toInt) ∧ (0 ≤ r6.toInt ∧ r6.toInt < (gi (ttb σ1) 1).toInt) ∧ (0 ≤ (gi (own σ6) 0).toInt ∧ (gi (own σ6) 0).toInt ≤ 900) ∧ (0 ≤ (gi (own σ6) 2).toInt ∧ (gi (own σ6) 2).toInt ≤ (gi (own σ6) 0).toInt) ∧ (0 ≤ (gi (own σ6) 1).toInt ∧ (gi (own σ6) 1).toInt ≤ (gi (own σ6) 2).toInt) ∧ ((gi (own σ6) 3).toInt = 3 → (gi (own σ6) 1).toInt < (gi (own σ6) 2).toInt) := hE6
  obtain ⟨hlpq_6, hldq_6, hTT_6, hS5_6, hMN_6, hkr_6, hs9_6, hbe_6, hab_6, hsg_6⟩ := hE6
  have hNEW : (0 ≤ (gi (ttb σ6) 1).toInt ∧ (gi (ttb σ6) 1).toInt ≤ 6) ∧ (0 ≤ (gi (ttb σ6) 3).toInt ∧ (gi (ttb σ6) 3).toInt ≤ 16 ∧ (gi (ttb σ6) 3).toInt ≤ (g.1.2.1 50 : Int)) ∧ (0 ≤ (gi (own σ6) 0).toInt ∧ (gi (own σ6) 0).toInt ≤ 900) ∧ (0 ≤ (gi (own σ6) 2).toInt ∧ (gi (own σ6) 2).toInt ≤ (gi (own σ6) 0).toInt) ∧ (0 ≤ (gi (own σ6) 1).toInt ∧ (gi (own σ6) 1).toInt ≤ (gi (own σ6) 2).toInt) ∧ ((gi (own σ6) 3).toInt = 3 → (gi (own σ6) 1).toInt < (gi (own σ6) 2).toInt) ∧ ((gi (ttb σ6) 1).toInt = (gi (ttb σ) 1).toInt) ∧ ((gi (ttb σ6) 3).toInt = (gi (ttb σ) 3).toInt) ∧ (gi (own σ6) 5 = gi (own σ) 5) ∧ ((gi (own σ) 1).toInt ≤ (gi (own σ6) 1).toInt) := ⟨(by first | assumption | omega), (by first | assumption | omega), (by first | assumption | omega), (by first | assumption | omega), (by first | assumption | omega), (by first | assumption | omega), (by first | assumption | omega), (by first | assumption | omega), (hS5_6.trans hS5), (by first | assumption | omega)⟩
  clear hlp hld hs9 hbe hab hsg hlpq hldq hS5 hMN
  obtain ⟨hlp, hld, hs9, hbe, hab, hsg, hlpq, hldq, hS5, hMN⟩ := hNEW
  refine lv_istore_n (lv' := [(2, .int r6), (0, .ref (g.2.1 90)), (1, .ref (g.1.2.1 99))]) hx hb dX7_owes_9 rfl hl (by decide) rfl (fun ls hl => ?_)
  refine lv_aload_n hx hb dX7_owes_10 rfl (lv_at hl 1 rfl) ?_
  refine lv_aload_n hx hb dX7_owes_11 rfl (lv_at hl 2 rfl) ?_
  refine lv_iload_n hx hb dX7_owes_12 rfl (lv_at hl 0 rfl) ?_
  refine R_xcalli (As := [.ref (g.1.2.1 99), .int r6]) (rest := []) 2 C h (k_X7_otherThan l g σ6 r6 (by first | assumption | omega) (by first | assumption | omega) (by first | assumption | omega) (by first | assumption | omega) (by first | assumption | omega) (by first | assumption | omega)) (lw_V q841 q843 qs27 q159 q844) rfl rfl (by decide +kernel) ⟨Nat.le_of_ble_eq_true rfl, Nat.le_of_ble_eq_true rfl⟩ rfl hl.1 rfl (Nat.le_of_ble_eq_true rfl) ⟨Nat.le_of_ble_eq_true rfl, Nat.le_of_ble_eq_true rfl⟩ dX7_owes_13 (fun σ13 H locs eσ13 bx13 h => ?_) (fun r13 σ13 H locs bx13 eσ13 er13 hE13 h => ?_)
  · have he : f_X7_owes σ = (σ13, true) := (by have eσ1 := eσ1.symm; subst eσ1; have eσ6 := eσ6.symm; subst eσ6; have er6 := er6.symm; subst er6; have eσ13 := eσ13.symm; subst eσ13; exact ((if_neg bx6).trans ((if_pos bx13).trans rfl)))
    exact x_out C h htab hlocks (congrArg Prod.fst he) (congrArg Prod.snd he)
  have bx13 := (fun q => Bool.noConfusion (bx13.symm.trans q) : ¬ ((f_X7_otherThan σ6 r6)).2 = true)
  have hE13 : ((gi (ttb σ13) 1).toInt = (gi (ttb σ6) 1).toInt) ∧ ((gi (ttb σ13) 3).toInt = (gi (ttb σ6) 3).toInt) ∧ (ttb σ13 = ttb σ6) ∧ (gi (own σ13) 5 = gi (own σ6) 5) ∧ ((gi (own σ6) 1).toInt ≤ (gi (own σ13) 1).toInt) ∧ (0 ≤ r13.toInt ∧ r13.toInt < (gi (ttb σ6) 1).toInt) ∧ (0 ≤ (gi (own σ13) 0).toInt ∧ (gi (own σ13) 0).toInt ≤ 900) ∧ (0 ≤ (gi (own σ13) 2).toInt ∧ (gi (own σ13) 2).toInt ≤ (gi (own σ13) 0).toInt) ∧ (0 ≤ (gi (own σ13) 1).toInt ∧ (gi (own σ13) 1).toInt ≤ (gi (own σ13) 2).toInt) ∧ ((gi (own σ13) 3).toInt = 3 → (gi (own σ13) 1).toInt < (gi (own σ13) 2).toInt) := hE13
  obtain ⟨hlpq_13, hldq_13, hTT_13, hS5_13, hMN_13, hkr_13, hs9_13, hbe_13, hab_13, hsg_13⟩ := hE13
  have hNEW : (0 ≤ (gi (ttb σ13) 1).toInt ∧ (gi (ttb σ13) 1).toInt ≤ 6) ∧ (0 ≤ (gi (ttb σ13) 3).toInt ∧ (gi (ttb σ13) 3).toInt ≤ 16 ∧ (gi (ttb σ13) 3).toInt ≤ (g.1.2.1 50 : Int)) ∧ (0 ≤ (gi (own σ13) 0).toInt ∧ (gi (own σ13) 0).toInt ≤ 900) ∧ (0 ≤ (gi (own σ13) 2).toInt ∧ (gi (own σ13) 2).toInt ≤ (gi (own σ13) 0).toInt) ∧ (0 ≤ (gi (own σ13) 1).toInt ∧ (gi (own σ13) 1).toInt ≤ (gi (own σ13) 2).toInt) ∧ ((gi (own σ13) 3).toInt = 3 → (gi (own σ13) 1).toInt < (gi (own σ13) 2).toInt) ∧ ((gi (ttb σ13) 1).toInt = (gi (ttb σ) 1).toInt) ∧ ((gi (ttb σ13) 3).toInt = (gi (ttb σ) 3).toInt) ∧ (gi (own σ13) 5 = gi (own σ) 5) ∧ ((gi (own σ) 1).toInt ≤ (gi (own σ13) 1).toInt) := ⟨(by first | assumption | omega), (by first | assumption | omega), (by first | assumption | omega), (by first | assumption | omega), (by first | assumption | omega), (by first | assumption | omega), (by first | assumption | omega), (by first | assumption | omega), (hS5_13.trans hS5), (by first | assumption | omega)⟩
  clear hlp hld hs9 hbe hab hsg hlpq hldq hS5 hMN
  obtain ⟨hlp, hld, hs9, hbe, hab, hsg, hlpq, hldq, hS5, hMN⟩ := hNEW
  refine lv_istore_n (lv' := [(3, .int r13), (2, .int r6), (0, .ref (g.2.1 90)), (1, .ref (g.1.2.1 99))]) hx hb dX7_owes_16 rfl hl (by decide) rfl (fun ls hl => ?_)
  refine lv_aload_n hx hb dX7_owes_17 rfl (lv_at hl 3 rfl) ?_
  refine lv_iload_n hx hb dX7_owes_18 rfl (lv_at hl 1 rfl) ?_
  refine lv_iload_n hx hb dX7_owes_19 rfl (lv_at hl 0 rfl) ?_
  refine lv_aload_n hx hb dX7_owes_20 rfl (lv_at hl 2 rfl) ?_
  refine lv_iconst (v := 0) hx hb dX7_owes_21 (by decide) ?_
  refine lv_sipush (v := 9999) hx hb dX7_owes_22 (by decide) ?_
  refine R_xcalli (As := [.int (0 : Int32), .int (9999 : Int32)]) (rest := [.int r13, .int r6, .ref (g.1.2.1 99)]) 2 C h (k_X7_number l g σ13 (0 : Int32) (9999 : Int32) (by first | assumption | omega) (by first | assumption | omega) (by first | assumption | omega) (by first | assumption | omega) (by first | assumption | omega) (by first | assumption | omega)) (lw_V q805 q807 qs20 q159 q808) rfl rfl (by decide +kernel) ⟨Nat.le_of_ble_eq_true rfl, Nat.le_of_ble_eq_true rfl⟩ rfl hl.1 rfl (Nat.le_of_ble_eq_true rfl) ⟨Nat.le_of_ble_eq_true rfl, Nat.le_of_ble_eq_true rfl⟩ dX7_owes_25 (fun σ25 H locs eσ25 bx25 h => ?_) (fun r25 σ25 H locs bx25 eσ25 er25 hE25 h => ?_)
  · have he : f_X7_owes σ = (σ25, true) := (by have eσ1 := eσ1.symm; subst eσ1; have eσ6 := eσ6.symm; subst eσ6; have er6 := er6.symm; subst er6; have eσ13 := eσ13.symm; subst eσ13; have er13 := er13.symm; subst er13; have eσ25 := eσ25.symm; subst eσ25; exact ((if_neg bx6).trans ((if_neg bx13).trans ((if_pos bx25).trans rfl))))
    exact x_out C h htab hlocks (congrArg Prod.fst he) (congrArg Prod.snd he)
  have bx25 := (fun q => Bool.noConfusion (bx25.symm.trans q) : ¬ ((f_X7_number σ13 (0 : Int32) (9999 : Int32))).2 = true)
  have hE25 : ((gi (ttb σ25) 1).toInt = (gi (ttb σ13) 1).toInt) ∧ ((gi (ttb σ25) 3).toInt = (gi (ttb σ13) 3).toInt) ∧ (ttb σ25 = ttb σ13) ∧ (gi (own σ25) 5 = gi (own σ13) 5) ∧ ((gi (own σ13) 1).toInt ≤ (gi (own σ25) 1).toInt) ∧ ((0 : Int32).toInt ≤ r25.toInt ∧ r25.toInt ≤ (9999 : Int32).toInt) ∧ (0 ≤ (gi (own σ25) 0).toInt ∧ (gi (own σ25) 0).toInt ≤ 900) ∧ (0 ≤ (gi (own σ25) 2).toInt ∧ (gi (own σ25) 2).toInt ≤ (gi (own σ25) 0).toInt) ∧ (0 ≤ (gi (own σ25) 1).toInt ∧ (gi (own σ25) 1).toInt ≤ (gi (own σ25) 2).toInt) ∧ ((gi (own σ25) 3).toInt = 3 → (gi (own σ25) 1).toInt < (gi (own σ25) 2).toInt) := hE25
  obtain ⟨hlpq_25, hldq_25, hTT_25, hS5_25, hMN_25, hnr_25, hs9_25, hbe_25, hab_25, hsg_25⟩ := hE25
  have hNEW : (0 ≤ (gi (ttb σ25) 1).toInt ∧ (gi (ttb σ25) 1).toInt ≤ 6) ∧ (0 ≤ (gi (ttb σ25) 3).toInt ∧ (gi (ttb σ25) 3).toInt ≤ 16 ∧ (gi (ttb σ25) 3).toInt ≤ (g.1.2.1 50 : Int)) ∧ (0 ≤ (gi (own σ25) 0).toInt ∧ (gi (own σ25) 0).toInt ≤ 900) ∧ (0 ≤ (gi (own σ25) 2).toInt ∧ (gi (own σ25) 2).toInt ≤ (gi (own σ25) 0).toInt) ∧ (0 ≤ (gi (own σ25) 1).toInt ∧ (gi (own σ25) 1).toInt ≤ (gi (own σ25) 2).toInt) ∧ ((gi (own σ25) 3).toInt = 3 → (gi (own σ25) 1).toInt < (gi (own σ25) 2).toInt) ∧ ((gi (ttb σ25) 1).toInt = (gi (ttb σ) 1).toInt) ∧ ((gi (ttb σ25) 3).toInt = (gi (ttb σ) 3).toInt) ∧ (gi (own σ25) 5 = gi (own σ) 5) ∧ ((gi (own σ) 1).toInt ≤ (gi (own σ25) 1).toInt) := ⟨(by first | assumption | omega), (by first | assumption | omega), (by first | assumption | omega), (by first | assumption | omega), (by first | assumption | omega), (by first | assumption | omega), (by first | assumption | omega), (by first | assumption | omega), (hS5_25.trans hS5), (by first | assumption | omega)⟩
  clear hlp hld hs9 hbe hab hsg hlpq hldq hS5 hMN
  obtain ⟨hlp, hld, hs9, hbe, hab, hsg, hlpq, hldq, hS5, hMN⟩ := hNEW
  refine R_tcallv (As := [.int r6, .int r13, .int r25]) (rest := []) 3 C h (k_X5_owe l g.1 (ttb σ25) r6 r13 r25 (by first | assumption | omega) (by first | assumption | omega) (by first | assumption | omega) (by first | assumption | omega)) (lw_V q845 q846 q847 q151 q848) rfl rfl (by decide +kernel) ⟨Nat.le_of_ble_eq_true rfl, Nat.le_of_ble_eq_true rfl⟩ rfl hl.1 rfl (Nat.le_of_ble_eq_true rfl) ⟨Nat.le_of_ble_eq_true rfl, Nat.le_of_ble_eq_true rfl⟩ dX7_owes_28 (fun σ28 H locs eσ28 hE28 h => ?_)
  have hE28 : ((gi (ttb σ28) 1).toInt = (gi (ttb σ25) 1).toInt) ∧ ((gi (ttb σ28) 3).toInt = (gi (ttb σ25) 3).toInt) ∧ (Fr [6, 7] [11, 12, 13] (fun _ => False) (fun _ => False) (ttb σ25) (ttb σ28)) := hE28
  obtain ⟨htpq_28, htdq_28, hXF_28⟩ := hE28
  have hNEW : (0 ≤ (gi (ttb σ28) 1).toInt ∧ (gi (ttb σ28) 1).toInt ≤ 6) ∧ (0 ≤ (gi (ttb σ28) 3).toInt ∧ (gi (ttb σ28) 3).toInt ≤ 16 ∧ (gi (ttb σ28) 3).toInt ≤ (g.1.2.1 50 : Int)) ∧ (0 ≤ (gi (own σ28) 0).toInt ∧ (gi (own σ28) 0).toInt ≤ 900) ∧ (0 ≤ (gi (own σ28) 2).toInt ∧ (gi (own σ28) 2).toInt ≤ (gi (own σ28) 0).toInt) ∧ (0 ≤ (gi (own σ28) 1).toInt ∧ (gi (own σ28) 1).toInt ≤ (gi (own σ28) 2).toInt) ∧ ((gi (own σ28) 3).toInt = 3 → (gi (own σ28) 1).toInt < (gi (own σ28) 2).toInt) ∧ ((gi (ttb σ28) 1).toInt = (gi (ttb σ) 1).toInt) ∧ ((gi (ttb σ28) 3).toInt = (gi (ttb σ) 3).toInt) ∧ (gi (own σ28) 5 = gi (own σ) 5) ∧ ((gi (own σ) 1).toInt ≤ (gi (own σ28) 1).toInt) := ⟨(by first | assumption | omega), (by first | assumption | omega), (by rw [eσ28]; exact hs9), (by rw [eσ28]; exact hbe), (by rw [eσ28]; exact hab), (by rw [eσ28]; exact hsg), (by first | assumption | omega), (by first | assumption | omega), (by rw [eσ28]; exact hS5), (by rw [eσ28]; exact hMN)⟩
  clear hlp hld hs9 hbe hab hsg hlpq hldq hS5 hMN
  obtain ⟨hlp, hld, hs9, hbe, hab, hsg, hlpq, hldq, hS5, hMN⟩ := hNEW
  have he : f_X7_owes σ = (σ28, false) := (by have eσ1 := eσ1.symm; subst eσ1; have eσ6 := eσ6.symm; subst eσ6; have er6 := er6.symm; subst er6; have eσ13 := eσ13.symm; subst eσ13; have er13 := er13.symm; subst er13; have eσ25 := eσ25.symm; subst eσ25; have er25 := er25.symm; subst er25; have eσ28 := eσ28.symm; subst eσ28; exact ((if_neg bx6).trans ((if_neg bx13).trans ((if_neg bx25).trans rfl))))
  exact x_retv C h hr hlocks (congrArg Prod.fst he) (congrArg Prod.snd he) ⟨hlpq, hldq, hS5, hMN, (by first | assumption | omega | (unfold Hd; omega)), (by first | assumption | omega | (unfold Hd; omega)), (by first | assumption | omega | (unfold Hd; omega)), (by first | assumption | omega | (unfold Hd; omega))⟩ dX7_owes_31
