/-! walks of methods by contract, printed by gen/mkwalk.py -/
set_option maxRecDepth 100000
def f_X0_sumsB_L69 (fr : MS × MS → Int32 → Int32 → Int32 → MS × MS) (y1_69 : Int32) (y3_69 : Int32) : Nat → Int32 → (MS × MS) → Int32 × (MS × MS)
  | 0, x4_69, σL69 => (x4_69, σL69)
  | n + 1, x4_69, σL69 => if (gi (ttb σL69) 3) ≤ x4_69 then ((x4_69, σL69)) else (if y1_69 < (ga (ttb σL69) 9 x4_69) then (f_X0_sumsB_L69 fr y1_69 y3_69 n (x4_69 + (1 : Int32)) σL69) else ((let σ118 := (fr σL69 (y1_69 - (ga (ttb σL69) 9 x4_69)) (x4_69 + (1 : Int32)) (y3_69 ||| ((1 : Int32) <<< (x4_69 &&& (31 : Int32))))); f_X0_sumsB_L69 fr y1_69 y3_69 n (x4_69 + (1 : Int32)) σ118)))
def f_X0_sumsB (fr : MS × MS → Int32 → Int32 → Int32 → MS × MS) (σ : MS × MS) (p1 : Int32) (p2 : Int32) (p3 : Int32) : MS × MS := if p1 = (0 : Int32) then ((let σ11 := lsi σ 13 ((gi (own σ) 13) + (1 : Int32)); let r15 := (f_J11_bitCount p3); if (gi (own σ11) 14) < (0 : Int32) then ((let σ57 := lsi σ11 14 r15; let σ62 := lsi σ57 15 p3; σ62)) else (if (gi (own σ11) 14) < r15 then (σ11) else (if r15 = (gi (own σ11) 14) then (if p3 < (gi (own σ11) 15) then ((let σ57 := lsi σ11 14 r15; let σ62 := lsi σ57 15 p3; σ62)) else (σ11)) else ((let σ57 := lsi σ11 14 r15; let σ62 := lsi σ57 15 p3; σ62)))))) else ((let zL69 := f_X0_sumsB_L69 fr p1 p3 (17) p2 σ; let x4_69e := zL69.1; let σL69e := zL69.2; σL69e))
set_option maxHeartbeats 4000000 in
set_option maxRecDepth 100000 in
theorem k_X0_sumsB (l : Launch) (g : GL) (fr : MS × MS → Int32 → Int32 → Int32 → MS × MS) (d : Nat) (ihR : ∀ (σ : MS × MS) (p1 : Int32) (p2 : Int32) (p3 : Int32) (hlp : 0 ≤ (gi (ttb σ) 1).toInt ∧ (gi (ttb σ) 1).toInt ≤ 6) (hld : 0 ≤ (gi (ttb σ) 3).toInt ∧ (gi (ttb σ) 3).toInt ≤ 16 ∧ (gi (ttb σ) 3).toInt ≤ (g.1.2.1 50 : Int)) (h2r : 0 ≤ p2.toInt ∧ p2.toInt ≤ (gi (ttb σ) 3).toInt) (hdp : 17 ≤ p2.toInt + ((d : Nat) : Int)), Met l yX0_sums (ws_ yX0_sums cX0_sums 5 none) ({ frames := d, cells := 0, slots := 0, locals := 60 * d } : Room) (wPc (dL g) (g.2.2.1 99) σ [.int p1, .int p2, .int p3]) (wQv (dL g) (fr σ p1 p2 p3) (fun u => ((gi (ttb u) 1).toInt = (gi (ttb σ) 1).toInt) ∧ ((gi (ttb u) 3).toInt = (gi (ttb σ) 3).toInt) ∧ (Fr [7, 13, 14, 15, 20] [16, 17, 18] (fun _ => False) (fun _ => False) (own σ) (own u)) ∧ ((ttb u) = (ttb σ)))) 0 0 (dL g).2.2.2.1) (σ : MS × MS) (p1 : Int32) (p2 : Int32) (p3 : Int32) (hlp : 0 ≤ (gi (ttb σ) 1).toInt ∧ (gi (ttb σ) 1).toInt ≤ 6) (hld : 0 ≤ (gi (ttb σ) 3).toInt ∧ (gi (ttb σ) 3).toInt ≤ 16 ∧ (gi (ttb σ) 3).toInt ≤ (g.1.2.1 50 : Int)) (h2r : 0 ≤ p2.toInt ∧ p2.toInt ≤ (gi (ttb σ) 3).toInt) (hdp : 17 ≤ p2.toInt + ((d + 1 : Nat) : Int)) : Met l yX0_sums (ws_ yX0_sums cX0_sums 5 none) ({ frames := d + 1, cells := 0, slots := 0, locals := 60 * (d + 1) } : Room) (wPc (dL g) (g.2.2.1 99) σ [.int p1, .int p2, .int p3]) (wQv (dL g) (f_X0_sumsB fr σ p1 p2 p3) (fun u => ((gi (ttb u) 1).toInt = (gi (ttb σ) 1).toInt) ∧ ((gi (ttb u) 3).toInt = (gi (ttb σ) 3).toInt) ∧ (Fr [7, 13, 14, 15, 20] [16, 17, 18] (fun _ => False) (fun _ => False) (own σ) (own u)) ∧ ((ttb u) = (ttb σ)))) 0 0 (dL g).2.2.2.1 := by
  refine met_W RX0 (by decide) rfl (Nat.le_of_ble_eq_true rfl) ?_
  intro p e s m args below meth c C hr hlocks h ls hl
  have hx := C.1.1
  have hb := C.1.2.1
  have hml := C.1.2.2.1
  have hown := C.1.2.2.2.1
  have hts := C.1.2.2.2.2
  have hl : lv_has ls 5 [(0, .ref (g.2.2.1 99)), (1, .int p1), (2, .int p2), (3, .int p3)] := hl
  have hlpq : (gi (ttb σ) 1).toInt = (gi (ttb σ) 1).toInt := rfl
  have hldq : (gi (ttb σ) 3).toInt = (gi (ttb σ) 3).toInt := rfl
  have hBF : Fr [7, 13, 14, 15, 20] [16, 17, 18] (fun _ => False) (fun _ => False) (own σ) (own σ) := Fr.rf
  have hB2 : (ttb σ) = (ttb σ) := rfl
  have zl0 : (0 : Int32).toInt = 0 := rfl
  have zl1 : (1 : Int32).toInt = 1 := rfl
  refine lv_iload_n hx hb dX0_sums_0 rfl (lv_at hl 1 rfl) ?_
  refine lv_if_ne (tgt := 66) hx hb dX0_sums_1 (by decide) (fun c1 => ?_) (fun c1 => ?_)
  · have i1 := c_ne c1
    refine lv_iload_n hx hb dX0_sums_66 rfl (lv_at hl 2 rfl) ?_
    refine lv_istore (lv' := [(4, .int p2), (0, .ref (g.2.2.1 99)), (1, .int p1), (2, .int p2), (3, .int p3)]) hx hb dX0_sums_67 hl (by decide) rfl (fun ls hl => ?_)
    have hL69 : ∀ (n : Nat) (x4_69 : Int32) (σL69 : (MS × MS)) (H : Heap) (locs : List Loc) (ls : Array Slot), (0 ≤ (gi (ttb σL69) 1).toInt ∧ (gi (ttb σL69) 1).toInt ≤ 6) → (0 ≤ (gi (ttb σL69) 3).toInt ∧ (gi (ttb σL69) 3).toInt ≤ 16 ∧ (gi (ttb σL69) 3).toInt ≤ (g.1.2.1 50 : Int)) → ((gi (ttb σL69) 1).toInt = (gi (ttb σ) 1).toInt) → ((gi (ttb σL69) 3).toInt = (gi (ttb σ) 3).toInt) → (Fr [7, 13, 14, 15, 20] [16, 17, 18] (fun _ => False) (fun _ => False) (own σ) (own σL69)) → ((ttb σL69) = (ttb σ)) → (p2.toInt ≤ x4_69.toInt ∧ x4_69.toInt ≤ (gi (ttb σL69) 3).toInt) → ((gi (ttb σL69) 3).toInt - x4_69.toInt).toNat < n → wH (dL g) σL69 s H locs → lv_has ls 5 [(0, .ref (g.2.2.1 99)), (1, .int p1), (3, .int p3), (4, .int x4_69)] → (∀ (x4_69' : Int32) (σL69' : (MS × MS)) (H : Heap) (locs : List Loc) (ls : Array Slot), f_X0_sumsB_L69 fr p1 p3 n x4_69 σL69 = (x4_69', σL69') → (0 ≤ (gi (ttb σL69') 1).toInt ∧ (gi (ttb σL69') 1).toInt ≤ 6) → (0 ≤ (gi (ttb σL69') 3).toInt ∧ (gi (ttb σL69') 3).toInt ≤ 16 ∧ (gi (ttb σL69') 3).toInt ≤ (g.1.2.1 50 : Int)) → ((gi (ttb σL69') 1).toInt = (gi (ttb σ) 1).toInt) → ((gi (ttb σL69') 3).toInt = (gi (ttb σ) 3).toInt) → (Fr [7, 13, 14, 15, 20] [16, 17, 18] (fun _ => False) (fun _ => False) (own σ) (own σL69')) → ((ttb σL69') = (ttb σ)) → (p2.toInt ≤ x4_69'.toInt ∧ x4_69'.toInt ≤ (gi (ttb σL69') 3).toInt) → wH (dL g) σL69' s H locs → lv_has ls 5 [] → W p l e ({ frames := d + 1, cells := 0, slots := 0, locals := 60 * (d + 1) } : Room) s m args below meth c H locs 0 0 (MQ below (wQv (dL g) (f_X0_sumsB fr σ p1 p2 p3) (fun u => ((gi (ttb u) 1).toInt = (gi (ttb σ) 1).toInt) ∧ ((gi (ttb u) 3).toInt = (gi (ttb σ) 3).toInt) ∧ (Fr [7, 13, 14, 15, 20] [16, 17, 18] (fun _ => False) (fun _ => False) (own σ) (own u)) ∧ ((ttb u) = (ttb σ)))) args s 0 0 (dL g).2.2.2.1) (F0 m 127 ls [])) → W p l e ({ frames := d + 1, cells := 0, slots := 0, locals := 60 * (d + 1) } : Room) s m args below meth c H locs 0 0 (MQ below (wQv (dL g) (f_X0_sumsB fr σ p1 p2 p3) (fun u => ((gi (ttb u) 1).toInt = (gi (ttb σ) 1).toInt) ∧ ((gi (ttb u) 3).toInt = (gi (ttb σ) 3).toInt) ∧ (Fr [7, 13, 14, 15, 20] [16, 17, 18] (fun _ => False) (fun _ => False) (own σ) (own u)) ∧ ((ttb u) = (ttb σ)))) args s 0 0 (dL g).2.2.2.1) (F0 m 69 ls []) := by
      intro n
      induction n with
      | zero =>
        intro x4_69 σL69 H locs ls hlp hld hlpq hldq hBF hB2 _ hm; exact absurd hm (Nat.not_lt_zero _)
      | succ n ih =>
        intro x4_69 σL69 H locs ls hlp hld hlpq hldq hBF hB2 hI69 hm h hl kk
        refine lv_iload hx hb dX0_sums_69 (lv_at hl 3 rfl) ?_
        refine lv_aload_n hx hb dX0_sums_71 rfl (lv_at hl 0 rfl) ?_
        refine L_at (rest := [.int x4_69]) C h ⟨by first | exact Nat.le_of_ble_eq_true rfl | (dsimp only; omega), by first | exact Nat.le_of_ble_eq_true rfl | (dsimp only; omega)⟩ hl.1 (Nat.le_of_ble_eq_true rfl) ⟨by first | exact Nat.le_of_ble_eq_true rfl | (dsimp only; omega), by first | exact Nat.le_of_ble_eq_true rfl | (dsimp only; omega)⟩ dX0_sums_72 (fun H locs h => ?_)
        refine L_t3 C h dX0_sums_75 ?_
        refine lv_icmp_ge (tgt := 127) hx hb dX0_sums_78 (by decide) (fun c78 => ?_) (fun c78 => ?_)
        · have i78 := c_le c78
          exact kk x4_69 σL69 _ _ _ (show f_X0_sumsB_L69 fr p1 p3 (n + 1) x4_69 σL69 = (x4_69, σL69) from (by exact ((if_pos c78).trans rfl))) hlp hld hlpq hldq hBF hB2 (by first | assumption | omega) h (lv_sub hl [] rfl)
        · have i78 := c_nle c78
          refine lv_aload_n hx hb dX0_sums_81 rfl (lv_at hl 0 rfl) ?_
          refine L_at (rest := []) C h ⟨by first | exact Nat.le_of_ble_eq_true rfl | (dsimp only; omega), by first | exact Nat.le_of_ble_eq_true rfl | (dsimp only; omega)⟩ hl.1 (Nat.le_of_ble_eq_true rfl) ⟨by first | exact Nat.le_of_ble_eq_true rfl | (dsimp only; omega), by first | exact Nat.le_of_ble_eq_true rfl | (dsimp only; omega)⟩ dX0_sums_82 (fun H locs h => ?_)
          refine L_t9 C h dX0_sums_85 ?_
          refine lv_iload hx hb dX0_sums_88 (lv_at hl 3 rfl) ?_
          refine L_l29 C h (ix_of (rfl : x4_69.toInt = x4_69.toInt) (by omega)) dX0_sums_90 ?_
          refine lv_iload_n hx hb dX0_sums_91 rfl (lv_at hl 1 rfl) ?_
          refine lv_icmp_gt (tgt := 121) hx hb dX0_sums_92 (by decide) (fun c92 => ?_) (fun c92 => ?_)
          · have i92 := c_lt c92
            refine lv_iinc (v := (x4_69 + (1 : Int32))) (lv' := [(4, .int (x4_69 + (1 : Int32))), (0, .ref (g.2.2.1 99)), (1, .int p1), (3, .int p3)]) hx hb dX0_sums_121 hl (k := 3) rfl rfl (by decide) rfl (fun ls hl => ?_)
            refine lv_goto (tgt := 69) hx hb dX0_sums_124 (by decide) ?_
            have tt4 : (x4_69 + (1 : Int32)).toInt = (x4_69.toInt + (1)) := (i_add (rfl : x4_69.toInt = x4_69.toInt) zl1 (by omega))
            exact ih (x4_69 + (1 : Int32)) σL69 _ _ _ hlp hld hlpq hldq hBF hB2 (by first | assumption | omega) (by omega) h (lv_sub hl [1, 2, 3, 0] rfl) (fun x4_69' σL69' H locs ls en hlp hld hlpq hldq hBF hB2 hI h hl => kk x4_69' σL69' H locs ls ((show f_X0_sumsB_L69 fr p1 p3 (n + 1) x4_69 σL69 = f_X0_sumsB_L69 fr p1 p3 n (x4_69 + (1 : Int32)) σL69 from (by exact ((if_neg c78).trans ((if_pos c92).trans rfl)))).trans en) hlp hld hlpq hldq hBF hB2 hI h hl)
          · have i92 := c_nlt c92
            refine lv_aload_n hx hb dX0_sums_95 rfl (lv_at hl 0 rfl) ?_
            refine lv_iload_n hx hb dX0_sums_96 rfl (lv_at hl 1 rfl) ?_
            refine lv_aload_n hx hb dX0_sums_97 rfl (lv_at hl 0 rfl) ?_
            refine L_at (rest := [.int p1, .ref (g.2.2.1 99)]) C h ⟨by first | exact Nat.le_of_ble_eq_true rfl | (dsimp only; omega), by first | exact Nat.le_of_ble_eq_true rfl | (dsimp only; omega)⟩ hl.1 (Nat.le_of_ble_eq_true rfl) ⟨by first | exact Nat.le_of_ble_eq_true rfl | (dsimp only; omega), by first | exact Nat.le_of_ble_eq_true rfl | (dsimp only; omega)⟩ dX0_sums_98 (fun H locs h => ?_)
            refine L_t9 C h dX0_sums_101 ?_
            refine lv_iload hx hb dX0_sums_104 (lv_at hl 3 rfl) ?_
            refine L_l29 C h (ix_of (rfl : x4_69.toInt = x4_69.toInt) (by omega)) dX0_sums_106 ?_
            refine lv_isub hx hb dX0_sums_107 ?_
            refine lv_iload hx hb dX0_sums_108 (lv_at hl 3 rfl) ?_
            refine lv_iconst (v := 1) hx hb dX0_sums_110 (by decide) ?_
            refine lv_iadd hx hb dX0_sums_111 ?_
            refine lv_iload_n hx hb dX0_sums_112 rfl (lv_at hl 2 rfl) ?_
            refine lv_iconst (v := 1) hx hb dX0_sums_113 (by decide) ?_
            refine lv_iload hx hb dX0_sums_114 (lv_at hl 3 rfl) ?_
            refine lv_ishl hx hb dX0_sums_116 ?_
            refine lv_ior hx hb dX0_sums_117 ?_
            have ta118_1 : (x4_69 + (1 : Int32)).toInt = (x4_69.toInt + (1)) := (i_add (rfl : x4_69.toInt = x4_69.toInt) zl1 (by omega))
            refine w_callv (ci := 0) (q0 := 6) (As := [.int (p1 - (ga (ttb σL69) 9 x4_69)), .int (x4_69 + (1 : Int32)), .int (p3 ||| ((1 : Int32) <<< (x4_69 &&& (31 : Int32))))]) (rest := []) 3 (wXL g) C h (ihR σL69 (p1 - (ga (ttb σL69) 9 x4_69)) (x4_69 + (1 : Int32)) (p3 ||| ((1 : Int32) <<< (x4_69 &&& (31 : Int32)))) (by first | assumption | omega) (by first | assumption | omega) (by first | assumption | omega) (by first | assumption | omega)) (lw_V q1126 q1128 qs45 q144 q1129) rfl rfl rfl rfl (by decide +kernel) ⟨by first | exact Nat.le_of_ble_eq_true rfl | (dsimp only; omega), by first | exact Nat.le_of_ble_eq_true rfl | (dsimp only; omega)⟩ rfl hl.1 rfl (Nat.le_of_ble_eq_true rfl) ⟨by first | exact Nat.le_of_ble_eq_true rfl | (dsimp only; omega), by first | exact Nat.le_of_ble_eq_true rfl | (dsimp only; omega)⟩ dX0_sums_118 (fun σ118 H locs eσ118 hE118 h => ?_)
            have hE118 : ((gi (ttb σ118) 1).toInt = (gi (ttb σL69) 1).toInt) ∧ ((gi (ttb σ118) 3).toInt = (gi (ttb σL69) 3).toInt) ∧ (Fr [7, 13, 14, 15, 20] [16, 17, 18] (fun _ => False) (fun _ => False) (own σL69) (own σ118)) ∧ ((ttb σ118) = (ttb σL69)) := hE118
            obtain ⟨hlpq_118, hldq_118, hBF_118, hB2_118⟩ := hE118
            have hNEW : (0 ≤ (gi (ttb σ118) 1).toInt ∧ (gi (ttb σ118) 1).toInt ≤ 6) ∧ (0 ≤ (gi (ttb σ118) 3).toInt ∧ (gi (ttb σ118) 3).toInt ≤ 16 ∧ (gi (ttb σ118) 3).toInt ≤ (g.1.2.1 50 : Int)) ∧ ((gi (ttb σ118) 1).toInt = (gi (ttb σ) 1).toInt) ∧ ((gi (ttb σ118) 3).toInt = (gi (ttb σ) 3).toInt) ∧ (Fr [7, 13, 14, 15, 20] [16, 17, 18] (fun _ => False) (fun _ => False) (own σ) (own σ118)) ∧ ((ttb σ118) = (ttb σ)) := ⟨(by first | assumption | omega), (by first | assumption | omega), (by first | assumption | omega), (by first | assumption | omega), (Fr.tr hBF hBF_118), (hB2_118.trans hB2)⟩
            obtain ⟨hlp, hld, hlpq, hldq, hBF, hB2⟩ := hNEW
            refine lv_iinc (v := (x4_69 + (1 : Int32))) (lv' := [(4, .int (x4_69 + (1 : Int32))), (0, .ref (g.2.2.1 99)), (1, .int p1), (3, .int p3)]) hx hb dX0_sums_121 hl (k := 3) rfl rfl (by decide) rfl (fun ls hl => ?_)
            refine lv_goto (tgt := 69) hx hb dX0_sums_124 (by decide) ?_
            have tt4 : (x4_69 + (1 : Int32)).toInt = (x4_69.toInt + (1)) := (i_add (rfl : x4_69.toInt = x4_69.toInt) zl1 (by omega))
            exact ih (x4_69 + (1 : Int32)) σ118 _ _ _ hlp hld hlpq hldq hBF hB2 (by first | assumption | omega) (by omega) h (lv_sub hl [1, 2, 3, 0] rfl) (fun x4_69' σL69' H locs ls en hlp hld hlpq hldq hBF hB2 hI h hl => kk x4_69' σL69' H locs ls ((show f_X0_sumsB_L69 fr p1 p3 (n + 1) x4_69 σL69 = f_X0_sumsB_L69 fr p1 p3 n (x4_69 + (1 : Int32)) σ118 from (by have eσ118 := eσ118.symm; subst eσ118; exact ((if_neg c78).trans ((if_neg c92).trans rfl)))).trans en) hlp hld hlpq hldq hBF hB2 hI h hl)
    refine hL69 (17) p2 σ _ _ _ hlp hld hlpq hldq hBF hB2 (by first | assumption | omega) (by omega) h (lv_sub hl [1, 2, 4, 0] rfl) (fun x4_69e σL69e H locs ls eL69 hlp hld hlpq hldq hBF hB2 hI69 h hl => ?_)
    have ex4_69e : x4_69e = (f_X0_sumsB_L69 fr p1 p3 (17) p2 σ).1 := by rw [eL69]
    have eσL69e : σL69e = (f_X0_sumsB_L69 fr p1 p3 (17) p2 σ).2 := by rw [eL69]
    have he : f_X0_sumsB fr σ p1 p2 p3 = σL69e := (by have ex4_69e := ex4_69e.symm; subst ex4_69e; have eσL69e := eσL69e.symm; subst eσL69e; exact ((if_neg c1).trans rfl))
    exact w_retv (wXL g) C h hr hlocks he ⟨hlpq, hldq, hBF, hB2⟩ dX0_sums_127
  · have i1 := c_eq c1
    refine lv_aload_n hx hb dX0_sums_4 rfl (lv_at hl 0 rfl) ?_
    refine lv_dup hx hb dX0_sums_5 rfl ?_
    refine L_g13 C h dX0_sums_6 ?_
    refine lv_iconst (v := 1) hx hb dX0_sums_9 (by decide) ?_
    refine lv_iadd hx hb dX0_sums_10 ?_
    refine L_p13 C h dX0_sums_11 (fun σ11 H locs eσ11 h => ?_)
    have hNEW : (0 ≤ (gi (ttb σ11) 1).toInt ∧ (gi (ttb σ11) 1).toInt ≤ 6) ∧ (0 ≤ (gi (ttb σ11) 3).toInt ∧ (gi (ttb σ11) 3).toInt ≤ 16 ∧ (gi (ttb σ11) 3).toInt ≤ (g.1.2.1 50 : Int)) ∧ ((gi (ttb σ11) 1).toInt = (gi (ttb σ) 1).toInt) ∧ ((gi (ttb σ11) 3).toInt = (gi (ttb σ) 3).toInt) ∧ (Fr [7, 13, 14, 15, 20] [16, 17, 18] (fun _ => False) (fun _ => False) (own σ) (own σ11)) ∧ ((ttb σ11) = (ttb σ)) := ⟨(by rw [eσ11] <;> exact hlp), (by rw [eσ11] <;> exact hld), (by rw [eσ11] <;> exact hlpq), (by rw [eσ11] <;> exact hldq), (by rw [eσ11]; exact (Fr_si (by decide) hBF)), (by rw [eσ11] <;> exact hB2)⟩
    obtain ⟨hlp, hld, hlpq, hldq, hBF, hB2⟩ := hNEW
    refine lv_iload_n hx hb dX0_sums_14 rfl (lv_at hl 3 rfl) ?_
    refine s_calli (As := [.int p3]) (rest := []) 1 C.1 (k_J11_bitCount l p3) (lw_S q1009 q1010 q170 q1011) rfl rfl (by decide +kernel) ⟨by first | exact Nat.le_of_ble_eq_true rfl | (dsimp only; omega), by first | exact Nat.le_of_ble_eq_true rfl | (dsimp only; omega)⟩ rfl hl.1 rfl (Nat.le_of_ble_eq_true rfl) ⟨by first | exact Nat.le_of_ble_eq_true rfl | (dsimp only; omega), by first | exact Nat.le_of_ble_eq_true rfl | (dsimp only; omega)⟩ dX0_sums_15 h.2.2.1 (fun r15 H locs er15 hz1 hk1 hS1 => ?_)
    have h := h.same hk1 hS1
    clear hz1 hk1 hS1
    refine lv_istore (lv' := [(4, .int r15), (0, .ref (g.2.2.1 99)), (1, .int p1), (2, .int p2), (3, .int p3)]) hx hb dX0_sums_18 hl (by decide) rfl (fun ls hl => ?_)
    refine lv_aload_n hx hb dX0_sums_20 rfl (lv_at hl 1 rfl) ?_
    refine L_g14 C h dX0_sums_21 ?_
    refine lv_if_lt (tgt := 54) hx hb dX0_sums_24 (by decide) (fun c24 => ?_) (fun c24 => ?_)
    · have i24 := c_lt c24
      refine lv_aload_n hx hb dX0_sums_54 rfl (lv_at hl 1 rfl) ?_
      refine lv_iload hx hb dX0_sums_55 (lv_at hl 0 rfl) ?_
      refine L_p14 C h dX0_sums_57 (fun σ57 H locs eσ57 h => ?_)
      have hNEW : (0 ≤ (gi (ttb σ57) 1).toInt ∧ (gi (ttb σ57) 1).toInt ≤ 6) ∧ (0 ≤ (gi (ttb σ57) 3).toInt ∧ (gi (ttb σ57) 3).toInt ≤ 16 ∧ (gi (ttb σ57) 3).toInt ≤ (g.1.2.1 50 : Int)) ∧ ((gi (ttb σ57) 1).toInt = (gi (ttb σ) 1).toInt) ∧ ((gi (ttb σ57) 3).toInt = (gi (ttb σ) 3).toInt) ∧ (Fr [7, 13, 14, 15, 20] [16, 17, 18] (fun _ => False) (fun _ => False) (own σ) (own σ57)) ∧ ((ttb σ57) = (ttb σ)) := ⟨(by rw [eσ57] <;> exact hlp), (by rw [eσ57] <;> exact hld), (by rw [eσ57] <;> exact hlpq), (by rw [eσ57] <;> exact hldq), (by rw [eσ57]; exact (Fr_si (by decide) hBF)), (by rw [eσ57] <;> exact hB2)⟩
      clear hlp hld hlpq hldq hBF hB2
      obtain ⟨hlp, hld, hlpq, hldq, hBF, hB2⟩ := hNEW
      refine lv_aload_n hx hb dX0_sums_60 rfl (lv_at hl 1 rfl) ?_
      refine lv_iload_n hx hb dX0_sums_61 rfl (lv_at hl 4 rfl) ?_
      refine L_p15 C h dX0_sums_62 (fun σ62 H locs eσ62 h => ?_)
      have hNEW : (0 ≤ (gi (ttb σ62) 1).toInt ∧ (gi (ttb σ62) 1).toInt ≤ 6) ∧ (0 ≤ (gi (ttb σ62) 3).toInt ∧ (gi (ttb σ62) 3).toInt ≤ 16 ∧ (gi (ttb σ62) 3).toInt ≤ (g.1.2.1 50 : Int)) ∧ ((gi (ttb σ62) 1).toInt = (gi (ttb σ) 1).toInt) ∧ ((gi (ttb σ62) 3).toInt = (gi (ttb σ) 3).toInt) ∧ (Fr [7, 13, 14, 15, 20] [16, 17, 18] (fun _ => False) (fun _ => False) (own σ) (own σ62)) ∧ ((ttb σ62) = (ttb σ)) := ⟨(by rw [eσ62] <;> exact hlp), (by rw [eσ62] <;> exact hld), (by rw [eσ62] <;> exact hlpq), (by rw [eσ62] <;> exact hldq), (by rw [eσ62]; exact (Fr_si (by decide) hBF)), (by rw [eσ62] <;> exact hB2)⟩
      clear hlp hld hlpq hldq hBF hB2
      obtain ⟨hlp, hld, hlpq, hldq, hBF, hB2⟩ := hNEW
      have he : f_X0_sumsB fr σ p1 p2 p3 = σ62 := (by have eσ11 := eσ11.symm; subst eσ11; have er15 := er15.symm; subst er15; have eσ57 := eσ57.symm; subst eσ57; have eσ62 := eσ62.symm; subst eσ62; exact ((if_pos c1).trans ((if_pos c24).trans rfl)))
      exact w_retv (wXL g) C h hr hlocks he ⟨hlpq, hldq, hBF, hB2⟩ dX0_sums_65
    · have i24 := c_nlt c24
      refine lv_iload hx hb dX0_sums_27 (lv_at hl 0 rfl) ?_
      refine lv_aload_n hx hb dX0_sums_29 rfl (lv_at hl 1 rfl) ?_
      refine L_g14 C h dX0_sums_30 ?_
      refine lv_icmp_gt (tgt := 53) hx hb dX0_sums_33 (by decide) (fun c33 => ?_) (fun c33 => ?_)
      · have i33 := c_lt c33
        have he : f_X0_sumsB fr σ p1 p2 p3 = σ11 := (by have eσ11 := eσ11.symm; subst eσ11; have er15 := er15.symm; subst er15; exact ((if_pos c1).trans ((if_neg c24).trans ((if_pos c33).trans rfl))))
        exact w_retv (wXL g) C h hr hlocks he ⟨hlpq, hldq, hBF, hB2⟩ dX0_sums_53
      · have i33 := c_nlt c33
        refine lv_iload hx hb dX0_sums_36 (lv_at hl 0 rfl) ?_
        refine lv_aload_n hx hb dX0_sums_38 rfl (lv_at hl 1 rfl) ?_
        refine L_g14 C h dX0_sums_39 ?_
        refine lv_icmp_ne (tgt := 54) hx hb dX0_sums_42 (by decide) (fun c42 => ?_) (fun c42 => ?_)
        · have i42 := c_ne c42
          refine lv_aload_n hx hb dX0_sums_54 rfl (lv_at hl 1 rfl) ?_
          refine lv_iload hx hb dX0_sums_55 (lv_at hl 0 rfl) ?_
          refine L_p14 C h dX0_sums_57 (fun σ57 H locs eσ57 h => ?_)
          have hNEW : (0 ≤ (gi (ttb σ57) 1).toInt ∧ (gi (ttb σ57) 1).toInt ≤ 6) ∧ (0 ≤ (gi (ttb σ57) 3).toInt ∧ (gi (ttb σ57) 3).toInt ≤ 16 ∧ (gi (ttb σ57) 3).toInt ≤ (g.1.2.1 50 : Int)) ∧ ((gi (ttb σ57) 1).toInt = (gi (ttb σ) 1).toInt) ∧ ((gi (ttb σ57) 3).toInt = (gi (ttb σ) 3).toInt) ∧ (Fr [7, 13, 14, 15, 20] [16, 17, 18] (fun _ => False) (fun _ => False) (own σ) (own σ57)) ∧ ((ttb σ57) = (ttb σ)) := ⟨(by rw [eσ57] <;> exact hlp), (by rw [eσ57] <;> exact hld), (by rw [eσ57] <;> exact hlpq), (by rw [eσ57] <;> exact hldq), (by rw [eσ57]; exact (Fr_si (by decide) hBF)), (by rw [eσ57] <;> exact hB2)⟩
          clear hlp hld hlpq hldq hBF hB2
          obtain ⟨hlp, hld, hlpq, hldq, hBF, hB2⟩ := hNEW
          refine lv_aload_n hx hb dX0_sums_60 rfl (lv_at hl 1 rfl) ?_
          refine lv_iload_n hx hb dX0_sums_61 rfl (lv_at hl 4 rfl) ?_
          refine L_p15 C h dX0_sums_62 (fun σ62 H locs eσ62 h => ?_)
          have hNEW : (0 ≤ (gi (ttb σ62) 1).toInt ∧ (gi (ttb σ62) 1).toInt ≤ 6) ∧ (0 ≤ (gi (ttb σ62) 3).toInt ∧ (gi (ttb σ62) 3).toInt ≤ 16 ∧ (gi (ttb σ62) 3).toInt ≤ (g.1.2.1 50 : Int)) ∧ ((gi (ttb σ62) 1).toInt = (gi (ttb σ) 1).toInt) ∧ ((gi (ttb σ62) 3).toInt = (gi (ttb σ) 3).toInt) ∧ (Fr [7, 13, 14, 15, 20] [16, 17, 18] (fun _ => False) (fun _ => False) (own σ) (own σ62)) ∧ ((ttb σ62) = (ttb σ)) := ⟨(by rw [eσ62] <;> exact hlp), (by rw [eσ62] <;> exact hld), (by rw [eσ62] <;> exact hlpq), (by rw [eσ62] <;> exact hldq), (by rw [eσ62]; exact (Fr_si (by decide) hBF)), (by rw [eσ62] <;> exact hB2)⟩
          clear hlp hld hlpq hldq hBF hB2
          obtain ⟨hlp, hld, hlpq, hldq, hBF, hB2⟩ := hNEW
          have he : f_X0_sumsB fr σ p1 p2 p3 = σ62 := (by have eσ11 := eσ11.symm; subst eσ11; have er15 := er15.symm; subst er15; have eσ57 := eσ57.symm; subst eσ57; have eσ62 := eσ62.symm; subst eσ62; exact ((if_pos c1).trans ((if_neg c24).trans ((if_neg c33).trans ((if_neg c42).trans rfl)))))
          exact w_retv (wXL g) C h hr hlocks he ⟨hlpq, hldq, hBF, hB2⟩ dX0_sums_65
        · have i42 := c_eq c42
          refine lv_iload_n hx hb dX0_sums_45 rfl (lv_at hl 4 rfl) ?_
          refine lv_aload_n hx hb dX0_sums_46 rfl (lv_at hl 1 rfl) ?_
          refine L_g15 C h dX0_sums_47 ?_
          refine lv_icmp_lt (tgt := 54) hx hb dX0_sums_50 (by decide) (fun c50 => ?_) (fun c50 => ?_)
          · have i50 := c_lt c50
            refine lv_aload_n hx hb dX0_sums_54 rfl (lv_at hl 1 rfl) ?_
            refine lv_iload hx hb dX0_sums_55 (lv_at hl 0 rfl) ?_
            refine L_p14 C h dX0_sums_57 (fun σ57 H locs eσ57 h => ?_)
            have hNEW : (0 ≤ (gi (ttb σ57) 1).toInt ∧ (gi (ttb σ57) 1).toInt ≤ 6) ∧ (0 ≤ (gi (ttb σ57) 3).toInt ∧ (gi (ttb σ57) 3).toInt ≤ 16 ∧ (gi (ttb σ57) 3).toInt ≤ (g.1.2.1 50 : Int)) ∧ ((gi (ttb σ57) 1).toInt = (gi (ttb σ) 1).toInt) ∧ ((gi (ttb σ57) 3).toInt = (gi (ttb σ) 3).toInt) ∧ (Fr [7, 13, 14, 15, 20] [16, 17, 18] (fun _ => False) (fun _ => False) (own σ) (own σ57)) ∧ ((ttb σ57) = (ttb σ)) := ⟨(by rw [eσ57] <;> exact hlp), (by rw [eσ57] <;> exact hld), (by rw [eσ57] <;> exact hlpq), (by rw [eσ57] <;> exact hldq), (by rw [eσ57]; exact (Fr_si (by decide) hBF)), (by rw [eσ57] <;> exact hB2)⟩
            clear hlp hld hlpq hldq hBF hB2
            obtain ⟨hlp, hld, hlpq, hldq, hBF, hB2⟩ := hNEW
            refine lv_aload_n hx hb dX0_sums_60 rfl (lv_at hl 1 rfl) ?_
            refine lv_iload_n hx hb dX0_sums_61 rfl (lv_at hl 4 rfl) ?_
            refine L_p15 C h dX0_sums_62 (fun σ62 H locs eσ62 h => ?_)
            have hNEW : (0 ≤ (gi (ttb σ62) 1).toInt ∧ (gi (ttb σ62) 1).toInt ≤ 6) ∧ (0 ≤ (gi (ttb σ62) 3).toInt ∧ (gi (ttb σ62) 3).toInt ≤ 16 ∧ (gi (ttb σ62) 3).toInt ≤ (g.1.2.1 50 : Int)) ∧ ((gi (ttb σ62) 1).toInt = (gi (ttb σ) 1).toInt) ∧ ((gi (ttb σ62) 3).toInt = (gi (ttb σ) 3).toInt) ∧ (Fr [7, 13, 14, 15, 20] [16, 17, 18] (fun _ => False) (fun _ => False) (own σ) (own σ62)) ∧ ((ttb σ62) = (ttb σ)) := ⟨(by rw [eσ62] <;> exact hlp), (by rw [eσ62] <;> exact hld), (by rw [eσ62] <;> exact hlpq), (by rw [eσ62] <;> exact hldq), (by rw [eσ62]; exact (Fr_si (by decide) hBF)), (by rw [eσ62] <;> exact hB2)⟩
            clear hlp hld hlpq hldq hBF hB2
            obtain ⟨hlp, hld, hlpq, hldq, hBF, hB2⟩ := hNEW
            have he : f_X0_sumsB fr σ p1 p2 p3 = σ62 := (by have eσ11 := eσ11.symm; subst eσ11; have er15 := er15.symm; subst er15; have eσ57 := eσ57.symm; subst eσ57; have eσ62 := eσ62.symm; subst eσ62; exact ((if_pos c1).trans ((if_neg c24).trans ((if_neg c33).trans ((if_pos c42).trans ((if_pos c50).trans rfl))))))
            exact w_retv (wXL g) C h hr hlocks he ⟨hlpq, hldq, hBF, hB2⟩ dX0_sums_65
          · have i50 := c_nlt c50
            have he : f_X0_sumsB fr σ p1 p2 p3 = σ11 := (by have eσ11 := eσ11.symm; subst eσ11; have er15 := er15.symm; subst er15; exact ((if_pos c1).trans ((if_neg c24).trans ((if_neg c33).trans ((if_pos c42).trans ((if_neg c50).trans rfl))))))
            exact w_retv (wXL g) C h hr hlocks he ⟨hlpq, hldq, hBF, hB2⟩ dX0_sums_53
def f_X0_sumsN : Nat → MS × MS → Int32 → Int32 → Int32 → MS × MS
  | 0, σ, _, _, _ => σ
  | d + 1, σ, p1, p2, p3 => f_X0_sumsB (f_X0_sumsN d) σ p1 p2 p3
def f_X0_sums (σ : MS × MS) (p1 : Int32) (p2 : Int32) (p3 : Int32) : MS × MS := f_X0_sumsN 17 σ p1 p2 p3
theorem k_X0_sumsN (l : Launch) (g : GL) : ∀ (d : Nat) (σ : MS × MS) (p1 : Int32) (p2 : Int32) (p3 : Int32) (hlp : 0 ≤ (gi (ttb σ) 1).toInt ∧ (gi (ttb σ) 1).toInt ≤ 6) (hld : 0 ≤ (gi (ttb σ) 3).toInt ∧ (gi (ttb σ) 3).toInt ≤ 16 ∧ (gi (ttb σ) 3).toInt ≤ (g.1.2.1 50 : Int)) (h2r : 0 ≤ p2.toInt ∧ p2.toInt ≤ (gi (ttb σ) 3).toInt) (hdp : 17 ≤ p2.toInt + ((d : Nat) : Int)), Met l yX0_sums (ws_ yX0_sums cX0_sums 5 none) ({ frames := d, cells := 0, slots := 0, locals := 60 * d } : Room) (wPc (dL g) (g.2.2.1 99) σ [.int p1, .int p2, .int p3]) (wQv (dL g) (f_X0_sumsN d σ p1 p2 p3) (fun u => ((gi (ttb u) 1).toInt = (gi (ttb σ) 1).toInt) ∧ ((gi (ttb u) 3).toInt = (gi (ttb σ) 3).toInt) ∧ (Fr [7, 13, 14, 15, 20] [16, 17, 18] (fun _ => False) (fun _ => False) (own σ) (own u)) ∧ ((ttb u) = (ttb σ)))) 0 0 (dL g).2.2.2.1 := by
  intro d
  induction d with
  | zero => intro σ p1 p2 p3 hlp hld h2r hdp; omega
  | succ d ih => intro σ p1 p2 p3 hlp hld h2r hdp; exact k_X0_sumsB l g (f_X0_sumsN d) d ih σ p1 p2 p3 hlp hld h2r hdp
theorem k_X0_sums (l : Launch) (g : GL) (σ : MS × MS) (p1 : Int32) (p2 : Int32) (p3 : Int32) (hlp : 0 ≤ (gi (ttb σ) 1).toInt ∧ (gi (ttb σ) 1).toInt ≤ 6) (hld : 0 ≤ (gi (ttb σ) 3).toInt ∧ (gi (ttb σ) 3).toInt ≤ 16 ∧ (gi (ttb σ) 3).toInt ≤ (g.1.2.1 50 : Int)) (h2r : 0 ≤ p2.toInt ∧ p2.toInt ≤ (gi (ttb σ) 3).toInt) : Met l yX0_sums (ws_ yX0_sums cX0_sums 5 none) ({ frames := 17, cells := 0, slots := 0, locals := 1020 } : Room) (wPc (dL g) (g.2.2.1 99) σ [.int p1, .int p2, .int p3]) (wQv (dL g) (f_X0_sums σ p1 p2 p3) (fun u => ((gi (ttb u) 1).toInt = (gi (ttb σ) 1).toInt) ∧ ((gi (ttb u) 3).toInt = (gi (ttb σ) 3).toInt) ∧ (Fr [7, 13, 14, 15, 20] [16, 17, 18] (fun _ => False) (fun _ => False) (own σ) (own u)) ∧ ((ttb u) = (ttb σ)))) 0 0 (dL g).2.2.2.1 := k_X0_sumsN l g 17 σ p1 p2 p3 hlp hld h2r (by omega)
def f_X0_second (σ : MS × MS) (p1 : Int32) (p2 : Int32) : (MS × MS) × Int32 := (let r7 := (f_X0_isIn p1.toInt64 (1 : Int64) (9999 : Int64)); (let z30_ : Int32 := (if r7 = (0 : Int32) then ((1 : Int32)) else ((let r19 := (f_X0_isIn p2.toInt64 (0 : Int64) (2 : Int64)); if r19 = (0 : Int32) then ((1 : Int32)) else ((0 : Int32))))); let t0_30 := z30_; (let σ30 := lsi σ 7 t0_30; if (gi (own σ30) 7) ≤ (0 : Int32) then ((let σ44 := lsi σ30 13 (0 : Int32); let σ49 := lsi σ44 14 (-1 : Int32); let σ56 := (f_X0_sums σ49 p1 (0 : Int32) (0 : Int32)); (let z98_ : Int32 := (if (0 : Int32) ≤ (gi (own σ56) 14) then (if p2 = (0 : Int32) then ((gi (own σ56) 14)) else (if p2 = (1 : Int32) then ((gi (own σ56) 13)) else ((gi (own σ56) 15)))) else ((-1 : Int32))); let t0_98 := z98_; (let z98 := (f_X0_answer σ56 t0_98); let σ98 := z98.1; let r98 := z98.2; (σ98, r98))))) else ((σ30, (-1 : Int32))))))
set_option maxHeartbeats 4000000 in
set_option maxRecDepth 100000 in
theorem k_X0_second (l : Launch) (g : GL) (σ : MS × MS) (p1 : Int32) (p2 : Int32) (hlp : 0 ≤ (gi (ttb σ) 1).toInt ∧ (gi (ttb σ) 1).toInt ≤ 6) (hld : 0 ≤ (gi (ttb σ) 3).toInt ∧ (gi (ttb σ) 3).toInt ≤ 16 ∧ (gi (ttb σ) 3).toInt ≤ (g.1.2.1 50 : Int)) : Met l yX0_second (ws_ yX0_second cX0_second 3 (some .int)) ({ frames := 18, cells := 0, slots := 0, locals := 1044 } : Room) (wPc (dL g) (g.2.2.1 99) σ [.int p1, .int p2]) (wQi (dL g) (f_X0_second σ p1 p2).1 (f_X0_second σ p1 p2).2 (fun u r => ((gi (ttb u) 1).toInt = (gi (ttb σ) 1).toInt) ∧ ((gi (ttb u) 3).toInt = (gi (ttb σ) 3).toInt) ∧ (Fr [7, 13, 14, 15, 20] [16, 17, 18] (fun _ => False) (fun _ => False) (own σ) (own u)) ∧ ((ttb u) = (ttb σ)))) 0 0 (dL g).2.2.2.1 := by
  refine met_W RX0 (by decide) rfl (Nat.le_of_ble_eq_true rfl) ?_
  intro p e s m args below meth c C hr hlocks h ls hl
  have hx := C.1.1
  have hb := C.1.2.1
  have hml := C.1.2.2.1
  have hown := C.1.2.2.2.1
  have hts := C.1.2.2.2.2
  have hl : lv_has ls 3 [(0, .ref (g.2.2.1 99)), (1, .int p1), (2, .int p2)] := hl
  have hlpq : (gi (ttb σ) 1).toInt = (gi (ttb σ) 1).toInt := rfl
  have hldq : (gi (ttb σ) 3).toInt = (gi (ttb σ) 3).toInt := rfl
  have hBF : Fr [7, 13, 14, 15, 20] [16, 17, 18] (fun _ => False) (fun _ => False) (own σ) (own σ) := Fr.rf
  have hB2 : (ttb σ) = (ttb σ) := rfl
  have zlm1 : (-1 : Int32).toInt = -1 := rfl
  have zl0 : (0 : Int32).toInt = 0 := rfl
  have zl1 : (1 : Int32).toInt = 1 := rfl
  refine lv_aload_n hx hb dX0_second_0 rfl (lv_at hl 0 rfl) ?_
  refine lv_iload_n hx hb dX0_second_1 rfl (lv_at hl 1 rfl) ?_
  refine lv_i2l (v := p1.toInt64) hx hb dX0_second_2 rfl ?_
  refine lv_lconst (v := 1) hx hb dX0_second_3 (by decide) ?_
  refine lv_ldc2 hx hb hown (hts _ q1125) dX0_second_4 ?_
  refine s_callz (As := [.long p1.toInt64, .long (1 : Int64), .long (9999 : Int64)]) (rest := [.ref (g.2.2.1 99)]) 3 C.1 (k_X0_isIn l p1.toInt64 (1 : Int64) (9999 : Int64)) (lw_S q994 q995 q144 q996) rfl rfl (by decide +kernel) ⟨Nat.le_of_ble_eq_true rfl, Nat.le_of_ble_eq_true rfl⟩ rfl hl.1 rfl (Nat.le_of_ble_eq_true rfl) ⟨Nat.le_of_ble_eq_true rfl, Nat.le_of_ble_eq_true rfl⟩ dX0_second_7 h.2.2.1 (fun r7 H locs er7 br7 hz1 hk1 hS1 => ?_)
  have h := h.same hk1 hS1
  clear hz1 hk1 hS1
  have j30 : ∀ (t0_30 : Int32) (H : Heap) (locs : List Loc) (ls : Array Slot) (ej30 : (if r7 = (0 : Int32) then ((1 : Int32)) else ((let r19 := (f_X0_isIn p2.toInt64 (0 : Int64) (2 : Int64)); if r19 = (0 : Int32) then ((1 : Int32)) else ((0 : Int32))))) = t0_30) (bt0_30 : t0_30 = 0 ∨ t0_30 = 1) (h : wH (dL g) σ s H locs) (hl : lv_has ls 3 [(0, .ref (g.2.2.1 99)), (1, .int p1), (2, .int p2)]), W p l e ({ frames := 18, cells := 0, slots := 0, locals := 1044 } : Room) s m args below meth c H locs 0 0 (MQ below (wQi (dL g) (f_X0_second σ p1 p2).1 (f_X0_second σ p1 p2).2 (fun u r => ((gi (ttb u) 1).toInt = (gi (ttb σ) 1).toInt) ∧ ((gi (ttb u) 3).toInt = (gi (ttb σ) 3).toInt) ∧ (Fr [7, 13, 14, 15, 20] [16, 17, 18] (fun _ => False) (fun _ => False) (own σ) (own u)) ∧ ((ttb u) = (ttb σ)))) args s 0 0 (dL g).2.2.2.1) (F0 m 30 ls [.int t0_30, .ref (g.2.2.1 99)]) := by
    intro t0_30 H locs ls ej30 bt0_30 h hl
    have et0_30 := ej30.symm
    refine L_p7 C h dX0_second_30 (fun σ30 H locs eσ30 h => ?_)
    have hNEW : (0 ≤ (gi (ttb σ30) 1).toInt ∧ (gi (ttb σ30) 1).toInt ≤ 6) ∧ (0 ≤ (gi (ttb σ30) 3).toInt ∧ (gi (ttb σ30) 3).toInt ≤ 16 ∧ (gi (ttb σ30) 3).toInt ≤ (g.1.2.1 50 : Int)) ∧ ((gi (ttb σ30) 1).toInt = (gi (ttb σ) 1).toInt) ∧ ((gi (ttb σ30) 3).toInt = (gi (ttb σ) 3).toInt) ∧ (Fr [7, 13, 14, 15, 20] [16, 17, 18] (fun _ => False) (fun _ => False) (own σ) (own σ30)) ∧ ((ttb σ30) = (ttb σ)) := ⟨(by rw [eσ30] <;> exact hlp), (by rw [eσ30] <;> exact hld), (by rw [eσ30] <;> exact hlpq), (by rw [eσ30] <;> exact hldq), (by rw [eσ30]; exact (Fr_si (by decide) hBF)), (by rw [eσ30] <;> exact hB2)⟩
    obtain ⟨hlp, hld, hlpq, hldq, hBF, hB2⟩ := hNEW
    have q7_30 : (gi (own σ30) 7).toInt = t0_30.toInt := by rw [eσ30]; rfl
    refine lv_aload_n hx hb dX0_second_33 rfl (lv_at hl 0 rfl) ?_
    refine L_g7 C h dX0_second_34 ?_
    refine lv_if_le (tgt := 42) hx hb dX0_second_37 (by decide) (fun c37 => ?_) (fun c37 => ?_)
    · have i37 := c_le c37
      refine lv_aload_n hx hb dX0_second_42 rfl (lv_at hl 0 rfl) ?_
      refine lv_iconst (v := 0) hx hb dX0_second_43 (by decide) ?_
      refine L_p13 C h dX0_second_44 (fun σ44 H locs eσ44 h => ?_)
      have hNEW : (0 ≤ (gi (ttb σ44) 1).toInt ∧ (gi (ttb σ44) 1).toInt ≤ 6) ∧ (0 ≤ (gi (ttb σ44) 3).toInt ∧ (gi (ttb σ44) 3).toInt ≤ 16 ∧ (gi (ttb σ44) 3).toInt ≤ (g.1.2.1 50 : Int)) ∧ ((gi (ttb σ44) 1).toInt = (gi (ttb σ) 1).toInt) ∧ ((gi (ttb σ44) 3).toInt = (gi (ttb σ) 3).toInt) ∧ (Fr [7, 13, 14, 15, 20] [16, 17, 18] (fun _ => False) (fun _ => False) (own σ) (own σ44)) ∧ ((ttb σ44) = (ttb σ)) := ⟨(by rw [eσ44] <;> exact hlp), (by rw [eσ44] <;> exact hld), (by rw [eσ44] <;> exact hlpq), (by rw [eσ44] <;> exact hldq), (by rw [eσ44]; exact (Fr_si (by decide) hBF)), (by rw [eσ44] <;> exact hB2)⟩
      clear hlp hld hlpq hldq hBF hB2
      obtain ⟨hlp, hld, hlpq, hldq, hBF, hB2⟩ := hNEW
      refine lv_aload_n hx hb dX0_second_47 rfl (lv_at hl 0 rfl) ?_
      refine lv_iconst (v := -1) hx hb dX0_second_48 (by decide) ?_
      refine L_p14 C h dX0_second_49 (fun σ49 H locs eσ49 h => ?_)
      have hNEW : (0 ≤ (gi (ttb σ49) 1).toInt ∧ (gi (ttb σ49) 1).toInt ≤ 6) ∧ (0 ≤ (gi (ttb σ49) 3).toInt ∧ (gi (ttb σ49) 3).toInt ≤ 16 ∧ (gi (ttb σ49) 3).toInt ≤ (g.1.2.1 50 : Int)) ∧ ((gi (ttb σ49) 1).toInt = (gi (ttb σ) 1).toInt) ∧ ((gi (ttb σ49) 3).toInt = (gi (ttb σ) 3).toInt) ∧ (Fr [7, 13, 14, 15, 20] [16, 17, 18] (fun _ => False) (fun _ => False) (own σ) (own σ49)) ∧ ((ttb σ49) = (ttb σ)) := ⟨(by rw [eσ49] <;> exact hlp), (by rw [eσ49] <;> exact hld), (by rw [eσ49] <;> exact hlpq), (by rw [eσ49] <;> exact hldq), (by rw [eσ49]; exact (Fr_si (by decide) hBF)), (by rw [eσ49] <;> exact hB2)⟩
      clear hlp hld hlpq hldq hBF hB2
      obtain ⟨hlp, hld, hlpq, hldq, hBF, hB2⟩ := hNEW
      refine lv_aload_n hx hb dX0_second_52 rfl (lv_at hl 0 rfl) ?_
      refine lv_iload_n hx hb dX0_second_53 rfl (lv_at hl 1 rfl) ?_
      refine lv_iconst (v := 0) hx hb dX0_second_54 (by decide) ?_
      refine lv_iconst (v := 0) hx hb dX0_second_55 (by decide) ?_
      refine w_callv (ci := 0) (q0 := 6) (As := [.int p1, .int (0 : Int32), .int (0 : Int32)]) (rest := []) 3 (wXL g) C h (k_X0_sums l g σ49 p1 (0 : Int32) (0 : Int32) (by first | assumption | omega) (by first | assumption | omega) (by first | assumption | omega)) (lw_V q1126 q1128 qs45 q144 q1129) rfl rfl rfl rfl (by decide +kernel) ⟨Nat.le_of_ble_eq_true rfl, Nat.le_of_ble_eq_true rfl⟩ rfl hl.1 rfl (Nat.le_of_ble_eq_true rfl) ⟨Nat.le_of_ble_eq_true rfl, Nat.le_of_ble_eq_true rfl⟩ dX0_second_56 (fun σ56 H locs eσ56 hE56 h => ?_)
      have hE56 : ((gi (ttb σ56) 1).toInt = (gi (ttb σ49) 1).toInt) ∧ ((gi (ttb σ56) 3).toInt = (gi (ttb σ49) 3).toInt) ∧ (Fr [7, 13, 14, 15, 20] [16, 17, 18] (fun _ => False) (fun _ => False) (own σ49) (own σ56)) ∧ ((ttb σ56) = (ttb σ49)) := hE56
      obtain ⟨hlpq_56, hldq_56, hBF_56, hB2_56⟩ := hE56
      have hNEW : (0 ≤ (gi (ttb σ56) 1).toInt ∧ (gi (ttb σ56) 1).toInt ≤ 6) ∧ (0 ≤ (gi (ttb σ56) 3).toInt ∧ (gi (ttb σ56) 3).toInt ≤ 16 ∧ (gi (ttb σ56) 3).toInt ≤ (g.1.2.1 50 : Int)) ∧ ((gi (ttb σ56) 1).toInt = (gi (ttb σ) 1).toInt) ∧ ((gi (ttb σ56) 3).toInt = (gi (ttb σ) 3).toInt) ∧ (Fr [7, 13, 14, 15, 20] [16, 17, 18] (fun _ => False) (fun _ => False) (own σ) (own σ56)) ∧ ((ttb σ56) = (ttb σ)) := ⟨(by first | assumption | omega), (by first | assumption | omega), (by first | assumption | omega), (by first | assumption | omega), (Fr.tr hBF hBF_56), (hB2_56.trans hB2)⟩
      clear hlp hld hlpq hldq hBF hB2
      obtain ⟨hlp, hld, hlpq, hldq, hBF, hB2⟩ := hNEW
      refine lv_aload_n hx hb dX0_second_59 rfl (lv_at hl 0 rfl) ?_
      refine lv_aload_n hx hb dX0_second_60 rfl (lv_at hl 0 rfl) ?_
      refine L_g14 C h dX0_second_61 ?_
      have j98 : ∀ (t0_98 : Int32) (H : Heap) (locs : List Loc) (ls : Array Slot) (ej98 : (if (0 : Int32) ≤ (gi (own σ56) 14) then (if p2 = (0 : Int32) then ((gi (own σ56) 14)) else (if p2 = (1 : Int32) then ((gi (own σ56) 13)) else ((gi (own σ56) 15)))) else ((-1 : Int32))) = t0_98) (h : wH (dL g) σ56 s H locs) (hl : lv_has ls 3 []), W p l e ({ frames := 18, cells := 0, slots := 0, locals := 1044 } : Room) s m args below meth c H locs 0 0 (MQ below (wQi (dL g) (f_X0_second σ p1 p2).1 (f_X0_second σ p1 p2).2 (fun u r => ((gi (ttb u) 1).toInt = (gi (ttb σ) 1).toInt) ∧ ((gi (ttb u) 3).toInt = (gi (ttb σ) 3).toInt) ∧ (Fr [7, 13, 14, 15, 20] [16, 17, 18] (fun _ => False) (fun _ => False) (own σ) (own u)) ∧ ((ttb u) = (ttb σ)))) args s 0 0 (dL g).2.2.2.1) (F0 m 98 ls [.int t0_98, .ref (g.2.2.1 99)]) := by
        intro t0_98 H locs ls ej98 h hl
        have et0_98 := ej98.symm
        refine w_calli (ci := 0) (q0 := 6) (As := [.int t0_98]) (rest := []) 1 (wXL g) C h (k_X0_answer l g σ56 t0_98) (lw_V q1033 q1035 qs43 q144 q1036) rfl rfl rfl rfl (by decide +kernel) ⟨Nat.le_of_ble_eq_true rfl, Nat.le_of_ble_eq_true rfl⟩ rfl hl.1 rfl (Nat.le_of_ble_eq_true rfl) ⟨Nat.le_of_ble_eq_true rfl, Nat.le_of_ble_eq_true rfl⟩ dX0_second_98 (fun r98 σ98 H locs eσ98 er98 hE98 h => ?_)
        clear hE98
        have hNEW : (0 ≤ (gi (ttb σ98) 1).toInt ∧ (gi (ttb σ98) 1).toInt ≤ 6) ∧ (0 ≤ (gi (ttb σ98) 3).toInt ∧ (gi (ttb σ98) 3).toInt ≤ 16 ∧ (gi (ttb σ98) 3).toInt ≤ (g.1.2.1 50 : Int)) ∧ ((gi (ttb σ98) 1).toInt = (gi (ttb σ) 1).toInt) ∧ ((gi (ttb σ98) 3).toInt = (gi (ttb σ) 3).toInt) ∧ (Fr [7, 13, 14, 15, 20] [16, 17, 18] (fun _ => False) (fun _ => False) (own σ) (own σ98)) ∧ ((ttb σ98) = (ttb σ)) := ⟨(by rw [eσ98, lanswer_s] <;> exact hlp), (by rw [eσ98, lanswer_s] <;> exact hld), (by rw [eσ98, lanswer_s] <;> exact hlpq), (by rw [eσ98, lanswer_s] <;> exact hldq), (by rw [eσ98, lanswer_s]; exact Fr_si (by decide) hBF), (by rw [eσ98, lanswer_s] <;> exact hB2)⟩
        obtain ⟨hlp, hld, hlpq, hldq, hBF, hB2⟩ := hNEW
        have he : f_X0_second σ p1 p2 = (σ98, r98) := (by have er7 := er7.symm; subst er7; have et0_30 := et0_30.symm; subst et0_30; have eσ30 := eσ30.symm; subst eσ30; have eσ44 := eσ44.symm; subst eσ44; have eσ49 := eσ49.symm; subst eσ49; have eσ56 := eσ56.symm; subst eσ56; have et0_98 := et0_98.symm; subst et0_98; have eσ98 := eσ98.symm; subst eσ98; have er98 := er98.symm; subst er98; exact ((if_pos c37).trans rfl))
        exact w_reti (wXL g) C h hr hlocks (congrArg Prod.fst he) (congrArg Prod.snd he) ⟨hlpq, hldq, hBF, hB2⟩ dX0_second_101
      refine lv_if_ge (tgt := 71) hx hb dX0_second_64 (by decide) (fun c64 => ?_) (fun c64 => ?_)
      · have i64 := c_le c64
        refine lv_iload_n hx hb dX0_second_71 rfl (lv_at hl 2 rfl) ?_
        refine lv_if_ne (tgt := 82) hx hb dX0_second_72 (by decide) (fun c72 => ?_) (fun c72 => ?_)
        · have i72 := c_ne c72
          refine lv_iload_n hx hb dX0_second_82 rfl (lv_at hl 2 rfl) ?_
          refine lv_iconst (v := 1) hx hb dX0_second_83 (by decide) ?_
          refine lv_icmp_ne (tgt := 94) hx hb dX0_second_84 (by decide) (fun c84 => ?_) (fun c84 => ?_)
          · have i84 := c_ne c84
            refine lv_aload_n hx hb dX0_second_94 rfl (lv_at hl 0 rfl) ?_
            refine L_g15 C h dX0_second_95 ?_
            exact j98 _ _ _ _ (by exact ((if_pos c64).trans ((if_neg c72).trans ((if_neg c84).trans rfl)))) h (lv_sub hl [] rfl)
          · have i84 := c_eq c84
            refine lv_aload_n hx hb dX0_second_87 rfl (lv_at hl 0 rfl) ?_
            refine L_g13 C h dX0_second_88 ?_
            refine lv_goto (tgt := 98) hx hb dX0_second_91 (by decide) ?_
            exact j98 _ _ _ _ (by exact ((if_pos c64).trans ((if_neg c72).trans ((if_pos c84).trans rfl)))) h (lv_sub hl [] rfl)
        · have i72 := c_eq c72
          refine lv_aload_n hx hb dX0_second_75 rfl (lv_at hl 0 rfl) ?_
          refine L_g14 C h dX0_second_76 ?_
          refine lv_goto (tgt := 98) hx hb dX0_second_79 (by decide) ?_
          exact j98 _ _ _ _ (by exact ((if_pos c64).trans ((if_pos c72).trans rfl))) h (lv_sub hl [] rfl)
      · have i64 := c_nle c64
        refine lv_iconst (v := -1) hx hb dX0_second_67 (by decide) ?_
        refine lv_goto (tgt := 98) hx hb dX0_second_68 (by decide) ?_
        exact j98 _ _ _ _ (by exact ((if_neg c64).trans rfl)) h (lv_sub hl [] rfl)
    · have i37 := c_nle c37
      refine lv_iconst (v := -1) hx hb dX0_second_40 (by decide) ?_
      have he : f_X0_second σ p1 p2 = (σ30, (-1 : Int32)) := (by have er7 := er7.symm; subst er7; have et0_30 := et0_30.symm; subst et0_30; have eσ30 := eσ30.symm; subst eσ30; exact ((if_neg c37).trans rfl))
      exact w_reti (wXL g) C h hr hlocks (congrArg Prod.fst he) (congrArg Prod.snd he) ⟨hlpq, hldq, hBF, hB2⟩ dX0_second_41
  refine lv_if_eq (tgt := 29) hx hb dX0_second_10 (by decide) (fun c10 => ?_) (fun c10 => ?_)
  · have i10 := c_eq c10
    refine lv_iconst (v := 1) hx hb dX0_second_29 (by decide) ?_
    exact j30 _ _ _ _ (by exact ((if_pos c10).trans rfl)) (Or.inr rfl) h hl
  · have i10 := c_ne c10
    have okr7 := lIsIn_ok er7 c10
    refine lv_iload_n hx hb dX0_second_13 rfl (lv_at hl 2 rfl) ?_
    refine lv_i2l (v := p2.toInt64) hx hb dX0_second_14 rfl ?_
    refine lv_lconst (v := 0) hx hb dX0_second_15 (by decide) ?_
    refine lv_ldc2 hx hb hown (hts _ q1064) dX0_second_16 ?_
    refine s_callz (As := [.long p2.toInt64, .long (0 : Int64), .long (2 : Int64)]) (rest := [.ref (g.2.2.1 99)]) 3 C.1 (k_X0_isIn l p2.toInt64 (0 : Int64) (2 : Int64)) (lw_S q994 q995 q144 q996) rfl rfl (by decide +kernel) ⟨Nat.le_of_ble_eq_true rfl, Nat.le_of_ble_eq_true rfl⟩ rfl hl.1 rfl (Nat.le_of_ble_eq_true rfl) ⟨Nat.le_of_ble_eq_true rfl, Nat.le_of_ble_eq_true rfl⟩ dX0_second_19 h.2.2.1 (fun r19 H locs er19 br19 hz1 hk1 hS1 => ?_)
    have h := h.same hk1 hS1
    clear hz1 hk1 hS1
    refine lv_if_eq (tgt := 29) hx hb dX0_second_22 (by decide) (fun c22 => ?_) (fun c22 => ?_)
    · have i22 := c_eq c22
      refine lv_iconst (v := 1) hx hb dX0_second_29 (by decide) ?_
      exact j30 _ _ _ _ (by have er19 := er19.symm; subst er19; exact ((if_neg c10).trans ((if_pos c22).trans rfl))) (Or.inr rfl) h hl
    · have i22 := c_ne c22
      have okr19 := lIsIn_ok er19 c22
      refine lv_iconst (v := 0) hx hb dX0_second_25 (by decide) ?_
      refine lv_goto (tgt := 30) hx hb dX0_second_26 (by decide) ?_
      exact j30 _ _ _ _ (by have er19 := er19.symm; subst er19; exact ((if_neg c10).trans ((if_neg c22).trans rfl))) (Or.inl rfl) h hl
