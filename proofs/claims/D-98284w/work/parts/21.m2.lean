/-! walks of methods by contract, printed by gen/mkwalk.py -/
set_option maxRecDepth 100000
def f_X6_partOf (p0 : Int32) (p1 : Int32) (p2 : Int32) : Int32 := if ((p1 >>> (p2 &&& (31 : Int32))) &&& (1 : Int32)) = (0 : Int32) then ((0 : Int32)) else ((let r17 := (f_X6_bits (p1 &&& (((1 : Int32) <<< (p2 &&& (31 : Int32))) - (1 : Int32)))); let r23 := (f_X6_bits p1); let r30 := (f_X6_bits p1); if (p0 - ((p0 / r30) * r30)) ≤ r17 then (((p0 / r23) + (0 : Int32))) else (((p0 / r23) + (1 : Int32)))))
set_option maxHeartbeats 4000000 in
set_option maxRecDepth 100000 in
theorem k_X6_partOf (l : Launch) (p0 : Int32) (p1 : Int32) (p2 : Int32) (hset : 0 ≤ p1.toInt ∧ p1.toInt ≤ 63) (hpp : 0 ≤ p2.toInt ∧ p2.toInt ≤ 5) : Met l yX6_partOf (ws_ yX6_partOf cX6_partOf 4 (some .int)) ({ frames := 1, cells := 0, slots := 0, locals := 22 } : Room) (sPc [.int p0, .int p1, .int p2]) (sQi (f_X6_partOf p0 p1 p2)) 0 0 (fun _ => False) := by
  refine met_S RX6 (by decide) rfl rfl (Nat.le_of_ble_eq_true rfl) ?_
  intro p e s m args below meth c C hr hlocks _ _ _ ls hl
  have hx := C.1
  have hb := C.2.1
  have hml := C.2.2.1
  have hown := C.2.2.2.1
  have hts := C.2.2.2.2
  have h : va_S (fun _ => False) s.heap s.heap [] := va_S.rf
  have hl : lv_has ls 4 [(0, .int p0), (1, .int p1), (2, .int p2)] := hl
  have zl0 : (0 : Int32).toInt = 0 := rfl
  have zl1 : (1 : Int32).toInt = 1 := rfl
  refine lv_iload_n hx hb dX6_partOf_0 rfl (lv_at hl 1 rfl) ?_
  refine lv_iload_n hx hb dX6_partOf_1 rfl (lv_at hl 2 rfl) ?_
  refine lv_ishr hx hb dX6_partOf_2 ?_
  refine lv_iconst (v := 1) hx hb dX6_partOf_3 (by decide) ?_
  refine lv_iand hx hb dX6_partOf_4 ?_
  refine lv_if_ne (tgt := 10) hx hb dX6_partOf_5 (by decide) (fun c5 => ?_) (fun c5 => ?_)
  · have i5 := c_ne c5
    refine lv_iload_n hx hb dX6_partOf_10 rfl (lv_at hl 1 rfl) ?_
    refine lv_iconst (v := 1) hx hb dX6_partOf_11 (by decide) ?_
    refine lv_iload_n hx hb dX6_partOf_12 rfl (lv_at hl 2 rfl) ?_
    refine lv_ishl hx hb dX6_partOf_13 ?_
    refine lv_iconst (v := 1) hx hb dX6_partOf_14 (by decide) ?_
    refine lv_isub hx hb dX6_partOf_15 ?_
    refine lv_iand hx hb dX6_partOf_16 ?_
    refine s_calli (As := [.int (p1 &&& (((1 : Int32) <<< (p2 &&& (31 : Int32))) - (1 : Int32)))]) (rest := []) 1 C (k_X6_bits l (p1 &&& (((1 : Int32) <<< (p2 &&& (31 : Int32))) - (1 : Int32)))) (lw_S q1850 q1851 q152 q1852) rfl rfl (by decide +kernel) ⟨Nat.le_of_ble_eq_true rfl, Nat.le_of_ble_eq_true rfl⟩ rfl hl.1 rfl (Nat.le_of_ble_eq_true rfl) ⟨Nat.le_of_ble_eq_true rfl, Nat.le_of_ble_eq_true rfl⟩ dX6_partOf_17 h (fun r17 H locs er17 hz1 hk1 hS1 => ?_)
    have h := hS1
    clear hz1 hk1 hS1
    refine lv_istore_n (lv' := [(3, .int r17), (0, .int p0), (1, .int p1), (2, .int p2)]) hx hb dX6_partOf_20 rfl hl (by decide) rfl (fun ls hl => ?_)
    refine lv_iload_n hx hb dX6_partOf_21 rfl (lv_at hl 1 rfl) ?_
    refine lv_iload_n hx hb dX6_partOf_22 rfl (lv_at hl 2 rfl) ?_
    refine s_calli (As := [.int p1]) (rest := [.int p0]) 1 C (k_X6_bits l p1) (lw_S q1850 q1851 q152 q1852) rfl rfl (by decide +kernel) ⟨Nat.le_of_ble_eq_true rfl, Nat.le_of_ble_eq_true rfl⟩ rfl hl.1 rfl (Nat.le_of_ble_eq_true rfl) ⟨Nat.le_of_ble_eq_true rfl, Nat.le_of_ble_eq_true rfl⟩ dX6_partOf_23 h (fun r23 H locs er23 hz1 hk1 hS1 => ?_)
    have h := hS1
    clear hz1 hk1 hS1
    refine lv_idiv hx hb dX6_partOf_26 (by rw [er23]; exact bits_ne hset (by omega) c5) ?_
    refine lv_iload_n hx hb dX6_partOf_27 rfl (lv_at hl 0 rfl) ?_
    refine lv_iload_n hx hb dX6_partOf_28 rfl (lv_at hl 1 rfl) ?_
    refine lv_iload_n hx hb dX6_partOf_29 rfl (lv_at hl 2 rfl) ?_
    refine s_calli (As := [.int p1]) (rest := [.int p0, .int r17, .int (p0 / r23)]) 1 C (k_X6_bits l p1) (lw_S q1850 q1851 q152 q1852) rfl rfl (by decide +kernel) ⟨Nat.le_of_ble_eq_true rfl, Nat.le_of_ble_eq_true rfl⟩ rfl hl.1 rfl (Nat.le_of_ble_eq_true rfl) ⟨Nat.le_of_ble_eq_true rfl, Nat.le_of_ble_eq_true rfl⟩ dX6_partOf_30 h (fun r30 H locs er30 hz1 hk1 hS1 => ?_)
    have h := hS1
    clear hz1 hk1 hS1
    refine lv_irem hx hb dX6_partOf_33 (by rw [er30]; exact bits_ne hset (by omega) c5) ?_
    refine lv_icmp_ge (tgt := 41) hx hb dX6_partOf_34 (by decide) (fun c34 => ?_) (fun c34 => ?_)
    · have i34 := c_le c34
      refine lv_iconst (v := 0) hx hb dX6_partOf_41 (by decide) ?_
      refine lv_iadd hx hb dX6_partOf_42 ?_
      have he : f_X6_partOf p0 p1 p2 = ((p0 / r23) + (0 : Int32)) := (by subst er17; subst er23; subst er30; exact ((if_neg c5).trans ((if_pos c34).trans rfl)))
      exact s_reti C hr hlocks h he dX6_partOf_43
    · have i34 := c_nle c34
      refine lv_iconst (v := 1) hx hb dX6_partOf_37 (by decide) ?_
      refine lv_goto (tgt := 42) hx hb dX6_partOf_38 (by decide) ?_
      refine lv_iadd hx hb dX6_partOf_42 ?_
      have he : f_X6_partOf p0 p1 p2 = ((p0 / r23) + (1 : Int32)) := (by subst er17; subst er23; subst er30; exact ((if_neg c5).trans ((if_neg c34).trans rfl)))
      exact s_reti C hr hlocks h he dX6_partOf_43
  · have i5 := c_eq c5
    refine lv_iconst (v := 0) hx hb dX6_partOf_8 (by decide) ?_
    have he : f_X6_partOf p0 p1 p2 = (0 : Int32) := (by exact ((if_pos c5).trans rfl))
    exact s_reti C hr hlocks h he dX6_partOf_9
def f_X6_units_L7 (σ : MS) : Nat → Int32 → Int32 → Int32 × Int32
  | 0, x1_7, x2_7 => (x1_7, x2_7)
  | n + 1, x1_7, x2_7 => if (ga σ 0 (0 : Int32)) ≤ x2_7 then ((x1_7, x2_7)) else ((let r22 := (f_X6_personRow x2_7); let v28 := (ga σ 0 (r22 + (4 : Int32))); if v28 = (-1 : Int32) then (f_X6_units_L7 σ n x1_7 (x2_7 + (1 : Int32))) else (if x2_7 ≤ v28 then (f_X6_units_L7 σ n x1_7 (x2_7 + (1 : Int32))) else ((let r41 := (f_X6_heads σ); let r45 := (f_X6_isIn σ r41 x2_7); if r45 = (0 : Int32) then (f_X6_units_L7 σ n x1_7 (x2_7 + (1 : Int32))) else ((let r53 := (f_X6_heads σ); let r57 := (f_X6_isIn σ r53 v28); if r57 = (0 : Int32) then (f_X6_units_L7 σ n x1_7 (x2_7 + (1 : Int32))) else ((let v70 := (x1_7 &&& (((1 : Int32) <<< (x2_7 &&& (31 : Int32))) ^^^ (-1 : Int32))); f_X6_units_L7 σ n v70 (x2_7 + (1 : Int32)))))))))))
def f_X6_units (σ : MS) : Int32 := (let r1 := (f_X6_heads σ); (let zL7 := f_X6_units_L7 σ (7) r1 (0 : Int32); let x1_7e := zL7.1; let x2_7e := zL7.2; x1_7e))
set_option maxHeartbeats 4000000 in
set_option maxRecDepth 100000 in
theorem k_X6_units (l : Launch) (g : GE) (σ : MS) (hp : 0 ≤ (ga σ 0 (0 : Int32)).toInt ∧ (ga σ 0 (0 : Int32)).toInt ≤ 6) : Met l yX6_units (ws_ yX6_units cX6_units 4 (some .int)) ({ frames := 2, cells := 0, slots := 0, locals := 40 } : Room) (mPc g σ []) (mQi g σ (f_X6_units σ) (fun u r => (0 ≤ r.toInt ∧ r.toInt ≤ 63))) 0 0 (mA g) := by
  refine met_M (by decide) rfl (Nat.le_of_ble_eq_true rfl) ?_
  intro p e s m args below meth c C hr hlocks h ls hl
  have hx := C.1.1
  have hb := C.1.2.1
  have hml := C.1.2.2.1
  have hown := C.1.2.2.2.1
  have hts := C.1.2.2.2.2
  have hl : lv_has ls 4 [(0, .ref (g.2.1 99))] := hl
  have zlm1 : (-1 : Int32).toInt = -1 := rfl
  have zl0 : (0 : Int32).toInt = 0 := rfl
  have zl1 : (1 : Int32).toInt = 1 := rfl
  have zl4 : (4 : Int32).toInt = 4 := rfl
  have zl8 : (8 : Int32).toInt = 8 := rfl
  have zl12 : (12 : Int32).toInt = 12 := rfl
  refine lv_aload_n hx hb dX6_units_0 rfl (lv_at hl 0 rfl) ?_
  refine M_calli (As := []) (rest := []) 0 C h (k_X6_heads l g σ) (lw_V q1842 q1844 qs98 q152 q1845) rfl rfl (by decide +kernel) ⟨Nat.le_of_ble_eq_true rfl, Nat.le_of_ble_eq_true rfl⟩ rfl hl.1 rfl (Nat.le_of_ble_eq_true rfl) ⟨Nat.le_of_ble_eq_true rfl, Nat.le_of_ble_eq_true rfl⟩ dX6_units_1 (fun r1 σ1 H locs eσ1 er1 hE1 h => ?_)
  rw [eσ1] at h
  clear hE1
  clear eσ1
  have rgr1 := heads_rng hp er1
  refine lv_istore_n (lv' := [(1, .int r1), (0, .ref (g.2.1 99))]) hx hb dX6_units_4 rfl hl (by decide) rfl (fun ls hl => ?_)
  refine lv_iconst (v := 0) hx hb dX6_units_5 (by decide) ?_
  refine lv_istore_n (lv' := [(2, .int (0 : Int32)), (1, .int r1), (0, .ref (g.2.1 99))]) hx hb dX6_units_6 rfl hl (by decide) rfl (fun ls hl => ?_)
  have hL7 : ∀ (n : Nat) (x1_7 : Int32) (x2_7 : Int32) (H : Heap) (locs : List Loc) (ls : Array Slot), (0 ≤ x2_7.toInt ∧ x2_7.toInt ≤ (ga σ 0 (0 : Int32)).toInt ∧ 0 ≤ x1_7.toInt ∧ x1_7.toInt ≤ 63) → ((ga σ 0 (0 : Int32)).toInt - x2_7.toInt).toNat < n → MH g σ s H locs → lv_has ls 4 [(0, .ref (g.2.1 99)), (1, .int x1_7), (2, .int x2_7)] → (∀ (x1_7' : Int32) (x2_7' : Int32) (H : Heap) (locs : List Loc) (ls : Array Slot), f_X6_units_L7 σ n x1_7 x2_7 = (x1_7', x2_7') → (0 ≤ x2_7'.toInt ∧ x2_7'.toInt ≤ (ga σ 0 (0 : Int32)).toInt ∧ 0 ≤ x1_7'.toInt ∧ x1_7'.toInt ≤ 63) → MH g σ s H locs → lv_has ls 4 [(1, .int x1_7')] → W p l e ({ frames := 2, cells := 0, slots := 0, locals := 40 } : Room) s m args below meth c H locs 0 0 (MQ below (mQi g σ (f_X6_units σ) (fun u r => (0 ≤ r.toInt ∧ r.toInt ≤ 63))) args s 0 0 (mA g)) (F0 m 77 ls [])) → W p l e ({ frames := 2, cells := 0, slots := 0, locals := 40 } : Room) s m args below meth c H locs 0 0 (MQ below (mQi g σ (f_X6_units σ) (fun u r => (0 ≤ r.toInt ∧ r.toInt ≤ 63))) args s 0 0 (mA g)) (F0 m 7 ls []) := by
    intro n
    induction n with
    | zero =>
      intro x1_7 x2_7 H locs ls _ hm; exact absurd hm (Nat.not_lt_zero _)
    | succ n ih =>
      intro x1_7 x2_7 H locs ls hI7 hm h hl kk
      refine lv_iload_n hx hb dX6_units_7 rfl (lv_at hl 2 rfl) ?_
      refine lv_aload_n hx hb dX6_units_8 rfl (lv_at hl 0 rfl) ?_
      refine Mg_0 C h dX6_units_9 ?_
      refine lv_iconst (v := 0) hx hb dX6_units_12 (by decide) ?_
      refine Ml_0 C h (ix_of zl0 (by omega)) dX6_units_13 ?_
      refine lv_icmp_ge (tgt := 77) hx hb dX6_units_14 (by decide) (fun c14 => ?_) (fun c14 => ?_)
      · have i14 := c_le c14
        exact kk x1_7 x2_7 _ _ _ (show f_X6_units_L7 σ (n + 1) x1_7 x2_7 = (x1_7, x2_7) from (by exact ((if_pos c14).trans rfl)))  (by first | assumption | omega) h (lv_sub hl [1] rfl)
      · have i14 := c_nle c14
        refine lv_aload_n hx hb dX6_units_17 rfl (lv_at hl 0 rfl) ?_
        refine Mg_0 C h dX6_units_18 ?_
        refine lv_iload_n hx hb dX6_units_21 rfl (lv_at hl 2 rfl) ?_
        refine s_calli (As := [.int x2_7]) (rest := [.ref (g.2.1 0)]) 1 C.1 (k_X6_personRow l x2_7) (lw_S q1857 q1858 q152 q1859) rfl rfl (by decide +kernel) ⟨Nat.le_of_ble_eq_true rfl, Nat.le_of_ble_eq_true rfl⟩ rfl hl.1 rfl (Nat.le_of_ble_eq_true rfl) ⟨Nat.le_of_ble_eq_true rfl, Nat.le_of_ble_eq_true rfl⟩ dX6_units_22 h.2.2 (fun r22 H locs er22 hz1 hk1 hS1 => ?_)
        have h := h.same hk1 hS1
        clear hz1 hk1 hS1
        have tr22 : r22.toInt = ((12) + ((8) * x2_7.toInt)) := by rw [er22]; exact (i_add zl12 (i_mul zl8 (rfl : x2_7.toInt = x2_7.toInt) (by omega)) (by omega))
        refine lv_iconst (v := 4) hx hb dX6_units_25 (by decide) ?_
        refine lv_iadd hx hb dX6_units_26 ?_
        refine Ml_0 C h (ix_of (i_add tr22 zl4 (by omega)) (by omega)) dX6_units_27 ?_
        refine lv_topi (fun v28 ev28 => ?_)
        refine lv_istore_n (lv' := [(3, .int v28), (0, .ref (g.2.1 99)), (1, .int x1_7), (2, .int x2_7)]) hx hb dX6_units_28 rfl hl (by decide) rfl (fun ls hl => ?_)
        refine lv_iload_n hx hb dX6_units_29 rfl (lv_at hl 0 rfl) ?_
        refine lv_iconst (v := -1) hx hb dX6_units_30 (by decide) ?_
        refine lv_icmp_eq (tgt := 71) hx hb dX6_units_31 (by decide) (fun c31 => ?_) (fun c31 => ?_)
        · have i31 := c_eq c31
          refine lv_iinc (v := (x2_7 + (1 : Int32))) (lv' := [(2, .int (x2_7 + (1 : Int32))), (3, .int v28), (0, .ref (g.2.1 99)), (1, .int x1_7)]) hx hb dX6_units_71 hl (k := 3) rfl rfl (by decide) rfl (fun ls hl => ?_)
          refine lv_goto (tgt := 7) hx hb dX6_units_74 (by decide) ?_
          have tt2 : (x2_7 + (1 : Int32)).toInt = (x2_7.toInt + (1)) := (i_add (rfl : x2_7.toInt = x2_7.toInt) zl1 (by omega))
          exact ih x1_7 (x2_7 + (1 : Int32)) _ _ _  (by first | assumption | omega) (by omega) h (lv_sub hl [2, 3, 0] rfl) (fun x1_7' x2_7' H locs ls en hI h hl => kk x1_7' x2_7' H locs ls ((show f_X6_units_L7 σ (n + 1) x1_7 x2_7 = f_X6_units_L7 σ n x1_7 (x2_7 + (1 : Int32)) from (by subst er22; subst ev28; exact ((if_neg c14).trans ((if_pos c31).trans rfl)))).trans en) hI h hl)
        · have i31 := c_ne c31
          refine lv_iload_n hx hb dX6_units_34 rfl (lv_at hl 0 rfl) ?_
          refine lv_iload_n hx hb dX6_units_35 rfl (lv_at hl 3 rfl) ?_
          refine lv_icmp_ge (tgt := 71) hx hb dX6_units_36 (by decide) (fun c36 => ?_) (fun c36 => ?_)
          · have i36 := c_le c36
            refine lv_iinc (v := (x2_7 + (1 : Int32))) (lv' := [(2, .int (x2_7 + (1 : Int32))), (3, .int v28), (0, .ref (g.2.1 99)), (1, .int x1_7)]) hx hb dX6_units_71 hl (k := 3) rfl rfl (by decide) rfl (fun ls hl => ?_)
            refine lv_goto (tgt := 7) hx hb dX6_units_74 (by decide) ?_
            have tt2 : (x2_7 + (1 : Int32)).toInt = (x2_7.toInt + (1)) := (i_add (rfl : x2_7.toInt = x2_7.toInt) zl1 (by omega))
            exact ih x1_7 (x2_7 + (1 : Int32)) _ _ _  (by first | assumption | omega) (by omega) h (lv_sub hl [2, 3, 0] rfl) (fun x1_7' x2_7' H locs ls en hI h hl => kk x1_7' x2_7' H locs ls ((show f_X6_units_L7 σ (n + 1) x1_7 x2_7 = f_X6_units_L7 σ n x1_7 (x2_7 + (1 : Int32)) from (by subst er22; subst ev28; exact ((if_neg c14).trans ((if_neg c31).trans ((if_pos c36).trans rfl))))).trans en) hI h hl)
          · have i36 := c_nle c36
            refine lv_aload_n hx hb dX6_units_39 rfl (lv_at hl 1 rfl) ?_
            refine lv_aload_n hx hb dX6_units_40 rfl (lv_at hl 1 rfl) ?_
            refine M_calli (As := []) (rest := [.ref (g.2.1 99)]) 0 C h (k_X6_heads l g σ) (lw_V q1842 q1844 qs98 q152 q1845) rfl rfl (by decide +kernel) ⟨Nat.le_of_ble_eq_true rfl, Nat.le_of_ble_eq_true rfl⟩ rfl hl.1 rfl (Nat.le_of_ble_eq_true rfl) ⟨Nat.le_of_ble_eq_true rfl, Nat.le_of_ble_eq_true rfl⟩ dX6_units_41 (fun r41 σ41 H locs eσ41 er41 hE41 h => ?_)
            rw [eσ41] at h
            clear hE41
            clear eσ41
            have rgr41 := heads_rng hp er41
            refine lv_iload_n hx hb dX6_units_44 rfl (lv_at hl 3 rfl) ?_
            refine M_callz (As := [.int r41, .int x2_7]) (rest := []) 2 C h (k_X6_isIn l g σ r41 x2_7) (lw_V q1906 q1908 qs107 q152 q1909) rfl rfl (by decide +kernel) ⟨Nat.le_of_ble_eq_true rfl, Nat.le_of_ble_eq_true rfl⟩ rfl hl.1 rfl (Nat.le_of_ble_eq_true rfl) ⟨Nat.le_of_ble_eq_true rfl, Nat.le_of_ble_eq_true rfl⟩ dX6_units_45 (fun r45 σ45 H locs eσ45 er45 br45 hE45 h => ?_)
            rw [eσ45] at h
            clear hE45
            clear eσ45
            refine lv_if_eq (tgt := 71) hx hb dX6_units_48 (by decide) (fun c48 => ?_) (fun c48 => ?_)
            · have i48 := c_eq c48
              refine lv_iinc (v := (x2_7 + (1 : Int32))) (lv' := [(2, .int (x2_7 + (1 : Int32))), (3, .int v28), (0, .ref (g.2.1 99)), (1, .int x1_7)]) hx hb dX6_units_71 hl (k := 3) rfl rfl (by decide) rfl (fun ls hl => ?_)
              refine lv_goto (tgt := 7) hx hb dX6_units_74 (by decide) ?_
              have tt2 : (x2_7 + (1 : Int32)).toInt = (x2_7.toInt + (1)) := (i_add (rfl : x2_7.toInt = x2_7.toInt) zl1 (by omega))
              exact ih x1_7 (x2_7 + (1 : Int32)) _ _ _  (by first | assumption | omega) (by omega) h (lv_sub hl [2, 3, 0] rfl) (fun x1_7' x2_7' H locs ls en hI h hl => kk x1_7' x2_7' H locs ls ((show f_X6_units_L7 σ (n + 1) x1_7 x2_7 = f_X6_units_L7 σ n x1_7 (x2_7 + (1 : Int32)) from (by subst er22; subst ev28; subst er41; subst er45; exact ((if_neg c14).trans ((if_neg c31).trans ((if_neg c36).trans ((if_pos c48).trans rfl)))))).trans en) hI h hl)
            · have i48 := c_ne c48
              have okr45 := isIn_ok er45 c48
              refine lv_aload_n hx hb dX6_units_51 rfl (lv_at hl 1 rfl) ?_
              refine lv_aload_n hx hb dX6_units_52 rfl (lv_at hl 1 rfl) ?_
              refine M_calli (As := []) (rest := [.ref (g.2.1 99)]) 0 C h (k_X6_heads l g σ) (lw_V q1842 q1844 qs98 q152 q1845) rfl rfl (by decide +kernel) ⟨Nat.le_of_ble_eq_true rfl, Nat.le_of_ble_eq_true rfl⟩ rfl hl.1 rfl (Nat.le_of_ble_eq_true rfl) ⟨Nat.le_of_ble_eq_true rfl, Nat.le_of_ble_eq_true rfl⟩ dX6_units_53 (fun r53 σ53 H locs eσ53 er53 hE53 h => ?_)
              rw [eσ53] at h
              clear hE53
              clear eσ53
              have rgr53 := heads_rng hp er53
              refine lv_iload_n hx hb dX6_units_56 rfl (lv_at hl 0 rfl) ?_
              refine M_callz (As := [.int r53, .int v28]) (rest := []) 2 C h (k_X6_isIn l g σ r53 v28) (lw_V q1906 q1908 qs107 q152 q1909) rfl rfl (by decide +kernel) ⟨Nat.le_of_ble_eq_true rfl, Nat.le_of_ble_eq_true rfl⟩ rfl hl.1 rfl (Nat.le_of_ble_eq_true rfl) ⟨Nat.le_of_ble_eq_true rfl, Nat.le_of_ble_eq_true rfl⟩ dX6_units_57 (fun r57 σ57 H locs eσ57 er57 br57 hE57 h => ?_)
              rw [eσ57] at h
              clear hE57
              clear eσ57
              refine lv_if_eq (tgt := 71) hx hb dX6_units_60 (by decide) (fun c60 => ?_) (fun c60 => ?_)
              · have i60 := c_eq c60
                refine lv_iinc (v := (x2_7 + (1 : Int32))) (lv' := [(2, .int (x2_7 + (1 : Int32))), (3, .int v28), (0, .ref (g.2.1 99)), (1, .int x1_7)]) hx hb dX6_units_71 hl (k := 3) rfl rfl (by decide) rfl (fun ls hl => ?_)
                refine lv_goto (tgt := 7) hx hb dX6_units_74 (by decide) ?_
                have tt2 : (x2_7 + (1 : Int32)).toInt = (x2_7.toInt + (1)) := (i_add (rfl : x2_7.toInt = x2_7.toInt) zl1 (by omega))
                exact ih x1_7 (x2_7 + (1 : Int32)) _ _ _  (by first | assumption | omega) (by omega) h (lv_sub hl [2, 3, 0] rfl) (fun x1_7' x2_7' H locs ls en hI h hl => kk x1_7' x2_7' H locs ls ((show f_X6_units_L7 σ (n + 1) x1_7 x2_7 = f_X6_units_L7 σ n x1_7 (x2_7 + (1 : Int32)) from (by subst er22; subst ev28; subst er41; subst er45; subst er53; subst er57; exact ((if_neg c14).trans ((if_neg c31).trans ((if_neg c36).trans ((if_neg c48).trans ((if_pos c60).trans rfl))))))).trans en) hI h hl)
              · have i60 := c_ne c60
                have okr57 := isIn_ok er57 c60
                refine lv_iload_n hx hb dX6_units_63 rfl (lv_at hl 2 rfl) ?_
                refine lv_iconst (v := 1) hx hb dX6_units_64 (by decide) ?_
                refine lv_iload_n hx hb dX6_units_65 rfl (lv_at hl 3 rfl) ?_
                refine lv_ishl hx hb dX6_units_66 ?_
                refine lv_iconst (v := -1) hx hb dX6_units_67 (by decide) ?_
                refine lv_ixor hx hb dX6_units_68 ?_
                refine lv_iand hx hb dX6_units_69 ?_
                refine lv_topi (fun v70 ev70 => ?_)
                refine lv_istore_n (lv' := [(1, .int v70), (3, .int v28), (0, .ref (g.2.1 99)), (2, .int x2_7)]) hx hb dX6_units_70 rfl hl (by decide) rfl (fun ls hl => ?_)
                have w70 : 0 ≤ v70.toInt ∧ v70.toInt ≤ 63 := by rw [ev70]; exact and63 (by omega)
                refine lv_iinc (v := (x2_7 + (1 : Int32))) (lv' := [(2, .int (x2_7 + (1 : Int32))), (1, .int v70), (3, .int v28), (0, .ref (g.2.1 99))]) hx hb dX6_units_71 hl (k := 3) rfl rfl (by decide) rfl (fun ls hl => ?_)
                refine lv_goto (tgt := 7) hx hb dX6_units_74 (by decide) ?_
                have tt2 : (x2_7 + (1 : Int32)).toInt = (x2_7.toInt + (1)) := (i_add (rfl : x2_7.toInt = x2_7.toInt) zl1 (by omega))
                exact ih v70 (x2_7 + (1 : Int32)) _ _ _  (by first | assumption | omega) (by omega) h (lv_sub hl [3, 1, 0] rfl) (fun x1_7' x2_7' H locs ls en hI h hl => kk x1_7' x2_7' H locs ls ((show f_X6_units_L7 σ (n + 1) x1_7 x2_7 = f_X6_units_L7 σ n v70 (x2_7 + (1 : Int32)) from (by subst er22; subst ev28; subst er41; subst er45; subst er53; subst er57; subst ev70; exact ((if_neg c14).trans ((if_neg c31).trans ((if_neg c36).trans ((if_neg c48).trans ((if_neg c60).trans rfl))))))).trans en) hI h hl)
  refine hL7 (7) r1 (0 : Int32) _ _ _  (by first | assumption | omega) (by omega) h (lv_sub hl [2, 1, 0] rfl) (fun x1_7e x2_7e H locs ls eL7 hI7 h hl => ?_)
  have ex1_7e : x1_7e = (f_X6_units_L7 σ (7) r1 (0 : Int32)).1 := by rw [eL7]
  have ex2_7e : x2_7e = (f_X6_units_L7 σ (7) r1 (0 : Int32)).2 := by rw [eL7]
  refine lv_iload_n hx hb dX6_units_77 rfl (lv_at hl 0 rfl) ?_
  have he : f_X6_units σ = x1_7e := (by subst er1; subst ex1_7e; subst ex2_7e; exact rfl)
  exact M_reti C h hr hlocks rfl he (by first | assumption | omega | (unfold Hd; omega)) dX6_units_78
def f_X6_eatenBy_L15 (σ : MS) (y1_15 : Int32) : Nat → Int32 → Int32 → Int32 × Int32
  | 0, x2_15, x3_15 => (x2_15, x3_15)
  | n + 1, x2_15, x3_15 => if (ga σ 0 (2 : Int32)) ≤ x3_15 then ((x2_15, x3_15)) else ((let z58_ : Int32 := (if (ga σ 0 (((60 : Int32) + ((2 : Int32) * x3_15)) + (1 : Int32))) = y1_15 then ((ga σ 0 ((60 : Int32) + ((2 : Int32) * x3_15)))) else ((0 : Int32))); let t0_58 := z58_; (let v59 := (x2_15 + t0_58); f_X6_eatenBy_L15 σ y1_15 n v59 (x3_15 + (1 : Int32)))))
def f_X6_eatenBy (σ : MS) (p1 : Int32) : Int32 := (let r1 := (f_X6_commons σ); let r5 := (f_X6_everybody σ); let r9 := (f_X6_partOf r1 r5 p1); (let zL15 := f_X6_eatenBy_L15 σ p1 (17) r9 (0 : Int32); let x2_15e := zL15.1; let x3_15e := zL15.2; x2_15e))
set_option maxHeartbeats 4000000 in
set_option maxRecDepth 100000 in
theorem k_X6_eatenBy (l : Launch) (g : GE) (σ : MS) (p1 : Int32) (hp : 0 ≤ (ga σ 0 (0 : Int32)).toInt ∧ (ga σ 0 (0 : Int32)).toInt ≤ 6) (hd : 0 ≤ (ga σ 0 (2 : Int32)).toInt ∧ (ga σ 0 (2 : Int32)).toInt ≤ 16) (h1r : 0 ≤ p1.toInt ∧ p1.toInt ≤ 5) : Met l yX6_eatenBy (ws_ yX6_eatenBy cX6_eatenBy 4 (some .int)) ({ frames := 2, cells := 0, slots := 0, locals := 45 } : Room) (mPc g σ [.int p1]) (mQi g σ (f_X6_eatenBy σ p1) (fun u r => True)) 0 0 (mA g) := by
  refine met_M (by decide) rfl (Nat.le_of_ble_eq_true rfl) ?_
  intro p e s m args below meth c C hr hlocks h ls hl
  have hx := C.1.1
  have hb := C.1.2.1
  have hml := C.1.2.2.1
  have hown := C.1.2.2.2.1
  have hts := C.1.2.2.2.2
  have hl : lv_has ls 4 [(0, .ref (g.2.1 99)), (1, .int p1)] := hl
  have zl0 : (0 : Int32).toInt = 0 := rfl
  have zl1 : (1 : Int32).toInt = 1 := rfl
  have zl2 : (2 : Int32).toInt = 2 := rfl
  have zl60 : (60 : Int32).toInt = 60 := rfl
  refine lv_aload_n hx hb dX6_eatenBy_0 rfl (lv_at hl 0 rfl) ?_
  refine M_calli (As := []) (rest := []) 0 C h (k_X6_commons l g σ (by first | assumption | omega)) (lw_V q1884 q1886 qs104 q152 q1887) rfl rfl (by decide +kernel) ⟨Nat.le_of_ble_eq_true rfl, Nat.le_of_ble_eq_true rfl⟩ rfl hl.1 rfl (Nat.le_of_ble_eq_true rfl) ⟨Nat.le_of_ble_eq_true rfl, Nat.le_of_ble_eq_true rfl⟩ dX6_eatenBy_1 (fun r1 σ1 H locs eσ1 er1 hE1 h => ?_)
  rw [eσ1] at h
  clear hE1
  clear eσ1
  refine lv_aload_n hx hb dX6_eatenBy_4 rfl (lv_at hl 0 rfl) ?_
  refine M_calli (As := []) (rest := [.int r1]) 0 C h (k_X6_everybody l g σ) (lw_V q1846 q1848 qs99 q152 q1849) rfl rfl (by decide +kernel) ⟨Nat.le_of_ble_eq_true rfl, Nat.le_of_ble_eq_true rfl⟩ rfl hl.1 rfl (Nat.le_of_ble_eq_true rfl) ⟨Nat.le_of_ble_eq_true rfl, Nat.le_of_ble_eq_true rfl⟩ dX6_eatenBy_5 (fun r5 σ5 H locs eσ5 er5 hE5 h => ?_)
  rw [eσ5] at h
  clear hE5
  clear eσ5
  have rgr5 := everybody_rng hp er5
  refine lv_iload_n hx hb dX6_eatenBy_8 rfl (lv_at hl 1 rfl) ?_
  refine s_calli (As := [.int r1, .int r5, .int p1]) (rest := []) 3 C.1 (k_X6_partOf l r1 r5 p1 (by first | assumption | omega) (by first | assumption | omega)) (lw_S q1888 q1889 q152 q1890) rfl rfl (by decide +kernel) ⟨Nat.le_of_ble_eq_true rfl, Nat.le_of_ble_eq_true rfl⟩ rfl hl.1 rfl (Nat.le_of_ble_eq_true rfl) ⟨Nat.le_of_ble_eq_true rfl, Nat.le_of_ble_eq_true rfl⟩ dX6_eatenBy_9 h.2.2 (fun r9 H locs er9 hz1 hk1 hS1 => ?_)
  have h := h.same hk1 hS1
  clear hz1 hk1 hS1
  refine lv_istore_n (lv' := [(2, .int r9), (0, .ref (g.2.1 99)), (1, .int p1)]) hx hb dX6_eatenBy_12 rfl hl (by decide) rfl (fun ls hl => ?_)
  refine lv_iconst (v := 0) hx hb dX6_eatenBy_13 (by decide) ?_
  refine lv_istore_n (lv' := [(3, .int (0 : Int32)), (2, .int r9), (0, .ref (g.2.1 99)), (1, .int p1)]) hx hb dX6_eatenBy_14 rfl hl (by decide) rfl (fun ls hl => ?_)
  have hL15 : ∀ (n : Nat) (x2_15 : Int32) (x3_15 : Int32) (H : Heap) (locs : List Loc) (ls : Array Slot), (0 ≤ x3_15.toInt ∧ x3_15.toInt ≤ (ga σ 0 (2 : Int32)).toInt) → ((ga σ 0 (2 : Int32)).toInt - x3_15.toInt).toNat < n → MH g σ s H locs → lv_has ls 4 [(0, .ref (g.2.1 99)), (1, .int p1), (2, .int x2_15), (3, .int x3_15)] → (∀ (x2_15' : Int32) (x3_15' : Int32) (H : Heap) (locs : List Loc) (ls : Array Slot), f_X6_eatenBy_L15 σ p1 n x2_15 x3_15 = (x2_15', x3_15') → (0 ≤ x3_15'.toInt ∧ x3_15'.toInt ≤ (ga σ 0 (2 : Int32)).toInt) → MH g σ s H locs → lv_has ls 4 [(2, .int x2_15')] → W p l e ({ frames := 2, cells := 0, slots := 0, locals := 45 } : Room) s m args below meth c H locs 0 0 (MQ below (mQi g σ (f_X6_eatenBy σ p1) (fun u r => True)) args s 0 0 (mA g)) (F0 m 66 ls [])) → W p l e ({ frames := 2, cells := 0, slots := 0, locals := 45 } : Room) s m args below meth c H locs 0 0 (MQ below (mQi g σ (f_X6_eatenBy σ p1) (fun u r => True)) args s 0 0 (mA g)) (F0 m 15 ls []) := by
    intro n
    induction n with
    | zero =>
      intro x2_15 x3_15 H locs ls _ hm; exact absurd hm (Nat.not_lt_zero _)
    | succ n ih =>
      intro x2_15 x3_15 H locs ls hI15 hm h hl kk
      refine lv_iload_n hx hb dX6_eatenBy_15 rfl (lv_at hl 3 rfl) ?_
      refine lv_aload_n hx hb dX6_eatenBy_16 rfl (lv_at hl 0 rfl) ?_
      refine Mg_0 C h dX6_eatenBy_17 ?_
      refine lv_iconst (v := 2) hx hb dX6_eatenBy_20 (by decide) ?_
      refine Ml_0 C h (ix_of zl2 (by omega)) dX6_eatenBy_21 ?_
      refine lv_icmp_ge (tgt := 66) hx hb dX6_eatenBy_22 (by decide) (fun c22 => ?_) (fun c22 => ?_)
      · have i22 := c_le c22
        exact kk x2_15 x3_15 _ _ _ (show f_X6_eatenBy_L15 σ p1 (n + 1) x2_15 x3_15 = (x2_15, x3_15) from (by exact ((if_pos c22).trans rfl)))  (by first | assumption | omega) h (lv_sub hl [2] rfl)
      · have i22 := c_nle c22
        refine lv_iload_n hx hb dX6_eatenBy_25 rfl (lv_at hl 2 rfl) ?_
        refine lv_aload_n hx hb dX6_eatenBy_26 rfl (lv_at hl 0 rfl) ?_
        refine Mg_0 C h dX6_eatenBy_27 ?_
        refine lv_bipush (v := 60) hx hb dX6_eatenBy_30 (by decide) ?_
        refine lv_iconst (v := 2) hx hb dX6_eatenBy_32 (by decide) ?_
        refine lv_iload_n hx hb dX6_eatenBy_33 rfl (lv_at hl 3 rfl) ?_
        refine lv_imul hx hb dX6_eatenBy_34 ?_
        refine lv_iadd hx hb dX6_eatenBy_35 ?_
        refine lv_iconst (v := 1) hx hb dX6_eatenBy_36 (by decide) ?_
        refine lv_iadd hx hb dX6_eatenBy_37 ?_
        refine Ml_0 C h (ix_of (i_add (i_add zl60 (i_mul zl2 (rfl : x3_15.toInt = x3_15.toInt) (by omega)) (by omega)) zl1 (by omega)) (by omega)) dX6_eatenBy_38 ?_
        refine lv_iload_n hx hb dX6_eatenBy_39 rfl (lv_at hl 1 rfl) ?_
        have j58 : ∀ (t0_58 : Int32) (H : Heap) (locs : List Loc) (ls : Array Slot) (ej58 : (if (ga σ 0 (((60 : Int32) + ((2 : Int32) * x3_15)) + (1 : Int32))) = p1 then ((ga σ 0 ((60 : Int32) + ((2 : Int32) * x3_15)))) else ((0 : Int32))) = t0_58) (h : MH g σ s H locs) (hl : lv_has ls 4 [(0, .ref (g.2.1 99)), (1, .int p1), (3, .int x3_15)]), W p l e ({ frames := 2, cells := 0, slots := 0, locals := 45 } : Room) s m args below meth c H locs 0 0 (MQ below (mQi g σ (f_X6_eatenBy σ p1) (fun u r => True)) args s 0 0 (mA g)) (F0 m 58 ls [.int t0_58, .int x2_15]) := by
          intro t0_58 H locs ls ej58 h hl
          have et0_58 := ej58.symm
          refine lv_iadd hx hb dX6_eatenBy_58 ?_
          refine lv_topi (fun v59 ev59 => ?_)
          refine lv_istore_n (lv' := [(2, .int v59), (0, .ref (g.2.1 99)), (1, .int p1), (3, .int x3_15)]) hx hb dX6_eatenBy_59 rfl hl (by decide) rfl (fun ls hl => ?_)
          refine lv_iinc (v := (x3_15 + (1 : Int32))) (lv' := [(3, .int (x3_15 + (1 : Int32))), (2, .int v59), (0, .ref (g.2.1 99)), (1, .int p1)]) hx hb dX6_eatenBy_60 hl (k := 3) rfl rfl (by decide) rfl (fun ls hl => ?_)
          refine lv_goto (tgt := 15) hx hb dX6_eatenBy_63 (by decide) ?_
          have tt3 : (x3_15 + (1 : Int32)).toInt = (x3_15.toInt + (1)) := (i_add (rfl : x3_15.toInt = x3_15.toInt) zl1 (by omega))
          exact ih v59 (x3_15 + (1 : Int32)) _ _ _  (by first | assumption | omega) (by omega) h (lv_sub hl [2, 3, 1, 0] rfl) (fun x2_15' x3_15' H locs ls en hI h hl => kk x2_15' x3_15' H locs ls ((show f_X6_eatenBy_L15 σ p1 (n + 1) x2_15 x3_15 = f_X6_eatenBy_L15 σ p1 n v59 (x3_15 + (1 : Int32)) from (by subst et0_58; subst ev59; exact ((if_neg c22).trans rfl))).trans en) hI h hl)
        refine lv_icmp_ne (tgt := 57) hx hb dX6_eatenBy_40 (by decide) (fun c40 => ?_) (fun c40 => ?_)
        · have i40 := c_ne c40
          refine lv_iconst (v := 0) hx hb dX6_eatenBy_57 (by decide) ?_
          exact j58 _ _ _ _ (by exact ((if_neg c40).trans rfl)) h (lv_sub hl [0, 1, 3] rfl)
        · have i40 := c_eq c40
          refine lv_aload_n hx hb dX6_eatenBy_43 rfl (lv_at hl 0 rfl) ?_
          refine Mg_0 C h dX6_eatenBy_44 ?_
          refine lv_bipush (v := 60) hx hb dX6_eatenBy_47 (by decide) ?_
          refine lv_iconst (v := 2) hx hb dX6_eatenBy_49 (by decide) ?_
          refine lv_iload_n hx hb dX6_eatenBy_50 rfl (lv_at hl 3 rfl) ?_
          refine lv_imul hx hb dX6_eatenBy_51 ?_
          refine lv_iadd hx hb dX6_eatenBy_52 ?_
          refine Ml_0 C h (ix_of (i_add zl60 (i_mul zl2 (rfl : x3_15.toInt = x3_15.toInt) (by omega)) (by omega)) (by omega)) dX6_eatenBy_53 ?_
          refine lv_goto (tgt := 58) hx hb dX6_eatenBy_54 (by decide) ?_
          exact j58 _ _ _ _ (by exact ((if_pos c40).trans rfl)) h (lv_sub hl [0, 1, 3] rfl)
  refine hL15 (17) r9 (0 : Int32) _ _ _  (by first | assumption | omega) (by omega) h (lv_sub hl [2, 3, 1, 0] rfl) (fun x2_15e x3_15e H locs ls eL15 hI15 h hl => ?_)
  have ex2_15e : x2_15e = (f_X6_eatenBy_L15 σ p1 (17) r9 (0 : Int32)).1 := by rw [eL15]
  have ex3_15e : x3_15e = (f_X6_eatenBy_L15 σ p1 (17) r9 (0 : Int32)).2 := by rw [eL15]
  refine lv_iload_n hx hb dX6_eatenBy_66 rfl (lv_at hl 0 rfl) ?_
  have he : f_X6_eatenBy σ p1 = x2_15e := (by subst er1; subst er5; subst er9; subst ex2_15e; subst ex3_15e; exact rfl)
  exact M_reti C h hr hlocks rfl he trivial dX6_eatenBy_67
def f_X6_dueBy_L40 (σ : MS) (y1_40 : Int32) : Nat → Int32 → Int32 → Int32 × Int32
  | 0, x3_40, x4_40 => (x3_40, x4_40)
  | n + 1, x3_40, x4_40 => if (ga σ 0 (0 : Int32)) ≤ x4_40 then ((x3_40, x4_40)) else ((let r54 := (f_X6_heads σ); let r59 := (f_X6_isIn σ r54 x4_40); (let z75_ : Int32 := (if r59 = (0 : Int32) then ((let r72 := (f_X6_eatenBy σ x4_40); r72)) else ((0 : Int32))); let t0_75 := z75_; (let v76 := (x3_40 + t0_75); f_X6_dueBy_L40 σ y1_40 n v76 (x4_40 + (1 : Int32))))))
def f_X6_dueBy (σ : MS) (p1 : Int32) (p2 : Int32) : Int32 := if p2 = (0 : Int32) then ((let r5 := (f_X6_bill σ); let r9 := (f_X6_heads σ); let r13 := (f_X6_partOf r5 r9 p1); r13)) else (if p2 = (2 : Int32) then ((let r23 := (f_X6_bill σ); let r27 := (f_X6_units σ); let r31 := (f_X6_partOf r23 r27 p1); r31)) else ((let zL40 := f_X6_dueBy_L40 σ p1 (7) (0 : Int32) (0 : Int32); let x3_40e := zL40.1; let x4_40e := zL40.2; (let r85 := (f_X6_heads σ); let r89 := (f_X6_isIn σ r85 p1); if r89 = (0 : Int32) then ((0 : Int32)) else ((let r97 := (f_X6_eatenBy σ p1); let r102 := (f_X6_heads σ); let r106 := (f_X6_partOf x3_40e r102 p1); (r97 + r106)))))))
set_option maxHeartbeats 4000000 in
set_option maxRecDepth 100000 in
theorem k_X6_dueBy (l : Launch) (g : GE) (σ : MS) (p1 : Int32) (p2 : Int32) (hp : 0 ≤ (ga σ 0 (0 : Int32)).toInt ∧ (ga σ 0 (0 : Int32)).toInt ≤ 6) (hd : 0 ≤ (ga σ 0 (2 : Int32)).toInt ∧ (ga σ 0 (2 : Int32)).toInt ≤ 16) (h1r : 0 ≤ p1.toInt ∧ p1.toInt ≤ 5) : Met l yX6_dueBy (ws_ yX6_dueBy cX6_dueBy 5 (some .int)) ({ frames := 3, cells := 0, slots := 0, locals := 68 } : Room) (mPc g σ [.int p1, .int p2]) (mQi g σ (f_X6_dueBy σ p1 p2) (fun u r => True)) 0 0 (mA g) := by
  refine met_M (by decide) rfl (Nat.le_of_ble_eq_true rfl) ?_
  intro p e s m args below meth c C hr hlocks h ls hl
  have hx := C.1.1
  have hb := C.1.2.1
  have hml := C.1.2.2.1
  have hown := C.1.2.2.2.1
  have hts := C.1.2.2.2.2
  have hl : lv_has ls 5 [(0, .ref (g.2.1 99)), (1, .int p1), (2, .int p2)] := hl
  have zl0 : (0 : Int32).toInt = 0 := rfl
  have zl1 : (1 : Int32).toInt = 1 := rfl
  have zl2 : (2 : Int32).toInt = 2 := rfl
  refine lv_iload_n hx hb dX6_dueBy_0 rfl (lv_at hl 2 rfl) ?_
  refine lv_if_ne (tgt := 17) hx hb dX6_dueBy_1 (by decide) (fun c1 => ?_) (fun c1 => ?_)
  · have i1 := c_ne c1
    refine lv_iload_n hx hb dX6_dueBy_17 rfl (lv_at hl 2 rfl) ?_
    refine lv_iconst (v := 2) hx hb dX6_dueBy_18 (by decide) ?_
    refine lv_icmp_ne (tgt := 35) hx hb dX6_dueBy_19 (by decide) (fun c19 => ?_) (fun c19 => ?_)
    · have i19 := c_ne c19
      refine lv_iconst (v := 0) hx hb dX6_dueBy_35 (by decide) ?_
      refine lv_istore_n (lv' := [(3, .int (0 : Int32)), (0, .ref (g.2.1 99)), (1, .int p1), (2, .int p2)]) hx hb dX6_dueBy_36 rfl hl (by decide) rfl (fun ls hl => ?_)
      refine lv_iconst (v := 0) hx hb dX6_dueBy_37 (by decide) ?_
      refine lv_istore (lv' := [(4, .int (0 : Int32)), (3, .int (0 : Int32)), (0, .ref (g.2.1 99)), (1, .int p1), (2, .int p2)]) hx hb dX6_dueBy_38 hl (by decide) rfl (fun ls hl => ?_)
      have hL40 : ∀ (n : Nat) (x3_40 : Int32) (x4_40 : Int32) (H : Heap) (locs : List Loc) (ls : Array Slot), (0 ≤ x4_40.toInt ∧ x4_40.toInt ≤ (ga σ 0 (0 : Int32)).toInt) → ((ga σ 0 (0 : Int32)).toInt - x4_40.toInt).toNat < n → MH g σ s H locs → lv_has ls 5 [(0, .ref (g.2.1 99)), (1, .int p1), (3, .int x3_40), (4, .int x4_40)] → (∀ (x3_40' : Int32) (x4_40' : Int32) (H : Heap) (locs : List Loc) (ls : Array Slot), f_X6_dueBy_L40 σ p1 n x3_40 x4_40 = (x3_40', x4_40') → (0 ≤ x4_40'.toInt ∧ x4_40'.toInt ≤ (ga σ 0 (0 : Int32)).toInt) → MH g σ s H locs → lv_has ls 5 [(0, .ref (g.2.1 99)), (1, .int p1), (3, .int x3_40')] → W p l e ({ frames := 3, cells := 0, slots := 0, locals := 68 } : Room) s m args below meth c H locs 0 0 (MQ below (mQi g σ (f_X6_dueBy σ p1 p2) (fun u r => True)) args s 0 0 (mA g)) (F0 m 83 ls [])) → W p l e ({ frames := 3, cells := 0, slots := 0, locals := 68 } : Room) s m args below meth c H locs 0 0 (MQ below (mQi g σ (f_X6_dueBy σ p1 p2) (fun u r => True)) args s 0 0 (mA g)) (F0 m 40 ls []) := by
        intro n
        induction n with
        | zero =>
          intro x3_40 x4_40 H locs ls _ hm; exact absurd hm (Nat.not_lt_zero _)
        | succ n ih =>
          intro x3_40 x4_40 H locs ls hI40 hm h hl kk
          refine lv_iload hx hb dX6_dueBy_40 (lv_at hl 3 rfl) ?_
          refine lv_aload_n hx hb dX6_dueBy_42 rfl (lv_at hl 0 rfl) ?_
          refine Mg_0 C h dX6_dueBy_43 ?_
          refine lv_iconst (v := 0) hx hb dX6_dueBy_46 (by decide) ?_
          refine Ml_0 C h (ix_of zl0 (by omega)) dX6_dueBy_47 ?_
          refine lv_icmp_ge (tgt := 83) hx hb dX6_dueBy_48 (by decide) (fun c48 => ?_) (fun c48 => ?_)
          · have i48 := c_le c48
            exact kk x3_40 x4_40 _ _ _ (show f_X6_dueBy_L40 σ p1 (n + 1) x3_40 x4_40 = (x3_40, x4_40) from (by exact ((if_pos c48).trans rfl)))  (by first | assumption | omega) h (lv_sub hl [0, 1, 2] rfl)
          · have i48 := c_nle c48
            refine lv_iload_n hx hb dX6_dueBy_51 rfl (lv_at hl 2 rfl) ?_
            refine lv_aload_n hx hb dX6_dueBy_52 rfl (lv_at hl 0 rfl) ?_
            refine lv_aload_n hx hb dX6_dueBy_53 rfl (lv_at hl 0 rfl) ?_
            refine M_calli (As := []) (rest := [.ref (g.2.1 99), .int x3_40]) 0 C h (k_X6_heads l g σ) (lw_V q1842 q1844 qs98 q152 q1845) rfl rfl (by decide +kernel) ⟨Nat.le_of_ble_eq_true rfl, Nat.le_of_ble_eq_true rfl⟩ rfl hl.1 rfl (Nat.le_of_ble_eq_true rfl) ⟨Nat.le_of_ble_eq_true rfl, Nat.le_of_ble_eq_true rfl⟩ dX6_dueBy_54 (fun r54 σ54 H locs eσ54 er54 hE54 h => ?_)
            rw [eσ54] at h
            clear hE54
            clear eσ54
            have rgr54 := heads_rng hp er54
            refine lv_iload hx hb dX6_dueBy_57 (lv_at hl 3 rfl) ?_
            refine M_callz (As := [.int r54, .int x4_40]) (rest := [.int x3_40]) 2 C h (k_X6_isIn l g σ r54 x4_40) (lw_V q1906 q1908 qs107 q152 q1909) rfl rfl (by decide +kernel) ⟨Nat.le_of_ble_eq_true rfl, Nat.le_of_ble_eq_true rfl⟩ rfl hl.1 rfl (Nat.le_of_ble_eq_true rfl) ⟨Nat.le_of_ble_eq_true rfl, Nat.le_of_ble_eq_true rfl⟩ dX6_dueBy_59 (fun r59 σ59 H locs eσ59 er59 br59 hE59 h => ?_)
            rw [eσ59] at h
            clear hE59
            clear eσ59
            have j75 : ∀ (t0_75 : Int32) (H : Heap) (locs : List Loc) (ls : Array Slot) (ej75 : (if r59 = (0 : Int32) then ((let r72 := (f_X6_eatenBy σ x4_40); r72)) else ((0 : Int32))) = t0_75) (h : MH g σ s H locs) (hl : lv_has ls 5 [(0, .ref (g.2.1 99)), (1, .int p1), (4, .int x4_40)]), W p l e ({ frames := 3, cells := 0, slots := 0, locals := 68 } : Room) s m args below meth c H locs 0 0 (MQ below (mQi g σ (f_X6_dueBy σ p1 p2) (fun u r => True)) args s 0 0 (mA g)) (F0 m 75 ls [.int t0_75, .int x3_40]) := by
              intro t0_75 H locs ls ej75 h hl
              have et0_75 := ej75.symm
              refine lv_iadd hx hb dX6_dueBy_75 ?_
              refine lv_topi (fun v76 ev76 => ?_)
              refine lv_istore_n (lv' := [(3, .int v76), (0, .ref (g.2.1 99)), (1, .int p1), (4, .int x4_40)]) hx hb dX6_dueBy_76 rfl hl (by decide) rfl (fun ls hl => ?_)
              refine lv_iinc (v := (x4_40 + (1 : Int32))) (lv' := [(4, .int (x4_40 + (1 : Int32))), (3, .int v76), (0, .ref (g.2.1 99)), (1, .int p1)]) hx hb dX6_dueBy_77 hl (k := 3) rfl rfl (by decide) rfl (fun ls hl => ?_)
              refine lv_goto (tgt := 40) hx hb dX6_dueBy_80 (by decide) ?_
              have tt4 : (x4_40 + (1 : Int32)).toInt = (x4_40.toInt + (1)) := (i_add (rfl : x4_40.toInt = x4_40.toInt) zl1 (by omega))
              exact ih v76 (x4_40 + (1 : Int32)) _ _ _  (by first | assumption | omega) (by omega) h (lv_sub hl [2, 3, 1, 0] rfl) (fun x3_40' x4_40' H locs ls en hI h hl => kk x3_40' x4_40' H locs ls ((show f_X6_dueBy_L40 σ p1 (n + 1) x3_40 x4_40 = f_X6_dueBy_L40 σ p1 n v76 (x4_40 + (1 : Int32)) from (by subst er54; subst er59; subst et0_75; subst ev76; exact ((if_neg c48).trans rfl))).trans en) hI h hl)
            refine lv_if_eq (tgt := 69) hx hb dX6_dueBy_62 (by decide) (fun c62 => ?_) (fun c62 => ?_)
            · have i62 := c_eq c62
              refine lv_aload_n hx hb dX6_dueBy_69 rfl (lv_at hl 0 rfl) ?_
              refine lv_iload hx hb dX6_dueBy_70 (lv_at hl 3 rfl) ?_
              refine M_calli (As := [.int x4_40]) (rest := [.int x3_40]) 1 C h (k_X6_eatenBy l g σ x4_40 (by first | assumption | omega) (by first | assumption | omega) (by first | assumption | omega)) (lw_V q1880 q1882 qs103 q152 q1883) rfl rfl (by decide +kernel) ⟨Nat.le_of_ble_eq_true rfl, Nat.le_of_ble_eq_true rfl⟩ rfl hl.1 rfl (Nat.le_of_ble_eq_true rfl) ⟨Nat.le_of_ble_eq_true rfl, Nat.le_of_ble_eq_true rfl⟩ dX6_dueBy_72 (fun r72 σ72 H locs eσ72 er72 hE72 h => ?_)
              rw [eσ72] at h
              clear hE72
              clear eσ72
              exact j75 _ _ _ _ (by subst er72; exact ((if_pos c62).trans rfl)) h (lv_sub hl [0, 1, 3] rfl)
            · have i62 := c_ne c62
              have okr59 := isIn_ok er59 c62
              refine lv_iconst (v := 0) hx hb dX6_dueBy_65 (by decide) ?_
              refine lv_goto (tgt := 75) hx hb dX6_dueBy_66 (by decide) ?_
              exact j75 _ _ _ _ (by exact ((if_neg c62).trans rfl)) h (lv_sub hl [0, 1, 3] rfl)
      refine hL40 (7) (0 : Int32) (0 : Int32) _ _ _  (by first | assumption | omega) (by omega) h (lv_sub hl [2, 3, 1, 0] rfl) (fun x3_40e x4_40e H locs ls eL40 hI40 h hl => ?_)
      have ex3_40e : x3_40e = (f_X6_dueBy_L40 σ p1 (7) (0 : Int32) (0 : Int32)).1 := by rw [eL40]
      have ex4_40e : x4_40e = (f_X6_dueBy_L40 σ p1 (7) (0 : Int32) (0 : Int32)).2 := by rw [eL40]
      refine lv_aload_n hx hb dX6_dueBy_83 rfl (lv_at hl 0 rfl) ?_
      refine lv_aload_n hx hb dX6_dueBy_84 rfl (lv_at hl 0 rfl) ?_
      refine M_calli (As := []) (rest := [.ref (g.2.1 99)]) 0 C h (k_X6_heads l g σ) (lw_V q1842 q1844 qs98 q152 q1845) rfl rfl (by decide +kernel) ⟨Nat.le_of_ble_eq_true rfl, Nat.le_of_ble_eq_true rfl⟩ rfl hl.1 rfl (Nat.le_of_ble_eq_true rfl) ⟨Nat.le_of_ble_eq_true rfl, Nat.le_of_ble_eq_true rfl⟩ dX6_dueBy_85 (fun r85 σ85 H locs eσ85 er85 hE85 h => ?_)
      rw [eσ85] at h
      clear hE85
      clear eσ85
      have rgr85 := heads_rng hp er85
      refine lv_iload_n hx hb dX6_dueBy_88 rfl (lv_at hl 1 rfl) ?_
      refine M_callz (As := [.int r85, .int p1]) (rest := []) 2 C h (k_X6_isIn l g σ r85 p1) (lw_V q1906 q1908 qs107 q152 q1909) rfl rfl (by decide +kernel) ⟨Nat.le_of_ble_eq_true rfl, Nat.le_of_ble_eq_true rfl⟩ rfl hl.1 rfl (Nat.le_of_ble_eq_true rfl) ⟨Nat.le_of_ble_eq_true rfl, Nat.le_of_ble_eq_true rfl⟩ dX6_dueBy_89 (fun r89 σ89 H locs eσ89 er89 br89 hE89 h => ?_)
      rw [eσ89] at h
      clear hE89
      clear eσ89
      refine lv_if_eq (tgt := 113) hx hb dX6_dueBy_92 (by decide) (fun c92 => ?_) (fun c92 => ?_)
      · have i92 := c_eq c92
        refine lv_iconst (v := 0) hx hb dX6_dueBy_113 (by decide) ?_
        have he : f_X6_dueBy σ p1 p2 = (0 : Int32) := (by subst ex3_40e; subst ex4_40e; subst er85; subst er89; exact ((if_neg c1).trans ((if_neg c19).trans ((if_pos c92).trans rfl))))
        exact M_reti C h hr hlocks rfl he trivial dX6_dueBy_114
      · have i92 := c_ne c92
        have okr89 := isIn_ok er89 c92
        refine lv_aload_n hx hb dX6_dueBy_95 rfl (lv_at hl 0 rfl) ?_
        refine lv_iload_n hx hb dX6_dueBy_96 rfl (lv_at hl 1 rfl) ?_
        refine M_calli (As := [.int p1]) (rest := []) 1 C h (k_X6_eatenBy l g σ p1 (by first | assumption | omega) (by first | assumption | omega) (by first | assumption | omega)) (lw_V q1880 q1882 qs103 q152 q1883) rfl rfl (by decide +kernel) ⟨Nat.le_of_ble_eq_true rfl, Nat.le_of_ble_eq_true rfl⟩ rfl hl.1 rfl (Nat.le_of_ble_eq_true rfl) ⟨Nat.le_of_ble_eq_true rfl, Nat.le_of_ble_eq_true rfl⟩ dX6_dueBy_97 (fun r97 σ97 H locs eσ97 er97 hE97 h => ?_)
        rw [eσ97] at h
        clear hE97
        clear eσ97
        refine lv_iload_n hx hb dX6_dueBy_100 rfl (lv_at hl 2 rfl) ?_
        refine lv_aload_n hx hb dX6_dueBy_101 rfl (lv_at hl 0 rfl) ?_
        refine M_calli (As := []) (rest := [.int x3_40e, .int r97]) 0 C h (k_X6_heads l g σ) (lw_V q1842 q1844 qs98 q152 q1845) rfl rfl (by decide +kernel) ⟨Nat.le_of_ble_eq_true rfl, Nat.le_of_ble_eq_true rfl⟩ rfl hl.1 rfl (Nat.le_of_ble_eq_true rfl) ⟨Nat.le_of_ble_eq_true rfl, Nat.le_of_ble_eq_true rfl⟩ dX6_dueBy_102 (fun r102 σ102 H locs eσ102 er102 hE102 h => ?_)
        rw [eσ102] at h
        clear hE102
        clear eσ102
        have rgr102 := heads_rng hp er102
        refine lv_iload_n hx hb dX6_dueBy_105 rfl (lv_at hl 1 rfl) ?_
        refine s_calli (As := [.int x3_40e, .int r102, .int p1]) (rest := [.int r97]) 3 C.1 (k_X6_partOf l x3_40e r102 p1 (by first | assumption | omega) (by first | assumption | omega)) (lw_S q1888 q1889 q152 q1890) rfl rfl (by decide +kernel) ⟨Nat.le_of_ble_eq_true rfl, Nat.le_of_ble_eq_true rfl⟩ rfl hl.1 rfl (Nat.le_of_ble_eq_true rfl) ⟨Nat.le_of_ble_eq_true rfl, Nat.le_of_ble_eq_true rfl⟩ dX6_dueBy_106 h.2.2 (fun r106 H locs er106 hz1 hk1 hS1 => ?_)
        have h := h.same hk1 hS1
        clear hz1 hk1 hS1
        refine lv_iadd hx hb dX6_dueBy_109 ?_
        refine lv_goto (tgt := 114) hx hb dX6_dueBy_110 (by decide) ?_
        have he : f_X6_dueBy σ p1 p2 = (r97 + r106) := (by subst ex3_40e; subst ex4_40e; subst er85; subst er89; subst er97; subst er102; subst er106; exact ((if_neg c1).trans ((if_neg c19).trans ((if_neg c92).trans rfl))))
        exact M_reti C h hr hlocks rfl he trivial dX6_dueBy_114
    · have i19 := c_eq c19
      refine lv_aload_n hx hb dX6_dueBy_22 rfl (lv_at hl 0 rfl) ?_
      refine M_calli (As := []) (rest := []) 0 C h (k_X6_bill l g σ (by first | assumption | omega)) (lw_V q1838 q1840 qs97 q152 q1841) rfl rfl (by decide +kernel) ⟨Nat.le_of_ble_eq_true rfl, Nat.le_of_ble_eq_true rfl⟩ rfl hl.1 rfl (Nat.le_of_ble_eq_true rfl) ⟨Nat.le_of_ble_eq_true rfl, Nat.le_of_ble_eq_true rfl⟩ dX6_dueBy_23 (fun r23 σ23 H locs eσ23 er23 hE23 h => ?_)
      rw [eσ23] at h
      clear hE23
      clear eσ23
      refine lv_aload_n hx hb dX6_dueBy_26 rfl (lv_at hl 0 rfl) ?_
      refine M_calli (As := []) (rest := [.int r23]) 0 C h (k_X6_units l g σ (by first | assumption | omega)) (lw_V q1902 q1904 qs106 q152 q1905) rfl rfl (by decide +kernel) ⟨Nat.le_of_ble_eq_true rfl, Nat.le_of_ble_eq_true rfl⟩ rfl hl.1 rfl (Nat.le_of_ble_eq_true rfl) ⟨Nat.le_of_ble_eq_true rfl, Nat.le_of_ble_eq_true rfl⟩ dX6_dueBy_27 (fun r27 σ27 H locs eσ27 er27 hE27 h => ?_)
      rw [eσ27] at h
      have hE27 : (0 ≤ r27.toInt ∧ r27.toInt ≤ 63) := hE27
      have urng_27 := hE27
      clear eσ27
      refine lv_iload_n hx hb dX6_dueBy_30 rfl (lv_at hl 1 rfl) ?_
      refine s_calli (As := [.int r23, .int r27, .int p1]) (rest := []) 3 C.1 (k_X6_partOf l r23 r27 p1 (by first | assumption | omega) (by first | assumption | omega)) (lw_S q1888 q1889 q152 q1890) rfl rfl (by decide +kernel) ⟨Nat.le_of_ble_eq_true rfl, Nat.le_of_ble_eq_true rfl⟩ rfl hl.1 rfl (Nat.le_of_ble_eq_true rfl) ⟨Nat.le_of_ble_eq_true rfl, Nat.le_of_ble_eq_true rfl⟩ dX6_dueBy_31 h.2.2 (fun r31 H locs er31 hz1 hk1 hS1 => ?_)
      have h := h.same hk1 hS1
      clear hz1 hk1 hS1
      have he : f_X6_dueBy σ p1 p2 = r31 := (by subst er23; subst er27; subst er31; exact ((if_neg c1).trans ((if_pos c19).trans rfl)))
      exact M_reti C h hr hlocks rfl he trivial dX6_dueBy_34
  · have i1 := c_eq c1
    refine lv_aload_n hx hb dX6_dueBy_4 rfl (lv_at hl 0 rfl) ?_
    refine M_calli (As := []) (rest := []) 0 C h (k_X6_bill l g σ (by first | assumption | omega)) (lw_V q1838 q1840 qs97 q152 q1841) rfl rfl (by decide +kernel) ⟨Nat.le_of_ble_eq_true rfl, Nat.le_of_ble_eq_true rfl⟩ rfl hl.1 rfl (Nat.le_of_ble_eq_true rfl) ⟨Nat.le_of_ble_eq_true rfl, Nat.le_of_ble_eq_true rfl⟩ dX6_dueBy_5 (fun r5 σ5 H locs eσ5 er5 hE5 h => ?_)
    rw [eσ5] at h
    clear hE5
    clear eσ5
    refine lv_aload_n hx hb dX6_dueBy_8 rfl (lv_at hl 0 rfl) ?_
    refine M_calli (As := []) (rest := [.int r5]) 0 C h (k_X6_heads l g σ) (lw_V q1842 q1844 qs98 q152 q1845) rfl rfl (by decide +kernel) ⟨Nat.le_of_ble_eq_true rfl, Nat.le_of_ble_eq_true rfl⟩ rfl hl.1 rfl (Nat.le_of_ble_eq_true rfl) ⟨Nat.le_of_ble_eq_true rfl, Nat.le_of_ble_eq_true rfl⟩ dX6_dueBy_9 (fun r9 σ9 H locs eσ9 er9 hE9 h => ?_)
    rw [eσ9] at h
    clear hE9
    clear eσ9
    have rgr9 := heads_rng hp er9
    refine lv_iload_n hx hb dX6_dueBy_12 rfl (lv_at hl 1 rfl) ?_
    refine s_calli (As := [.int r5, .int r9, .int p1]) (rest := []) 3 C.1 (k_X6_partOf l r5 r9 p1 (by first | assumption | omega) (by first | assumption | omega)) (lw_S q1888 q1889 q152 q1890) rfl rfl (by decide +kernel) ⟨Nat.le_of_ble_eq_true rfl, Nat.le_of_ble_eq_true rfl⟩ rfl hl.1 rfl (Nat.le_of_ble_eq_true rfl) ⟨Nat.le_of_ble_eq_true rfl, Nat.le_of_ble_eq_true rfl⟩ dX6_dueBy_13 h.2.2 (fun r13 H locs er13 hz1 hk1 hS1 => ?_)
    have h := h.same hk1 hS1
    clear hz1 hk1 hS1
    have he : f_X6_dueBy σ p1 p2 = r13 := (by subst er5; subst er9; subst er13; exact ((if_pos c1).trans rfl))
    exact M_reti C h hr hlocks rfl he trivial dX6_dueBy_16
def f_X6_unfairBy_L4 (σ : MS) (y1_4 : Int32) : Nat → Int32 → Int32 → Int32 × Int32
  | 0, x2_4, x3_4 => (x2_4, x3_4)
  | n + 1, x2_4, x3_4 => if (ga σ 0 (0 : Int32)) ≤ x3_4 then ((x2_4, x3_4)) else ((let r18 := (f_X6_dueBy σ x3_4 y1_4); let r23 := (f_X6_eatenBy σ x3_4); let v31 := (x2_4 + (jabs (r18 - r23))); f_X6_unfairBy_L4 σ y1_4 n v31 (x3_4 + (1 : Int32))))
def f_X6_unfairBy (σ : MS) (p1 : Int32) : Int32 := (let zL4 := f_X6_unfairBy_L4 σ p1 (7) (0 : Int32) (0 : Int32); let x2_4e := zL4.1; let x3_4e := zL4.2; x2_4e)
set_option maxHeartbeats 4000000 in
set_option maxRecDepth 100000 in
theorem k_X6_unfairBy (l : Launch) (g : GE) (σ : MS) (p1 : Int32) (hp : 0 ≤ (ga σ 0 (0 : Int32)).toInt ∧ (ga σ 0 (0 : Int32)).toInt ≤ 6) (hd : 0 ≤ (ga σ 0 (2 : Int32)).toInt ∧ (ga σ 0 (2 : Int32)).toInt ≤ 16) : Met l yX6_unfairBy (ws_ yX6_unfairBy cX6_unfairBy 4 (some .int)) ({ frames := 4, cells := 0, slots := 0, locals := 92 } : Room) (mPc g σ [.int p1]) (mQi g σ (f_X6_unfairBy σ p1) (fun u r => True)) 0 0 (mA g) := by
  refine met_M (by decide) rfl (Nat.le_of_ble_eq_true rfl) ?_
  intro p e s m args below meth c C hr hlocks h ls hl
  have hx := C.1.1
  have hb := C.1.2.1
  have hml := C.1.2.2.1
  have hown := C.1.2.2.2.1
  have hts := C.1.2.2.2.2
  have hl : lv_has ls 4 [(0, .ref (g.2.1 99)), (1, .int p1)] := hl
  have zl0 : (0 : Int32).toInt = 0 := rfl
  have zl1 : (1 : Int32).toInt = 1 := rfl
  refine lv_iconst (v := 0) hx hb dX6_unfairBy_0 (by decide) ?_
  refine lv_istore_n (lv' := [(2, .int (0 : Int32)), (0, .ref (g.2.1 99)), (1, .int p1)]) hx hb dX6_unfairBy_1 rfl hl (by decide) rfl (fun ls hl => ?_)
  refine lv_iconst (v := 0) hx hb dX6_unfairBy_2 (by decide) ?_
  refine lv_istore_n (lv' := [(3, .int (0 : Int32)), (2, .int (0 : Int32)), (0, .ref (g.2.1 99)), (1, .int p1)]) hx hb dX6_unfairBy_3 rfl hl (by decide) rfl (fun ls hl => ?_)
  have hL4 : ∀ (n : Nat) (x2_4 : Int32) (x3_4 : Int32) (H : Heap) (locs : List Loc) (ls : Array Slot), (0 ≤ x3_4.toInt ∧ x3_4.toInt ≤ (ga σ 0 (0 : Int32)).toInt) → ((ga σ 0 (0 : Int32)).toInt - x3_4.toInt).toNat < n → MH g σ s H locs → lv_has ls 4 [(0, .ref (g.2.1 99)), (1, .int p1), (2, .int x2_4), (3, .int x3_4)] → (∀ (x2_4' : Int32) (x3_4' : Int32) (H : Heap) (locs : List Loc) (ls : Array Slot), f_X6_unfairBy_L4 σ p1 n x2_4 x3_4 = (x2_4', x3_4') → (0 ≤ x3_4'.toInt ∧ x3_4'.toInt ≤ (ga σ 0 (0 : Int32)).toInt) → MH g σ s H locs → lv_has ls 4 [(2, .int x2_4')] → W p l e ({ frames := 4, cells := 0, slots := 0, locals := 92 } : Room) s m args below meth c H locs 0 0 (MQ below (mQi g σ (f_X6_unfairBy σ p1) (fun u r => True)) args s 0 0 (mA g)) (F0 m 38 ls [])) → W p l e ({ frames := 4, cells := 0, slots := 0, locals := 92 } : Room) s m args below meth c H locs 0 0 (MQ below (mQi g σ (f_X6_unfairBy σ p1) (fun u r => True)) args s 0 0 (mA g)) (F0 m 4 ls []) := by
    intro n
    induction n with
    | zero =>
      intro x2_4 x3_4 H locs ls _ hm; exact absurd hm (Nat.not_lt_zero _)
    | succ n ih =>
      intro x2_4 x3_4 H locs ls hI4 hm h hl kk
      refine lv_iload_n hx hb dX6_unfairBy_4 rfl (lv_at hl 3 rfl) ?_
      refine lv_aload_n hx hb dX6_unfairBy_5 rfl (lv_at hl 0 rfl) ?_
      refine Mg_0 C h dX6_unfairBy_6 ?_
      refine lv_iconst (v := 0) hx hb dX6_unfairBy_9 (by decide) ?_
      refine Ml_0 C h (ix_of zl0 (by omega)) dX6_unfairBy_10 ?_
      refine lv_icmp_ge (tgt := 38) hx hb dX6_unfairBy_11 (by decide) (fun c11 => ?_) (fun c11 => ?_)
      · have i11 := c_le c11
        exact kk x2_4 x3_4 _ _ _ (show f_X6_unfairBy_L4 σ p1 (n + 1) x2_4 x3_4 = (x2_4, x3_4) from (by exact ((if_pos c11).trans rfl)))  (by first | assumption | omega) h (lv_sub hl [2] rfl)
      · have i11 := c_nle c11
        refine lv_iload_n hx hb dX6_unfairBy_14 rfl (lv_at hl 2 rfl) ?_
        refine lv_aload_n hx hb dX6_unfairBy_15 rfl (lv_at hl 0 rfl) ?_
        refine lv_iload_n hx hb dX6_unfairBy_16 rfl (lv_at hl 3 rfl) ?_
        refine lv_iload_n hx hb dX6_unfairBy_17 rfl (lv_at hl 1 rfl) ?_
        refine M_calli (As := [.int x3_4, .int p1]) (rest := [.int x2_4]) 2 C h (k_X6_dueBy l g σ x3_4 p1 (by first | assumption | omega) (by first | assumption | omega) (by first | assumption | omega)) (lw_V q1898 q1900 qs105 q152 q1901) rfl rfl (by decide +kernel) ⟨Nat.le_of_ble_eq_true rfl, Nat.le_of_ble_eq_true rfl⟩ rfl hl.1 rfl (Nat.le_of_ble_eq_true rfl) ⟨Nat.le_of_ble_eq_true rfl, Nat.le_of_ble_eq_true rfl⟩ dX6_unfairBy_18 (fun r18 σ18 H locs eσ18 er18 hE18 h => ?_)
        rw [eσ18] at h
        clear hE18
        clear eσ18
        refine lv_aload_n hx hb dX6_unfairBy_21 rfl (lv_at hl 0 rfl) ?_
        refine lv_iload_n hx hb dX6_unfairBy_22 rfl (lv_at hl 3 rfl) ?_
        refine M_calli (As := [.int x3_4]) (rest := [.int r18, .int x2_4]) 1 C h (k_X6_eatenBy l g σ x3_4 (by first | assumption | omega) (by first | assumption | omega) (by first | assumption | omega)) (lw_V q1880 q1882 qs103 q152 q1883) rfl rfl (by decide +kernel) ⟨Nat.le_of_ble_eq_true rfl, Nat.le_of_ble_eq_true rfl⟩ rfl hl.1 rfl (Nat.le_of_ble_eq_true rfl) ⟨Nat.le_of_ble_eq_true rfl, Nat.le_of_ble_eq_true rfl⟩ dX6_unfairBy_23 (fun r23 σ23 H locs eσ23 er23 hE23 h => ?_)
        rw [eσ23] at h
        clear hE23
        clear eσ23
        refine lv_isub hx hb dX6_unfairBy_26 ?_
        refine va_mabs hx hb (hml.trans hl.1.symm) hown (hts _ q1918) (hts _ q1085) (hts _ q164) (hts _ q1086) (Nat.le_of_ble_eq_true rfl) (Nat.le_of_ble_eq_true rfl) (Nat.le_of_ble_eq_true rfl) (Nat.le_of_ble_eq_true rfl) dX6_unfairBy_27 ?_
        refine lv_iadd hx hb dX6_unfairBy_30 ?_
        refine lv_topi (fun v31 ev31 => ?_)
        refine lv_istore_n (lv' := [(2, .int v31), (0, .ref (g.2.1 99)), (1, .int p1), (3, .int x3_4)]) hx hb dX6_unfairBy_31 rfl hl (by decide) rfl (fun ls hl => ?_)
        refine lv_iinc (v := (x3_4 + (1 : Int32))) (lv' := [(3, .int (x3_4 + (1 : Int32))), (2, .int v31), (0, .ref (g.2.1 99)), (1, .int p1)]) hx hb dX6_unfairBy_32 hl (k := 3) rfl rfl (by decide) rfl (fun ls hl => ?_)
        refine lv_goto (tgt := 4) hx hb dX6_unfairBy_35 (by decide) ?_
        have tt3 : (x3_4 + (1 : Int32)).toInt = (x3_4.toInt + (1)) := (i_add (rfl : x3_4.toInt = x3_4.toInt) zl1 (by omega))
        exact ih v31 (x3_4 + (1 : Int32)) _ _ _  (by first | assumption | omega) (by omega) h (lv_sub hl [2, 3, 1, 0] rfl) (fun x2_4' x3_4' H locs ls en hI h hl => kk x2_4' x3_4' H locs ls ((show f_X6_unfairBy_L4 σ p1 (n + 1) x2_4 x3_4 = f_X6_unfairBy_L4 σ p1 n v31 (x3_4 + (1 : Int32)) from (by subst er18; subst er23; subst ev31; exact ((if_neg c11).trans rfl))).trans en) hI h hl)
  refine hL4 (7) (0 : Int32) (0 : Int32) _ _ _  (by first | assumption | omega) (by omega) h (lv_sub hl [2, 3, 1, 0] rfl) (fun x2_4e x3_4e H locs ls eL4 hI4 h hl => ?_)
  have ex2_4e : x2_4e = (f_X6_unfairBy_L4 σ p1 (7) (0 : Int32) (0 : Int32)).1 := by rw [eL4]
  have ex3_4e : x3_4e = (f_X6_unfairBy_L4 σ p1 (7) (0 : Int32) (0 : Int32)).2 := by rw [eL4]
  refine lv_iload_n hx hb dX6_unfairBy_38 rfl (lv_at hl 0 rfl) ?_
  have he : f_X6_unfairBy σ p1 = x2_4e := (by subst ex2_4e; subst ex3_4e; exact rfl)
  exact M_reti C h hr hlocks rfl he trivial dX6_unfairBy_39
def f_X6_told (σ : MS) (p1 : Int32) : MS × Int32 := if p1 < (0 : Int32) then ((let z12 := (f_X6_refuse σ (1 : Int32)); let σ12 := z12.1; let r12 := z12.2; (σ12, r12))) else (if p1 ≤ (11 : Int32) then (if p1 = (5 : Int32) then ((let r62 := (f_X6_bill σ); let z65 := (f_X6_gives σ r62); let σ65 := z65.1; let r65 := z65.2; (σ65, r65))) else (if p1 = (6 : Int32) then ((let r71 := (f_X6_heads σ); let r74 := (f_X6_bits r71); let z77 := (f_X6_gives σ r74); let σ77 := z77.1; let r77 := z77.2; (σ77, r77))) else (if p1 = (7 : Int32) then ((let r83 := (f_X6_paidByAll σ); let z86 := (f_X6_gives σ r83); let σ86 := z86.1; let r86 := z86.2; (σ86, r86))) else (if p1 = (8 : Int32) then ((let z99 := (f_X6_gives σ (ga σ 0 (p1 - (3 : Int32)))); let σ99 := z99.1; let r99 := z99.2; (σ99, r99))) else (if p1 = (9 : Int32) then ((let z99 := (f_X6_gives σ (ga σ 0 (p1 - (3 : Int32)))); let σ99 := z99.1; let r99 := z99.2; (σ99, r99))) else (if p1 = (10 : Int32) then ((let z112 := (f_X6_gives σ (ga σ 0 (p1 - (3 : Int32)))); let σ112 := z112.1; let r112 := z112.2; (σ112, r112))) else (if p1 = (11 : Int32) then ((let z112 := (f_X6_gives σ (ga σ 0 (p1 - (3 : Int32)))); let σ112 := z112.1; let r112 := z112.2; (σ112, r112))) else ((let z123 := (f_X6_gives σ (ga σ 0 p1)); let σ123 := z123.1; let r123 := z123.2; (σ123, r123)))))))))) else ((let z12 := (f_X6_refuse σ (1 : Int32)); let σ12 := z12.1; let r12 := z12.2; (σ12, r12))))
set_option maxHeartbeats 4000000 in
set_option maxRecDepth 100000 in
theorem k_X6_told (l : Launch) (g : GE) (σ : MS) (p1 : Int32) (hp : 0 ≤ (ga σ 0 (0 : Int32)).toInt ∧ (ga σ 0 (0 : Int32)).toInt ≤ 6) (hd : 0 ≤ (ga σ 0 (2 : Int32)).toInt ∧ (ga σ 0 (2 : Int32)).toInt ≤ 16) : Met l yX6_told (ws_ yX6_told cX6_told 2 (some .int)) ({ frames := 2, cells := 0, slots := 0, locals := 42 } : Room) (mPc g σ [.int p1]) (mQi g (f_X6_told σ p1).1 (f_X6_told σ p1).2 (fun u r => ((ga u 0 (0 : Int32)).toInt = (ga σ 0 (0 : Int32)).toInt) ∧ ((ga u 0 (2 : Int32)).toInt = (ga σ 0 (2 : Int32)).toInt))) 0 0 (mA g) := by
  refine met_M (by decide) rfl (Nat.le_of_ble_eq_true rfl) ?_
  intro p e s m args below meth c C hr hlocks h ls hl
  have hx := C.1.1
  have hb := C.1.2.1
  have hml := C.1.2.2.1
  have hown := C.1.2.2.2.1
  have hts := C.1.2.2.2.2
  have hl : lv_has ls 2 [(0, .ref (g.2.1 99)), (1, .int p1)] := hl
  have hpq : (ga σ 0 (0 : Int32)).toInt = (ga σ 0 (0 : Int32)).toInt := rfl
  have hdq : (ga σ 0 (2 : Int32)).toInt = (ga σ 0 (2 : Int32)).toInt := rfl
  have zl0 : (0 : Int32).toInt = 0 := rfl
  have zl1 : (1 : Int32).toInt = 1 := rfl
  have zl3 : (3 : Int32).toInt = 3 := rfl
  have zl5 : (5 : Int32).toInt = 5 := rfl
  have zl6 : (6 : Int32).toInt = 6 := rfl
  have zl7 : (7 : Int32).toInt = 7 := rfl
  have zl8 : (8 : Int32).toInt = 8 := rfl
  have zl9 : (9 : Int32).toInt = 9 := rfl
  have zl10 : (10 : Int32).toInt = 10 := rfl
  have zl11 : (11 : Int32).toInt = 11 := rfl
  refine lv_iload_n hx hb dX6_told_0 rfl (lv_at hl 1 rfl) ?_
  refine lv_if_lt (tgt := 10) hx hb dX6_told_1 (by decide) (fun c1 => ?_) (fun c1 => ?_)
  · have i1 := c_lt c1
    refine lv_aload_n hx hb dX6_told_10 rfl (lv_at hl 0 rfl) ?_
    refine lv_iconst (v := 1) hx hb dX6_told_11 (by decide) ?_
    refine M_calli (As := [.int (1 : Int32)]) (rest := []) 1 C h (k_X6_refuse l g σ (1 : Int32)) (lw_V q1723 q1725 qs71 q152 q1726) rfl rfl (by decide +kernel) ⟨Nat.le_of_ble_eq_true rfl, Nat.le_of_ble_eq_true rfl⟩ rfl hl.1 rfl (Nat.le_of_ble_eq_true rfl) ⟨Nat.le_of_ble_eq_true rfl, Nat.le_of_ble_eq_true rfl⟩ dX6_told_12 (fun r12 σ12 H locs eσ12 er12 hE12 h => ?_)
    clear hE12
    have hNEW : (0 ≤ (ga σ12 0 (0 : Int32)).toInt ∧ (ga σ12 0 (0 : Int32)).toInt ≤ 6) ∧ (0 ≤ (ga σ12 0 (2 : Int32)).toInt ∧ (ga σ12 0 (2 : Int32)).toInt ≤ 16) ∧ ((ga σ12 0 (0 : Int32)).toInt = (ga σ 0 (0 : Int32)).toInt) ∧ ((ga σ12 0 (2 : Int32)).toInt = (ga σ 0 (2 : Int32)).toInt) := ⟨(by rw [eσ12, refuse_s] <;> exact hp), (by rw [eσ12, refuse_s] <;> exact hd), (by rw [eσ12, refuse_s] <;> exact hpq), (by rw [eσ12, refuse_s] <;> exact hdq)⟩
    obtain ⟨hp, hd, hpq, hdq⟩ := hNEW
    have he : f_X6_told σ p1 = (σ12, r12) := (by subst eσ12; subst er12; exact ((if_pos c1).trans rfl))
    exact M_reti C h hr hlocks (congrArg Prod.fst he) (congrArg Prod.snd he) ⟨hpq, hdq⟩ dX6_told_15
  · have i1 := c_nlt c1
    refine lv_iload_n hx hb dX6_told_4 rfl (lv_at hl 1 rfl) ?_
    refine lv_bipush (v := 11) hx hb dX6_told_5 (by decide) ?_
    refine lv_icmp_le (tgt := 16) hx hb dX6_told_7 (by decide) (fun c7 => ?_) (fun c7 => ?_)
    · have i7 := c_le c7
      refine lv_iload_n hx hb dX6_told_16 rfl (lv_at hl 1 rfl) ?_
      by_cases c17_5 : p1 = (5 : Int32)
      · refine lv_tableIn (off := 43) (tgt := 60) hx hb dX6_told_17 (by rw [c17_5]; decide) (by rw [c17_5]; decide) (by rw [c17_5]; rfl) (by decide) ?_
        have i17_5 := c_eq c17_5
        refine lv_aload_n hx hb dX6_told_60 rfl (lv_at hl 0 rfl) ?_
        refine lv_aload_n hx hb dX6_told_61 rfl (lv_at hl 0 rfl) ?_
        refine M_calli (As := []) (rest := [.ref (g.2.1 99)]) 0 C h (k_X6_bill l g σ (by first | assumption | omega)) (lw_V q1838 q1840 qs97 q152 q1841) rfl rfl (by decide +kernel) ⟨Nat.le_of_ble_eq_true rfl, Nat.le_of_ble_eq_true rfl⟩ rfl hl.1 rfl (Nat.le_of_ble_eq_true rfl) ⟨Nat.le_of_ble_eq_true rfl, Nat.le_of_ble_eq_true rfl⟩ dX6_told_62 (fun r62 σ62 H locs eσ62 er62 hE62 h => ?_)
        rw [eσ62] at h
        clear hE62
        clear eσ62
        refine M_calli (As := [.int r62]) (rest := []) 1 C h (k_X6_gives l g σ r62) (lw_V q1806 q1808 qs91 q152 q1809) rfl rfl (by decide +kernel) ⟨Nat.le_of_ble_eq_true rfl, Nat.le_of_ble_eq_true rfl⟩ rfl hl.1 rfl (Nat.le_of_ble_eq_true rfl) ⟨Nat.le_of_ble_eq_true rfl, Nat.le_of_ble_eq_true rfl⟩ dX6_told_65 (fun r65 σ65 H locs eσ65 er65 hE65 h => ?_)
        clear hE65
        have hNEW : (0 ≤ (ga σ65 0 (0 : Int32)).toInt ∧ (ga σ65 0 (0 : Int32)).toInt ≤ 6) ∧ (0 ≤ (ga σ65 0 (2 : Int32)).toInt ∧ (ga σ65 0 (2 : Int32)).toInt ≤ 16) ∧ ((ga σ65 0 (0 : Int32)).toInt = (ga σ 0 (0 : Int32)).toInt) ∧ ((ga σ65 0 (2 : Int32)).toInt = (ga σ 0 (2 : Int32)).toInt) := ⟨(by rw [eσ65, gives_s] <;> exact hp), (by rw [eσ65, gives_s] <;> exact hd), (by rw [eσ65, gives_s] <;> exact hpq), (by rw [eσ65, gives_s] <;> exact hdq)⟩
        obtain ⟨hp, hd, hpq, hdq⟩ := hNEW
        have he : f_X6_told σ p1 = (σ65, r65) := (by subst er62; subst eσ65; subst er65; exact ((if_neg c1).trans ((if_pos c7).trans ((if_pos c17_5).trans rfl))))
        exact M_reti C h hr hlocks (congrArg Prod.fst he) (congrArg Prod.snd he) ⟨hpq, hdq⟩ dX6_told_68
      · have i17_5 := c_ne c17_5
        by_cases c17_6 : p1 = (6 : Int32)
        · refine lv_tableIn (off := 52) (tgt := 69) hx hb dX6_told_17 (by rw [c17_6]; decide) (by rw [c17_6]; decide) (by rw [c17_6]; rfl) (by decide) ?_
          have i17_6 := c_eq c17_6
          refine lv_aload_n hx hb dX6_told_69 rfl (lv_at hl 0 rfl) ?_
          refine lv_aload_n hx hb dX6_told_70 rfl (lv_at hl 0 rfl) ?_
          refine M_calli (As := []) (rest := [.ref (g.2.1 99)]) 0 C h (k_X6_heads l g σ) (lw_V q1842 q1844 qs98 q152 q1845) rfl rfl (by decide +kernel) ⟨Nat.le_of_ble_eq_true rfl, Nat.le_of_ble_eq_true rfl⟩ rfl hl.1 rfl (Nat.le_of_ble_eq_true rfl) ⟨Nat.le_of_ble_eq_true rfl, Nat.le_of_ble_eq_true rfl⟩ dX6_told_71 (fun r71 σ71 H locs eσ71 er71 hE71 h => ?_)
          rw [eσ71] at h
          clear hE71
          clear eσ71
          have rgr71 := heads_rng hp er71
          refine s_calli (As := [.int r71]) (rest := [.ref (g.2.1 99)]) 1 C.1 (k_X6_bits l r71) (lw_S q1850 q1851 q152 q1852) rfl rfl (by decide +kernel) ⟨Nat.le_of_ble_eq_true rfl, Nat.le_of_ble_eq_true rfl⟩ rfl hl.1 rfl (Nat.le_of_ble_eq_true rfl) ⟨Nat.le_of_ble_eq_true rfl, Nat.le_of_ble_eq_true rfl⟩ dX6_told_74 h.2.2 (fun r74 H locs er74 hz1 hk1 hS1 => ?_)
          have h := h.same hk1 hS1
          clear hz1 hk1 hS1
          refine M_calli (As := [.int r74]) (rest := []) 1 C h (k_X6_gives l g σ r74) (lw_V q1806 q1808 qs91 q152 q1809) rfl rfl (by decide +kernel) ⟨Nat.le_of_ble_eq_true rfl, Nat.le_of_ble_eq_true rfl⟩ rfl hl.1 rfl (Nat.le_of_ble_eq_true rfl) ⟨Nat.le_of_ble_eq_true rfl, Nat.le_of_ble_eq_true rfl⟩ dX6_told_77 (fun r77 σ77 H locs eσ77 er77 hE77 h => ?_)
          clear hE77
          have hNEW : (0 ≤ (ga σ77 0 (0 : Int32)).toInt ∧ (ga σ77 0 (0 : Int32)).toInt ≤ 6) ∧ (0 ≤ (ga σ77 0 (2 : Int32)).toInt ∧ (ga σ77 0 (2 : Int32)).toInt ≤ 16) ∧ ((ga σ77 0 (0 : Int32)).toInt = (ga σ 0 (0 : Int32)).toInt) ∧ ((ga σ77 0 (2 : Int32)).toInt = (ga σ 0 (2 : Int32)).toInt) := ⟨(by rw [eσ77, gives_s] <;> exact hp), (by rw [eσ77, gives_s] <;> exact hd), (by rw [eσ77, gives_s] <;> exact hpq), (by rw [eσ77, gives_s] <;> exact hdq)⟩
          obtain ⟨hp, hd, hpq, hdq⟩ := hNEW
          have he : f_X6_told σ p1 = (σ77, r77) := (by subst er71; subst er74; subst eσ77; subst er77; exact ((if_neg c1).trans ((if_pos c7).trans ((if_neg c17_5).trans ((if_pos c17_6).trans rfl)))))
          exact M_reti C h hr hlocks (congrArg Prod.fst he) (congrArg Prod.snd he) ⟨hpq, hdq⟩ dX6_told_80
        · have i17_6 := c_ne c17_6
          by_cases c17_7 : p1 = (7 : Int32)
          · refine lv_tableIn (off := 64) (tgt := 81) hx hb dX6_told_17 (by rw [c17_7]; decide) (by rw [c17_7]; decide) (by rw [c17_7]; rfl) (by decide) ?_
            have i17_7 := c_eq c17_7
            refine lv_aload_n hx hb dX6_told_81 rfl (lv_at hl 0 rfl) ?_
            refine lv_aload_n hx hb dX6_told_82 rfl (lv_at hl 0 rfl) ?_
            refine M_calli (As := []) (rest := [.ref (g.2.1 99)]) 0 C h (k_X6_paidByAll l g σ (by first | assumption | omega)) (lw_V q1853 q1855 qs100 q152 q1856) rfl rfl (by decide +kernel) ⟨Nat.le_of_ble_eq_true rfl, Nat.le_of_ble_eq_true rfl⟩ rfl hl.1 rfl (Nat.le_of_ble_eq_true rfl) ⟨Nat.le_of_ble_eq_true rfl, Nat.le_of_ble_eq_true rfl⟩ dX6_told_83 (fun r83 σ83 H locs eσ83 er83 hE83 h => ?_)
            rw [eσ83] at h
            clear hE83
            clear eσ83
            refine M_calli (As := [.int r83]) (rest := []) 1 C h (k_X6_gives l g σ r83) (lw_V q1806 q1808 qs91 q152 q1809) rfl rfl (by decide +kernel) ⟨Nat.le_of_ble_eq_true rfl, Nat.le_of_ble_eq_true rfl⟩ rfl hl.1 rfl (Nat.le_of_ble_eq_true rfl) ⟨Nat.le_of_ble_eq_true rfl, Nat.le_of_ble_eq_true rfl⟩ dX6_told_86 (fun r86 σ86 H locs eσ86 er86 hE86 h => ?_)
            clear hE86
            have hNEW : (0 ≤ (ga σ86 0 (0 : Int32)).toInt ∧ (ga σ86 0 (0 : Int32)).toInt ≤ 6) ∧ (0 ≤ (ga σ86 0 (2 : Int32)).toInt ∧ (ga σ86 0 (2 : Int32)).toInt ≤ 16) ∧ ((ga σ86 0 (0 : Int32)).toInt = (ga σ 0 (0 : Int32)).toInt) ∧ ((ga σ86 0 (2 : Int32)).toInt = (ga σ 0 (2 : Int32)).toInt) := ⟨(by rw [eσ86, gives_s] <;> exact hp), (by rw [eσ86, gives_s] <;> exact hd), (by rw [eσ86, gives_s] <;> exact hpq), (by rw [eσ86, gives_s] <;> exact hdq)⟩
            obtain ⟨hp, hd, hpq, hdq⟩ := hNEW
            have he : f_X6_told σ p1 = (σ86, r86) := (by subst er83; subst eσ86; subst er86; exact ((if_neg c1).trans ((if_pos c7).trans ((if_neg c17_5).trans ((if_neg c17_6).trans ((if_pos c17_7).trans rfl))))))
            exact M_reti C h hr hlocks (congrArg Prod.fst he) (congrArg Prod.snd he) ⟨hpq, hdq⟩ dX6_told_89
          · have i17_7 := c_ne c17_7
            by_cases c17_8 : p1 = (8 : Int32)
            · refine lv_tableIn (off := 73) (tgt := 90) hx hb dX6_told_17 (by rw [c17_8]; decide) (by rw [c17_8]; decide) (by rw [c17_8]; rfl) (by decide) ?_
              have i17_8 := c_eq c17_8
              refine lv_aload_n hx hb dX6_told_90 rfl (lv_at hl 0 rfl) ?_
              refine lv_aload_n hx hb dX6_told_91 rfl (lv_at hl 0 rfl) ?_
              refine Mg_0 C h dX6_told_92 ?_
              refine lv_iload_n hx hb dX6_told_95 rfl (lv_at hl 1 rfl) ?_
              refine lv_iconst (v := 3) hx hb dX6_told_96 (by decide) ?_
              refine lv_isub hx hb dX6_told_97 ?_
              refine Ml_0 C h (ix_of (i_sub (rfl : p1.toInt = p1.toInt) zl3 (by omega)) (by omega)) dX6_told_98 ?_
              refine M_calli (As := [.int (ga σ 0 (p1 - (3 : Int32)))]) (rest := []) 1 C h (k_X6_gives l g σ (ga σ 0 (p1 - (3 : Int32)))) (lw_V q1806 q1808 qs91 q152 q1809) rfl rfl (by decide +kernel) ⟨Nat.le_of_ble_eq_true rfl, Nat.le_of_ble_eq_true rfl⟩ rfl hl.1 rfl (Nat.le_of_ble_eq_true rfl) ⟨Nat.le_of_ble_eq_true rfl, Nat.le_of_ble_eq_true rfl⟩ dX6_told_99 (fun r99 σ99 H locs eσ99 er99 hE99 h => ?_)
              clear hE99
              have hNEW : (0 ≤ (ga σ99 0 (0 : Int32)).toInt ∧ (ga σ99 0 (0 : Int32)).toInt ≤ 6) ∧ (0 ≤ (ga σ99 0 (2 : Int32)).toInt ∧ (ga σ99 0 (2 : Int32)).toInt ≤ 16) ∧ ((ga σ99 0 (0 : Int32)).toInt = (ga σ 0 (0 : Int32)).toInt) ∧ ((ga σ99 0 (2 : Int32)).toInt = (ga σ 0 (2 : Int32)).toInt) := ⟨(by rw [eσ99, gives_s] <;> exact hp), (by rw [eσ99, gives_s] <;> exact hd), (by rw [eσ99, gives_s] <;> exact hpq), (by rw [eσ99, gives_s] <;> exact hdq)⟩
              obtain ⟨hp, hd, hpq, hdq⟩ := hNEW
              have he : f_X6_told σ p1 = (σ99, r99) := (by subst eσ99; subst er99; exact ((if_neg c1).trans ((if_pos c7).trans ((if_neg c17_5).trans ((if_neg c17_6).trans ((if_neg c17_7).trans ((if_pos c17_8).trans rfl)))))))
              exact M_reti C h hr hlocks (congrArg Prod.fst he) (congrArg Prod.snd he) ⟨hpq, hdq⟩ dX6_told_102
            · have i17_8 := c_ne c17_8
              by_cases c17_9 : p1 = (9 : Int32)
              · refine lv_tableIn (off := 73) (tgt := 90) hx hb dX6_told_17 (by rw [c17_9]; decide) (by rw [c17_9]; decide) (by rw [c17_9]; rfl) (by decide) ?_
                have i17_9 := c_eq c17_9
                refine lv_aload_n hx hb dX6_told_90 rfl (lv_at hl 0 rfl) ?_
                refine lv_aload_n hx hb dX6_told_91 rfl (lv_at hl 0 rfl) ?_
                refine Mg_0 C h dX6_told_92 ?_
                refine lv_iload_n hx hb dX6_told_95 rfl (lv_at hl 1 rfl) ?_
                refine lv_iconst (v := 3) hx hb dX6_told_96 (by decide) ?_
                refine lv_isub hx hb dX6_told_97 ?_
                refine Ml_0 C h (ix_of (i_sub (rfl : p1.toInt = p1.toInt) zl3 (by omega)) (by omega)) dX6_told_98 ?_
                refine M_calli (As := [.int (ga σ 0 (p1 - (3 : Int32)))]) (rest := []) 1 C h (k_X6_gives l g σ (ga σ 0 (p1 - (3 : Int32)))) (lw_V q1806 q1808 qs91 q152 q1809) rfl rfl (by decide +kernel) ⟨Nat.le_of_ble_eq_true rfl, Nat.le_of_ble_eq_true rfl⟩ rfl hl.1 rfl (Nat.le_of_ble_eq_true rfl) ⟨Nat.le_of_ble_eq_true rfl, Nat.le_of_ble_eq_true rfl⟩ dX6_told_99 (fun r99 σ99 H locs eσ99 er99 hE99 h => ?_)
                clear hE99
                have hNEW : (0 ≤ (ga σ99 0 (0 : Int32)).toInt ∧ (ga σ99 0 (0 : Int32)).toInt ≤ 6) ∧ (0 ≤ (ga σ99 0 (2 : Int32)).toInt ∧ (ga σ99 0 (2 : Int32)).toInt ≤ 16) ∧ ((ga σ99 0 (0 : Int32)).toInt = (ga σ 0 (0 : Int32)).toInt) ∧ ((ga σ99 0 (2 : Int32)).toInt = (ga σ 0 (2 : Int32)).toInt) := ⟨(by rw [eσ99, gives_s] <;> exact hp), (by rw [eσ99, gives_s] <;> exact hd), (by rw [eσ99, gives_s] <;> exact hpq), (by rw [eσ99, gives_s] <;> exact hdq)⟩
                obtain ⟨hp, hd, hpq, hdq⟩ := hNEW
                have he : f_X6_told σ p1 = (σ99, r99) := (by subst eσ99; subst er99; exact ((if_neg c1).trans ((if_pos c7).trans ((if_neg c17_5).trans ((if_neg c17_6).trans ((if_neg c17_7).trans ((if_neg c17_8).trans ((if_pos c17_9).trans rfl))))))))
                exact M_reti C h hr hlocks (congrArg Prod.fst he) (congrArg Prod.snd he) ⟨hpq, hdq⟩ dX6_told_102
              · have i17_9 := c_ne c17_9
                by_cases c17_10 : p1 = (10 : Int32)
                · refine lv_tableIn (off := 86) (tgt := 103) hx hb dX6_told_17 (by rw [c17_10]; decide) (by rw [c17_10]; decide) (by rw [c17_10]; rfl) (by decide) ?_
                  have i17_10 := c_eq c17_10
                  refine lv_aload_n hx hb dX6_told_103 rfl (lv_at hl 0 rfl) ?_
                  refine lv_aload_n hx hb dX6_told_104 rfl (lv_at hl 0 rfl) ?_
                  refine Mg_0 C h dX6_told_105 ?_
                  refine lv_iload_n hx hb dX6_told_108 rfl (lv_at hl 1 rfl) ?_
                  refine lv_iconst (v := 3) hx hb dX6_told_109 (by decide) ?_
                  refine lv_isub hx hb dX6_told_110 ?_
                  refine Ml_0 C h (ix_of (i_sub (rfl : p1.toInt = p1.toInt) zl3 (by omega)) (by omega)) dX6_told_111 ?_
                  refine M_calli (As := [.int (ga σ 0 (p1 - (3 : Int32)))]) (rest := []) 1 C h (k_X6_gives l g σ (ga σ 0 (p1 - (3 : Int32)))) (lw_V q1806 q1808 qs91 q152 q1809) rfl rfl (by decide +kernel) ⟨Nat.le_of_ble_eq_true rfl, Nat.le_of_ble_eq_true rfl⟩ rfl hl.1 rfl (Nat.le_of_ble_eq_true rfl) ⟨Nat.le_of_ble_eq_true rfl, Nat.le_of_ble_eq_true rfl⟩ dX6_told_112 (fun r112 σ112 H locs eσ112 er112 hE112 h => ?_)
                  clear hE112
                  have hNEW : (0 ≤ (ga σ112 0 (0 : Int32)).toInt ∧ (ga σ112 0 (0 : Int32)).toInt ≤ 6) ∧ (0 ≤ (ga σ112 0 (2 : Int32)).toInt ∧ (ga σ112 0 (2 : Int32)).toInt ≤ 16) ∧ ((ga σ112 0 (0 : Int32)).toInt = (ga σ 0 (0 : Int32)).toInt) ∧ ((ga σ112 0 (2 : Int32)).toInt = (ga σ 0 (2 : Int32)).toInt) := ⟨(by rw [eσ112, gives_s] <;> exact hp), (by rw [eσ112, gives_s] <;> exact hd), (by rw [eσ112, gives_s] <;> exact hpq), (by rw [eσ112, gives_s] <;> exact hdq)⟩
                  obtain ⟨hp, hd, hpq, hdq⟩ := hNEW
                  have he : f_X6_told σ p1 = (σ112, r112) := (by subst eσ112; subst er112; exact ((if_neg c1).trans ((if_pos c7).trans ((if_neg c17_5).trans ((if_neg c17_6).trans ((if_neg c17_7).trans ((if_neg c17_8).trans ((if_neg c17_9).trans ((if_pos c17_10).trans rfl)))))))))
                  exact M_reti C h hr hlocks (congrArg Prod.fst he) (congrArg Prod.snd he) ⟨hpq, hdq⟩ dX6_told_115
                · have i17_10 := c_ne c17_10
                  by_cases c17_11 : p1 = (11 : Int32)
                  · refine lv_tableIn (off := 86) (tgt := 103) hx hb dX6_told_17 (by rw [c17_11]; decide) (by rw [c17_11]; decide) (by rw [c17_11]; rfl) (by decide) ?_
                    have i17_11 := c_eq c17_11
                    refine lv_aload_n hx hb dX6_told_103 rfl (lv_at hl 0 rfl) ?_
                    refine lv_aload_n hx hb dX6_told_104 rfl (lv_at hl 0 rfl) ?_
                    refine Mg_0 C h dX6_told_105 ?_
                    refine lv_iload_n hx hb dX6_told_108 rfl (lv_at hl 1 rfl) ?_
                    refine lv_iconst (v := 3) hx hb dX6_told_109 (by decide) ?_
                    refine lv_isub hx hb dX6_told_110 ?_
                    refine Ml_0 C h (ix_of (i_sub (rfl : p1.toInt = p1.toInt) zl3 (by omega)) (by omega)) dX6_told_111 ?_
                    refine M_calli (As := [.int (ga σ 0 (p1 - (3 : Int32)))]) (rest := []) 1 C h (k_X6_gives l g σ (ga σ 0 (p1 - (3 : Int32)))) (lw_V q1806 q1808 qs91 q152 q1809) rfl rfl (by decide +kernel) ⟨Nat.le_of_ble_eq_true rfl, Nat.le_of_ble_eq_true rfl⟩ rfl hl.1 rfl (Nat.le_of_ble_eq_true rfl) ⟨Nat.le_of_ble_eq_true rfl, Nat.le_of_ble_eq_true rfl⟩ dX6_told_112 (fun r112 σ112 H locs eσ112 er112 hE112 h => ?_)
                    clear hE112
                    have hNEW : (0 ≤ (ga σ112 0 (0 : Int32)).toInt ∧ (ga σ112 0 (0 : Int32)).toInt ≤ 6) ∧ (0 ≤ (ga σ112 0 (2 : Int32)).toInt ∧ (ga σ112 0 (2 : Int32)).toInt ≤ 16) ∧ ((ga σ112 0 (0 : Int32)).toInt = (ga σ 0 (0 : Int32)).toInt) ∧ ((ga σ112 0 (2 : Int32)).toInt = (ga σ 0 (2 : Int32)).toInt) := ⟨(by rw [eσ112, gives_s] <;> exact hp), (by rw [eσ112, gives_s] <;> exact hd), (by rw [eσ112, gives_s] <;> exact hpq), (by rw [eσ112, gives_s] <;> exact hdq)⟩
                    obtain ⟨hp, hd, hpq, hdq⟩ := hNEW
                    have he : f_X6_told σ p1 = (σ112, r112) := (by subst eσ112; subst er112; exact ((if_neg c1).trans ((if_pos c7).trans ((if_neg c17_5).trans ((if_neg c17_6).trans ((if_neg c17_7).trans ((if_neg c17_8).trans ((if_neg c17_9).trans ((if_neg c17_10).trans ((if_pos c17_11).trans rfl))))))))))
                    exact M_reti C h hr hlocks (congrArg Prod.fst he) (congrArg Prod.snd he) ⟨hpq, hdq⟩ dX6_told_115
                  · have i17_11 := c_ne c17_11
                    refine lv_tableOut (tgt := 116) hx hb dX6_told_17 (by have y5 := c_ne c17_5; rw [show (5 : Int32).toInt = 5 from rfl] at y5; have y6 := c_ne c17_6; rw [show (6 : Int32).toInt = 6 from rfl] at y6; have y7 := c_ne c17_7; rw [show (7 : Int32).toInt = 7 from rfl] at y7; have y8 := c_ne c17_8; rw [show (8 : Int32).toInt = 8 from rfl] at y8; have y9 := c_ne c17_9; rw [show (9 : Int32).toInt = 9 from rfl] at y9; have y10 := c_ne c17_10; rw [show (10 : Int32).toInt = 10 from rfl] at y10; have y11 := c_ne c17_11; rw [show (11 : Int32).toInt = 11 from rfl] at y11; omega) (by decide) ?_
                    refine lv_aload_n hx hb dX6_told_116 rfl (lv_at hl 0 rfl) ?_
                    refine lv_aload_n hx hb dX6_told_117 rfl (lv_at hl 0 rfl) ?_
                    refine Mg_0 C h dX6_told_118 ?_
                    refine lv_iload_n hx hb dX6_told_121 rfl (lv_at hl 1 rfl) ?_
                    refine Ml_0 C h (ix_of (rfl : p1.toInt = p1.toInt) (by omega)) dX6_told_122 ?_
                    refine M_calli (As := [.int (ga σ 0 p1)]) (rest := []) 1 C h (k_X6_gives l g σ (ga σ 0 p1)) (lw_V q1806 q1808 qs91 q152 q1809) rfl rfl (by decide +kernel) ⟨Nat.le_of_ble_eq_true rfl, Nat.le_of_ble_eq_true rfl⟩ rfl hl.1 rfl (Nat.le_of_ble_eq_true rfl) ⟨Nat.le_of_ble_eq_true rfl, Nat.le_of_ble_eq_true rfl⟩ dX6_told_123 (fun r123 σ123 H locs eσ123 er123 hE123 h => ?_)
                    clear hE123
                    have hNEW : (0 ≤ (ga σ123 0 (0 : Int32)).toInt ∧ (ga σ123 0 (0 : Int32)).toInt ≤ 6) ∧ (0 ≤ (ga σ123 0 (2 : Int32)).toInt ∧ (ga σ123 0 (2 : Int32)).toInt ≤ 16) ∧ ((ga σ123 0 (0 : Int32)).toInt = (ga σ 0 (0 : Int32)).toInt) ∧ ((ga σ123 0 (2 : Int32)).toInt = (ga σ 0 (2 : Int32)).toInt) := ⟨(by rw [eσ123, gives_s] <;> exact hp), (by rw [eσ123, gives_s] <;> exact hd), (by rw [eσ123, gives_s] <;> exact hpq), (by rw [eσ123, gives_s] <;> exact hdq)⟩
                    obtain ⟨hp, hd, hpq, hdq⟩ := hNEW
                    have he : f_X6_told σ p1 = (σ123, r123) := (by subst eσ123; subst er123; exact ((if_neg c1).trans ((if_pos c7).trans ((if_neg c17_5).trans ((if_neg c17_6).trans ((if_neg c17_7).trans ((if_neg c17_8).trans ((if_neg c17_9).trans ((if_neg c17_10).trans ((if_neg c17_11).trans rfl))))))))))
                    exact M_reti C h hr hlocks (congrArg Prod.fst he) (congrArg Prod.snd he) ⟨hpq, hdq⟩ dX6_told_126
    · have i7 := c_nle c7
      refine lv_aload_n hx hb dX6_told_10 rfl (lv_at hl 0 rfl) ?_
      refine lv_iconst (v := 1) hx hb dX6_told_11 (by decide) ?_
      refine M_calli (As := [.int (1 : Int32)]) (rest := []) 1 C h (k_X6_refuse l g σ (1 : Int32)) (lw_V q1723 q1725 qs71 q152 q1726) rfl rfl (by decide +kernel) ⟨Nat.le_of_ble_eq_true rfl, Nat.le_of_ble_eq_true rfl⟩ rfl hl.1 rfl (Nat.le_of_ble_eq_true rfl) ⟨Nat.le_of_ble_eq_true rfl, Nat.le_of_ble_eq_true rfl⟩ dX6_told_12 (fun r12 σ12 H locs eσ12 er12 hE12 h => ?_)
      clear hE12
      have hNEW : (0 ≤ (ga σ12 0 (0 : Int32)).toInt ∧ (ga σ12 0 (0 : Int32)).toInt ≤ 6) ∧ (0 ≤ (ga σ12 0 (2 : Int32)).toInt ∧ (ga σ12 0 (2 : Int32)).toInt ≤ 16) ∧ ((ga σ12 0 (0 : Int32)).toInt = (ga σ 0 (0 : Int32)).toInt) ∧ ((ga σ12 0 (2 : Int32)).toInt = (ga σ 0 (2 : Int32)).toInt) := ⟨(by rw [eσ12, refuse_s] <;> exact hp), (by rw [eσ12, refuse_s] <;> exact hd), (by rw [eσ12, refuse_s] <;> exact hpq), (by rw [eσ12, refuse_s] <;> exact hdq)⟩
      obtain ⟨hp, hd, hpq, hdq⟩ := hNEW
      have he : f_X6_told σ p1 = (σ12, r12) := (by subst eσ12; subst er12; exact ((if_neg c1).trans ((if_neg c7).trans rfl)))
      exact M_reti C h hr hlocks (congrArg Prod.fst he) (congrArg Prod.snd he) ⟨hpq, hdq⟩ dX6_told_15
def f_X6_isPerson (σ : MS) (p1 : Int32) : Int32 := if p1 < (0 : Int32) then ((0 : Int32)) else (if (ga σ 0 (0 : Int32)) ≤ p1 then ((0 : Int32)) else ((1 : Int32)))
set_option maxHeartbeats 4000000 in
set_option maxRecDepth 100000 in
theorem k_X6_isPerson (l : Launch) (g : GE) (σ : MS) (p1 : Int32) : Met l yX6_isPerson (ws_ yX6_isPerson cX6_isPerson 2 (some .boolean)) ({ frames := 0, cells := 0, slots := 0, locals := 0 } : Room) (mPc g σ [.int p1]) (mQz g σ (f_X6_isPerson σ p1) (fun u r => True)) 0 0 (mA g) := by
  refine met_M (by decide) rfl (Nat.le_of_ble_eq_true rfl) ?_
  intro p e s m args below meth c C hr hlocks h ls hl
  have hx := C.1.1
  have hb := C.1.2.1
  have hml := C.1.2.2.1
  have hown := C.1.2.2.2.1
  have hts := C.1.2.2.2.2
  have hl : lv_has ls 2 [(0, .ref (g.2.1 99)), (1, .int p1)] := hl
  have zl0 : (0 : Int32).toInt = 0 := rfl
  have zl1 : (1 : Int32).toInt = 1 := rfl
  refine lv_iload_n hx hb dX6_isPerson_0 rfl (lv_at hl 1 rfl) ?_
  refine lv_if_lt (tgt := 18) hx hb dX6_isPerson_1 (by decide) (fun c1 => ?_) (fun c1 => ?_)
  · have i1 := c_lt c1
    refine lv_iconst (v := 0) hx hb dX6_isPerson_18 (by decide) ?_
    have he : f_X6_isPerson σ p1 = (0 : Int32) := (by exact ((if_pos c1).trans rfl))
    exact M_retz C h hr hlocks rfl he (Or.inl rfl) trivial dX6_isPerson_19
  · have i1 := c_nlt c1
    refine lv_iload_n hx hb dX6_isPerson_4 rfl (lv_at hl 1 rfl) ?_
    refine lv_aload_n hx hb dX6_isPerson_5 rfl (lv_at hl 0 rfl) ?_
    refine Mg_0 C h dX6_isPerson_6 ?_
    refine lv_iconst (v := 0) hx hb dX6_isPerson_9 (by decide) ?_
    refine Ml_0 C h (ix_of zl0 (by omega)) dX6_isPerson_10 ?_
    refine lv_icmp_ge (tgt := 18) hx hb dX6_isPerson_11 (by decide) (fun c11 => ?_) (fun c11 => ?_)
    · have i11 := c_le c11
      refine lv_iconst (v := 0) hx hb dX6_isPerson_18 (by decide) ?_
      have he : f_X6_isPerson σ p1 = (0 : Int32) := (by exact ((if_neg c1).trans ((if_pos c11).trans rfl)))
      exact M_retz C h hr hlocks rfl he (Or.inl rfl) trivial dX6_isPerson_19
    · have i11 := c_nle c11
      refine lv_iconst (v := 1) hx hb dX6_isPerson_14 (by decide) ?_
      refine lv_goto (tgt := 19) hx hb dX6_isPerson_15 (by decide) ?_
      have he : f_X6_isPerson σ p1 = (1 : Int32) := (by exact ((if_neg c1).trans ((if_neg c11).trans rfl)))
      exact M_retz C h hr hlocks rfl he (Or.inr rfl) trivial dX6_isPerson_19
theorem isPerson_ok {σ : MS} {p r : Int32} (h : r = f_X6_isPerson σ p) (hr : ¬ r = 0) : 0 ≤ p.toInt ∧ p.toInt < (ga σ 0 (0 : Int32)).toInt := by
  unfold f_X6_isPerson at h
  have z0 : (0 : Int32).toInt = 0 := rfl
  split at h
  · exact absurd h hr
  · rename_i h1
    split at h
    · exact absurd h hr
    · rename_i h2
      have a := c_nlt h1
      have b := c_nle h2
      omega
def f_X6_person (σ : MS) (p1 : Int32) (p2 : Int32) : MS × Int32 := (let r2 := (f_X6_isPerson σ p1); if r2 = (0 : Int32) then ((let z19 := (f_X6_refuse σ (1 : Int32)); let σ19 := z19.1; let r19 := z19.2; (σ19, r19))) else (if p2 < (0 : Int32) then ((let z19 := (f_X6_refuse σ (1 : Int32)); let σ19 := z19.1; let r19 := z19.2; (σ19, r19))) else (if p2 ≤ (5 : Int32) then ((let r28 := (f_X6_personRow p1); let v34 := (ga σ 0 (r28 + p2)); if p2 = (4 : Int32) then ((let z42 := (f_X6_orNone σ v34); let σ42 := z42.1; let r42 := z42.2; (σ42, r42))) else ((let z50 := (f_X6_gives σ v34); let σ50 := z50.1; let r50 := z50.2; (σ50, r50))))) else ((let z19 := (f_X6_refuse σ (1 : Int32)); let σ19 := z19.1; let r19 := z19.2; (σ19, r19))))))
set_option maxHeartbeats 4000000 in
set_option maxRecDepth 100000 in
theorem k_X6_person (l : Launch) (g : GE) (σ : MS) (p1 : Int32) (p2 : Int32) (hp : 0 ≤ (ga σ 0 (0 : Int32)).toInt ∧ (ga σ 0 (0 : Int32)).toInt ≤ 6) : Met l yX6_person (ws_ yX6_person cX6_person 4 (some .int)) ({ frames := 2, cells := 0, slots := 0, locals := 42 } : Room) (mPc g σ [.int p1, .int p2]) (mQi g (f_X6_person σ p1 p2).1 (f_X6_person σ p1 p2).2 (fun u r => ((ga u 0 (0 : Int32)).toInt = (ga σ 0 (0 : Int32)).toInt))) 0 0 (mA g) := by
  refine met_M (by decide) rfl (Nat.le_of_ble_eq_true rfl) ?_
  intro p e s m args below meth c C hr hlocks h ls hl
  have hx := C.1.1
  have hb := C.1.2.1
  have hml := C.1.2.2.1
  have hown := C.1.2.2.2.1
  have hts := C.1.2.2.2.2
  have hl : lv_has ls 4 [(0, .ref (g.2.1 99)), (1, .int p1), (2, .int p2)] := hl
  have hpq : (ga σ 0 (0 : Int32)).toInt = (ga σ 0 (0 : Int32)).toInt := rfl
  have zl0 : (0 : Int32).toInt = 0 := rfl
  have zl1 : (1 : Int32).toInt = 1 := rfl
  have zl4 : (4 : Int32).toInt = 4 := rfl
  have zl5 : (5 : Int32).toInt = 5 := rfl
  have zl8 : (8 : Int32).toInt = 8 := rfl
  have zl12 : (12 : Int32).toInt = 12 := rfl
  refine lv_aload_n hx hb dX6_person_0 rfl (lv_at hl 0 rfl) ?_
  refine lv_iload_n hx hb dX6_person_1 rfl (lv_at hl 1 rfl) ?_
  refine M_callz (As := [.int p1]) (rest := []) 1 C h (k_X6_isPerson l g σ p1) (lw_V q1864 q1866 qs101 q152 q1867) rfl rfl (by decide +kernel) ⟨Nat.le_of_ble_eq_true rfl, Nat.le_of_ble_eq_true rfl⟩ rfl hl.1 rfl (Nat.le_of_ble_eq_true rfl) ⟨Nat.le_of_ble_eq_true rfl, Nat.le_of_ble_eq_true rfl⟩ dX6_person_2 (fun r2 σ2 H locs eσ2 er2 br2 hE2 h => ?_)
  rw [eσ2] at h
  clear hE2
  clear eσ2
  refine lv_if_eq (tgt := 17) hx hb dX6_person_5 (by decide) (fun c5 => ?_) (fun c5 => ?_)
  · have i5 := c_eq c5
    refine lv_aload_n hx hb dX6_person_17 rfl (lv_at hl 0 rfl) ?_
    refine lv_iconst (v := 1) hx hb dX6_person_18 (by decide) ?_
    refine M_calli (As := [.int (1 : Int32)]) (rest := []) 1 C h (k_X6_refuse l g σ (1 : Int32)) (lw_V q1723 q1725 qs71 q152 q1726) rfl rfl (by decide +kernel) ⟨Nat.le_of_ble_eq_true rfl, Nat.le_of_ble_eq_true rfl⟩ rfl hl.1 rfl (Nat.le_of_ble_eq_true rfl) ⟨Nat.le_of_ble_eq_true rfl, Nat.le_of_ble_eq_true rfl⟩ dX6_person_19 (fun r19 σ19 H locs eσ19 er19 hE19 h => ?_)
    clear hE19
    have hNEW : (0 ≤ (ga σ19 0 (0 : Int32)).toInt ∧ (ga σ19 0 (0 : Int32)).toInt ≤ 6) ∧ ((ga σ19 0 (0 : Int32)).toInt = (ga σ 0 (0 : Int32)).toInt) := ⟨(by rw [eσ19, refuse_s] <;> exact hp), (by rw [eσ19, refuse_s] <;> exact hpq)⟩
    obtain ⟨hp, hpq⟩ := hNEW
    have he : f_X6_person σ p1 p2 = (σ19, r19) := (by subst er2; subst eσ19; subst er19; exact ((if_pos c5).trans rfl))
    exact M_reti C h hr hlocks (congrArg Prod.fst he) (congrArg Prod.snd he) hpq dX6_person_22
  · have i5 := c_ne c5
    have okr2 := isPerson_ok er2 c5
    refine lv_iload_n hx hb dX6_person_8 rfl (lv_at hl 2 rfl) ?_
    refine lv_if_lt (tgt := 17) hx hb dX6_person_9 (by decide) (fun c9 => ?_) (fun c9 => ?_)
    · have i9 := c_lt c9
      refine lv_aload_n hx hb dX6_person_17 rfl (lv_at hl 0 rfl) ?_
      refine lv_iconst (v := 1) hx hb dX6_person_18 (by decide) ?_
      refine M_calli (As := [.int (1 : Int32)]) (rest := []) 1 C h (k_X6_refuse l g σ (1 : Int32)) (lw_V q1723 q1725 qs71 q152 q1726) rfl rfl (by decide +kernel) ⟨Nat.le_of_ble_eq_true rfl, Nat.le_of_ble_eq_true rfl⟩ rfl hl.1 rfl (Nat.le_of_ble_eq_true rfl) ⟨Nat.le_of_ble_eq_true rfl, Nat.le_of_ble_eq_true rfl⟩ dX6_person_19 (fun r19 σ19 H locs eσ19 er19 hE19 h => ?_)
      clear hE19
      have hNEW : (0 ≤ (ga σ19 0 (0 : Int32)).toInt ∧ (ga σ19 0 (0 : Int32)).toInt ≤ 6) ∧ ((ga σ19 0 (0 : Int32)).toInt = (ga σ 0 (0 : Int32)).toInt) := ⟨(by rw [eσ19, refuse_s] <;> exact hp), (by rw [eσ19, refuse_s] <;> exact hpq)⟩
      obtain ⟨hp, hpq⟩ := hNEW
      have he : f_X6_person σ p1 p2 = (σ19, r19) := (by subst er2; subst eσ19; subst er19; exact ((if_neg c5).trans ((if_pos c9).trans rfl)))
      exact M_reti C h hr hlocks (congrArg Prod.fst he) (congrArg Prod.snd he) hpq dX6_person_22
    · have i9 := c_nlt c9
      refine lv_iload_n hx hb dX6_person_12 rfl (lv_at hl 2 rfl) ?_
      refine lv_iconst (v := 5) hx hb dX6_person_13 (by decide) ?_
      refine lv_icmp_le (tgt := 23) hx hb dX6_person_14 (by decide) (fun c14 => ?_) (fun c14 => ?_)
      · have i14 := c_le c14
        refine lv_aload_n hx hb dX6_person_23 rfl (lv_at hl 0 rfl) ?_
        refine Mg_0 C h dX6_person_24 ?_
        refine lv_iload_n hx hb dX6_person_27 rfl (lv_at hl 1 rfl) ?_
        refine s_calli (As := [.int p1]) (rest := [.ref (g.2.1 0)]) 1 C.1 (k_X6_personRow l p1) (lw_S q1857 q1858 q152 q1859) rfl rfl (by decide +kernel) ⟨Nat.le_of_ble_eq_true rfl, Nat.le_of_ble_eq_true rfl⟩ rfl hl.1 rfl (Nat.le_of_ble_eq_true rfl) ⟨Nat.le_of_ble_eq_true rfl, Nat.le_of_ble_eq_true rfl⟩ dX6_person_28 h.2.2 (fun r28 H locs er28 hz1 hk1 hS1 => ?_)
        have h := h.same hk1 hS1
        clear hz1 hk1 hS1
        have tr28 : r28.toInt = ((12) + ((8) * p1.toInt)) := by rw [er28]; exact (i_add zl12 (i_mul zl8 (rfl : p1.toInt = p1.toInt) (by omega)) (by omega))
        refine lv_iload_n hx hb dX6_person_31 rfl (lv_at hl 2 rfl) ?_
        refine lv_iadd hx hb dX6_person_32 ?_
        refine Ml_0 C h (ix_of (i_add tr28 (rfl : p2.toInt = p2.toInt) (by omega)) (by omega)) dX6_person_33 ?_
        refine lv_topi (fun v34 ev34 => ?_)
        refine lv_istore_n (lv' := [(3, .int v34), (0, .ref (g.2.1 99)), (1, .int p1), (2, .int p2)]) hx hb dX6_person_34 rfl hl (by decide) rfl (fun ls hl => ?_)
        refine lv_iload_n hx hb dX6_person_35 rfl (lv_at hl 3 rfl) ?_
        refine lv_iconst (v := 4) hx hb dX6_person_36 (by decide) ?_
        refine lv_icmp_ne (tgt := 48) hx hb dX6_person_37 (by decide) (fun c37 => ?_) (fun c37 => ?_)
        · have i37 := c_ne c37
          refine lv_aload_n hx hb dX6_person_48 rfl (lv_at hl 1 rfl) ?_
          refine lv_iload_n hx hb dX6_person_49 rfl (lv_at hl 0 rfl) ?_
          refine M_calli (As := [.int v34]) (rest := []) 1 C h (k_X6_gives l g σ v34) (lw_V q1806 q1808 qs91 q152 q1809) rfl rfl (by decide +kernel) ⟨Nat.le_of_ble_eq_true rfl, Nat.le_of_ble_eq_true rfl⟩ rfl hl.1 rfl (Nat.le_of_ble_eq_true rfl) ⟨Nat.le_of_ble_eq_true rfl, Nat.le_of_ble_eq_true rfl⟩ dX6_person_50 (fun r50 σ50 H locs eσ50 er50 hE50 h => ?_)
          clear hE50
          have hNEW : (0 ≤ (ga σ50 0 (0 : Int32)).toInt ∧ (ga σ50 0 (0 : Int32)).toInt ≤ 6) ∧ ((ga σ50 0 (0 : Int32)).toInt = (ga σ 0 (0 : Int32)).toInt) := ⟨(by rw [eσ50, gives_s] <;> exact hp), (by rw [eσ50, gives_s] <;> exact hpq)⟩
          obtain ⟨hp, hpq⟩ := hNEW
          have he : f_X6_person σ p1 p2 = (σ50, r50) := (by subst er2; subst er28; subst ev34; subst eσ50; subst er50; exact ((if_neg c5).trans ((if_neg c9).trans ((if_pos c14).trans ((if_neg c37).trans rfl)))))
          exact M_reti C h hr hlocks (congrArg Prod.fst he) (congrArg Prod.snd he) hpq dX6_person_53
        · have i37 := c_eq c37
          refine lv_aload_n hx hb dX6_person_40 rfl (lv_at hl 1 rfl) ?_
          refine lv_iload_n hx hb dX6_person_41 rfl (lv_at hl 0 rfl) ?_
          refine M_calli (As := [.int v34]) (rest := []) 1 C h (k_X6_orNone l g σ v34) (lw_V q1868 q1870 qs102 q152 q1871) rfl rfl (by decide +kernel) ⟨Nat.le_of_ble_eq_true rfl, Nat.le_of_ble_eq_true rfl⟩ rfl hl.1 rfl (Nat.le_of_ble_eq_true rfl) ⟨Nat.le_of_ble_eq_true rfl, Nat.le_of_ble_eq_true rfl⟩ dX6_person_42 (fun r42 σ42 H locs eσ42 er42 hE42 h => ?_)
          clear hE42
          have hNEW : (0 ≤ (ga σ42 0 (0 : Int32)).toInt ∧ (ga σ42 0 (0 : Int32)).toInt ≤ 6) ∧ ((ga σ42 0 (0 : Int32)).toInt = (ga σ 0 (0 : Int32)).toInt) := ⟨(by rw [eσ42, orNone_s] <;> exact hp), (by rw [eσ42, orNone_s] <;> exact hpq)⟩
          obtain ⟨hp, hpq⟩ := hNEW
          refine lv_goto (tgt := 53) hx hb dX6_person_45 (by decide) ?_
          have he : f_X6_person σ p1 p2 = (σ42, r42) := (by subst er2; subst er28; subst ev34; subst eσ42; subst er42; exact ((if_neg c5).trans ((if_neg c9).trans ((if_pos c14).trans ((if_pos c37).trans rfl)))))
          exact M_reti C h hr hlocks (congrArg Prod.fst he) (congrArg Prod.snd he) hpq dX6_person_53
      · have i14 := c_nle c14
        refine lv_aload_n hx hb dX6_person_17 rfl (lv_at hl 0 rfl) ?_
        refine lv_iconst (v := 1) hx hb dX6_person_18 (by decide) ?_
        refine M_calli (As := [.int (1 : Int32)]) (rest := []) 1 C h (k_X6_refuse l g σ (1 : Int32)) (lw_V q1723 q1725 qs71 q152 q1726) rfl rfl (by decide +kernel) ⟨Nat.le_of_ble_eq_true rfl, Nat.le_of_ble_eq_true rfl⟩ rfl hl.1 rfl (Nat.le_of_ble_eq_true rfl) ⟨Nat.le_of_ble_eq_true rfl, Nat.le_of_ble_eq_true rfl⟩ dX6_person_19 (fun r19 σ19 H locs eσ19 er19 hE19 h => ?_)
        clear hE19
        have hNEW : (0 ≤ (ga σ19 0 (0 : Int32)).toInt ∧ (ga σ19 0 (0 : Int32)).toInt ≤ 6) ∧ ((ga σ19 0 (0 : Int32)).toInt = (ga σ 0 (0 : Int32)).toInt) := ⟨(by rw [eσ19, refuse_s] <;> exact hp), (by rw [eσ19, refuse_s] <;> exact hpq)⟩
        obtain ⟨hp, hpq⟩ := hNEW
        have he : f_X6_person σ p1 p2 = (σ19, r19) := (by subst er2; subst eσ19; subst er19; exact ((if_neg c5).trans ((if_neg c9).trans ((if_neg c14).trans rfl))))
        exact M_reti C h hr hlocks (congrArg Prod.fst he) (congrArg Prod.snd he) hpq dX6_person_22
def f_X6_dish (σ : MS) (p1 : Int32) (p2 : Int32) : MS × Int32 := if p1 < (0 : Int32) then ((let z25 := (f_X6_refuse σ (1 : Int32)); let σ25 := z25.1; let r25 := z25.2; (σ25, r25))) else (if (ga σ 0 (2 : Int32)) ≤ p1 then ((let z25 := (f_X6_refuse σ (1 : Int32)); let σ25 := z25.1; let r25 := z25.2; (σ25, r25))) else (if p2 < (0 : Int32) then ((let z25 := (f_X6_refuse σ (1 : Int32)); let σ25 := z25.1; let r25 := z25.2; (σ25, r25))) else (if p2 ≤ (1 : Int32) then ((let z43 := (f_X6_orNone σ (ga σ 0 (((60 : Int32) + ((2 : Int32) * p1)) + p2))); let σ43 := z43.1; let r43 := z43.2; (σ43, r43))) else ((let z25 := (f_X6_refuse σ (1 : Int32)); let σ25 := z25.1; let r25 := z25.2; (σ25, r25))))))
set_option maxHeartbeats 4000000 in
set_option maxRecDepth 100000 in
theorem k_X6_dish (l : Launch) (g : GE) (σ : MS) (p1 : Int32) (p2 : Int32) (hp : 0 ≤ (ga σ 0 (0 : Int32)).toInt ∧ (ga σ 0 (0 : Int32)).toInt ≤ 6) (hd : 0 ≤ (ga σ 0 (2 : Int32)).toInt ∧ (ga σ 0 (2 : Int32)).toInt ≤ 16) : Met l yX6_dish (ws_ yX6_dish cX6_dish 3 (some .int)) ({ frames := 2, cells := 0, slots := 0, locals := 42 } : Room) (mPc g σ [.int p1, .int p2]) (mQi g (f_X6_dish σ p1 p2).1 (f_X6_dish σ p1 p2).2 (fun u r => ((ga u 0 (0 : Int32)).toInt = (ga σ 0 (0 : Int32)).toInt) ∧ ((ga u 0 (2 : Int32)).toInt = (ga σ 0 (2 : Int32)).toInt))) 0 0 (mA g) := by
  refine met_M (by decide) rfl (Nat.le_of_ble_eq_true rfl) ?_
  intro p e s m args below meth c C hr hlocks h ls hl
  have hx := C.1.1
  have hb := C.1.2.1
  have hml := C.1.2.2.1
  have hown := C.1.2.2.2.1
  have hts := C.1.2.2.2.2
  have hl : lv_has ls 3 [(0, .ref (g.2.1 99)), (1, .int p1), (2, .int p2)] := hl
  have hpq : (ga σ 0 (0 : Int32)).toInt = (ga σ 0 (0 : Int32)).toInt := rfl
  have hdq : (ga σ 0 (2 : Int32)).toInt = (ga σ 0 (2 : Int32)).toInt := rfl
  have zl0 : (0 : Int32).toInt = 0 := rfl
  have zl1 : (1 : Int32).toInt = 1 := rfl
  have zl2 : (2 : Int32).toInt = 2 := rfl
  have zl60 : (60 : Int32).toInt = 60 := rfl
  refine lv_iload_n hx hb dX6_dish_0 rfl (lv_at hl 1 rfl) ?_
  refine lv_if_lt (tgt := 23) hx hb dX6_dish_1 (by decide) (fun c1 => ?_) (fun c1 => ?_)
  · have i1 := c_lt c1
    refine lv_aload_n hx hb dX6_dish_23 rfl (lv_at hl 0 rfl) ?_
    refine lv_iconst (v := 1) hx hb dX6_dish_24 (by decide) ?_
    refine M_calli (As := [.int (1 : Int32)]) (rest := []) 1 C h (k_X6_refuse l g σ (1 : Int32)) (lw_V q1723 q1725 qs71 q152 q1726) rfl rfl (by decide +kernel) ⟨Nat.le_of_ble_eq_true rfl, Nat.le_of_ble_eq_true rfl⟩ rfl hl.1 rfl (Nat.le_of_ble_eq_true rfl) ⟨Nat.le_of_ble_eq_true rfl, Nat.le_of_ble_eq_true rfl⟩ dX6_dish_25 (fun r25 σ25 H locs eσ25 er25 hE25 h => ?_)
    clear hE25
    have hNEW : (0 ≤ (ga σ25 0 (0 : Int32)).toInt ∧ (ga σ25 0 (0 : Int32)).toInt ≤ 6) ∧ (0 ≤ (ga σ25 0 (2 : Int32)).toInt ∧ (ga σ25 0 (2 : Int32)).toInt ≤ 16) ∧ ((ga σ25 0 (0 : Int32)).toInt = (ga σ 0 (0 : Int32)).toInt) ∧ ((ga σ25 0 (2 : Int32)).toInt = (ga σ 0 (2 : Int32)).toInt) := ⟨(by rw [eσ25, refuse_s] <;> exact hp), (by rw [eσ25, refuse_s] <;> exact hd), (by rw [eσ25, refuse_s] <;> exact hpq), (by rw [eσ25, refuse_s] <;> exact hdq)⟩
    obtain ⟨hp, hd, hpq, hdq⟩ := hNEW
    have he : f_X6_dish σ p1 p2 = (σ25, r25) := (by subst eσ25; subst er25; exact ((if_pos c1).trans rfl))
    exact M_reti C h hr hlocks (congrArg Prod.fst he) (congrArg Prod.snd he) ⟨hpq, hdq⟩ dX6_dish_28
  · have i1 := c_nlt c1
    refine lv_iload_n hx hb dX6_dish_4 rfl (lv_at hl 1 rfl) ?_
    refine lv_aload_n hx hb dX6_dish_5 rfl (lv_at hl 0 rfl) ?_
    refine Mg_0 C h dX6_dish_6 ?_
    refine lv_iconst (v := 2) hx hb dX6_dish_9 (by decide) ?_
    refine Ml_0 C h (ix_of zl2 (by omega)) dX6_dish_10 ?_
    refine lv_icmp_ge (tgt := 23) hx hb dX6_dish_11 (by decide) (fun c11 => ?_) (fun c11 => ?_)
    · have i11 := c_le c11
      refine lv_aload_n hx hb dX6_dish_23 rfl (lv_at hl 0 rfl) ?_
      refine lv_iconst (v := 1) hx hb dX6_dish_24 (by decide) ?_
      refine M_calli (As := [.int (1 : Int32)]) (rest := []) 1 C h (k_X6_refuse l g σ (1 : Int32)) (lw_V q1723 q1725 qs71 q152 q1726) rfl rfl (by decide +kernel) ⟨Nat.le_of_ble_eq_true rfl, Nat.le_of_ble_eq_true rfl⟩ rfl hl.1 rfl (Nat.le_of_ble_eq_true rfl) ⟨Nat.le_of_ble_eq_true rfl, Nat.le_of_ble_eq_true rfl⟩ dX6_dish_25 (fun r25 σ25 H locs eσ25 er25 hE25 h => ?_)
      clear hE25
      have hNEW : (0 ≤ (ga σ25 0 (0 : Int32)).toInt ∧ (ga σ25 0 (0 : Int32)).toInt ≤ 6) ∧ (0 ≤ (ga σ25 0 (2 : Int32)).toInt ∧ (ga σ25 0 (2 : Int32)).toInt ≤ 16) ∧ ((ga σ25 0 (0 : Int32)).toInt = (ga σ 0 (0 : Int32)).toInt) ∧ ((ga σ25 0 (2 : Int32)).toInt = (ga σ 0 (2 : Int32)).toInt) := ⟨(by rw [eσ25, refuse_s] <;> exact hp), (by rw [eσ25, refuse_s] <;> exact hd), (by rw [eσ25, refuse_s] <;> exact hpq), (by rw [eσ25, refuse_s] <;> exact hdq)⟩
      obtain ⟨hp, hd, hpq, hdq⟩ := hNEW
      have he : f_X6_dish σ p1 p2 = (σ25, r25) := (by subst eσ25; subst er25; exact ((if_neg c1).trans ((if_pos c11).trans rfl)))
      exact M_reti C h hr hlocks (congrArg Prod.fst he) (congrArg Prod.snd he) ⟨hpq, hdq⟩ dX6_dish_28
    · have i11 := c_nle c11
      refine lv_iload_n hx hb dX6_dish_14 rfl (lv_at hl 2 rfl) ?_
      refine lv_if_lt (tgt := 23) hx hb dX6_dish_15 (by decide) (fun c15 => ?_) (fun c15 => ?_)
      · have i15 := c_lt c15
        refine lv_aload_n hx hb dX6_dish_23 rfl (lv_at hl 0 rfl) ?_
        refine lv_iconst (v := 1) hx hb dX6_dish_24 (by decide) ?_
        refine M_calli (As := [.int (1 : Int32)]) (rest := []) 1 C h (k_X6_refuse l g σ (1 : Int32)) (lw_V q1723 q1725 qs71 q152 q1726) rfl rfl (by decide +kernel) ⟨Nat.le_of_ble_eq_true rfl, Nat.le_of_ble_eq_true rfl⟩ rfl hl.1 rfl (Nat.le_of_ble_eq_true rfl) ⟨Nat.le_of_ble_eq_true rfl, Nat.le_of_ble_eq_true rfl⟩ dX6_dish_25 (fun r25 σ25 H locs eσ25 er25 hE25 h => ?_)
        clear hE25
        have hNEW : (0 ≤ (ga σ25 0 (0 : Int32)).toInt ∧ (ga σ25 0 (0 : Int32)).toInt ≤ 6) ∧ (0 ≤ (ga σ25 0 (2 : Int32)).toInt ∧ (ga σ25 0 (2 : Int32)).toInt ≤ 16) ∧ ((ga σ25 0 (0 : Int32)).toInt = (ga σ 0 (0 : Int32)).toInt) ∧ ((ga σ25 0 (2 : Int32)).toInt = (ga σ 0 (2 : Int32)).toInt) := ⟨(by rw [eσ25, refuse_s] <;> exact hp), (by rw [eσ25, refuse_s] <;> exact hd), (by rw [eσ25, refuse_s] <;> exact hpq), (by rw [eσ25, refuse_s] <;> exact hdq)⟩
        obtain ⟨hp, hd, hpq, hdq⟩ := hNEW
        have he : f_X6_dish σ p1 p2 = (σ25, r25) := (by subst eσ25; subst er25; exact ((if_neg c1).trans ((if_neg c11).trans ((if_pos c15).trans rfl))))
        exact M_reti C h hr hlocks (congrArg Prod.fst he) (congrArg Prod.snd he) ⟨hpq, hdq⟩ dX6_dish_28
      · have i15 := c_nlt c15
        refine lv_iload_n hx hb dX6_dish_18 rfl (lv_at hl 2 rfl) ?_
        refine lv_iconst (v := 1) hx hb dX6_dish_19 (by decide) ?_
        refine lv_icmp_le (tgt := 29) hx hb dX6_dish_20 (by decide) (fun c20 => ?_) (fun c20 => ?_)
        · have i20 := c_le c20
          refine lv_aload_n hx hb dX6_dish_29 rfl (lv_at hl 0 rfl) ?_
          refine lv_aload_n hx hb dX6_dish_30 rfl (lv_at hl 0 rfl) ?_
          refine Mg_0 C h dX6_dish_31 ?_
          refine lv_bipush (v := 60) hx hb dX6_dish_34 (by decide) ?_
          refine lv_iconst (v := 2) hx hb dX6_dish_36 (by decide) ?_
          refine lv_iload_n hx hb dX6_dish_37 rfl (lv_at hl 1 rfl) ?_
          refine lv_imul hx hb dX6_dish_38 ?_
          refine lv_iadd hx hb dX6_dish_39 ?_
          refine lv_iload_n hx hb dX6_dish_40 rfl (lv_at hl 2 rfl) ?_
          refine lv_iadd hx hb dX6_dish_41 ?_
          refine Ml_0 C h (ix_of (i_add (i_add zl60 (i_mul zl2 (rfl : p1.toInt = p1.toInt) (by omega)) (by omega)) (rfl : p2.toInt = p2.toInt) (by omega)) (by omega)) dX6_dish_42 ?_
          refine M_calli (As := [.int (ga σ 0 (((60 : Int32) + ((2 : Int32) * p1)) + p2))]) (rest := []) 1 C h (k_X6_orNone l g σ (ga σ 0 (((60 : Int32) + ((2 : Int32) * p1)) + p2))) (lw_V q1868 q1870 qs102 q152 q1871) rfl rfl (by decide +kernel) ⟨Nat.le_of_ble_eq_true rfl, Nat.le_of_ble_eq_true rfl⟩ rfl hl.1 rfl (Nat.le_of_ble_eq_true rfl) ⟨Nat.le_of_ble_eq_true rfl, Nat.le_of_ble_eq_true rfl⟩ dX6_dish_43 (fun r43 σ43 H locs eσ43 er43 hE43 h => ?_)
          clear hE43
          have hNEW : (0 ≤ (ga σ43 0 (0 : Int32)).toInt ∧ (ga σ43 0 (0 : Int32)).toInt ≤ 6) ∧ (0 ≤ (ga σ43 0 (2 : Int32)).toInt ∧ (ga σ43 0 (2 : Int32)).toInt ≤ 16) ∧ ((ga σ43 0 (0 : Int32)).toInt = (ga σ 0 (0 : Int32)).toInt) ∧ ((ga σ43 0 (2 : Int32)).toInt = (ga σ 0 (2 : Int32)).toInt) := ⟨(by rw [eσ43, orNone_s] <;> exact hp), (by rw [eσ43, orNone_s] <;> exact hd), (by rw [eσ43, orNone_s] <;> exact hpq), (by rw [eσ43, orNone_s] <;> exact hdq)⟩
          obtain ⟨hp, hd, hpq, hdq⟩ := hNEW
          have he : f_X6_dish σ p1 p2 = (σ43, r43) := (by subst eσ43; subst er43; exact ((if_neg c1).trans ((if_neg c11).trans ((if_neg c15).trans ((if_pos c20).trans rfl)))))
          exact M_reti C h hr hlocks (congrArg Prod.fst he) (congrArg Prod.snd he) ⟨hpq, hdq⟩ dX6_dish_46
        · have i20 := c_nle c20
          refine lv_aload_n hx hb dX6_dish_23 rfl (lv_at hl 0 rfl) ?_
          refine lv_iconst (v := 1) hx hb dX6_dish_24 (by decide) ?_
          refine M_calli (As := [.int (1 : Int32)]) (rest := []) 1 C h (k_X6_refuse l g σ (1 : Int32)) (lw_V q1723 q1725 qs71 q152 q1726) rfl rfl (by decide +kernel) ⟨Nat.le_of_ble_eq_true rfl, Nat.le_of_ble_eq_true rfl⟩ rfl hl.1 rfl (Nat.le_of_ble_eq_true rfl) ⟨Nat.le_of_ble_eq_true rfl, Nat.le_of_ble_eq_true rfl⟩ dX6_dish_25 (fun r25 σ25 H locs eσ25 er25 hE25 h => ?_)
          clear hE25
          have hNEW : (0 ≤ (ga σ25 0 (0 : Int32)).toInt ∧ (ga σ25 0 (0 : Int32)).toInt ≤ 6) ∧ (0 ≤ (ga σ25 0 (2 : Int32)).toInt ∧ (ga σ25 0 (2 : Int32)).toInt ≤ 16) ∧ ((ga σ25 0 (0 : Int32)).toInt = (ga σ 0 (0 : Int32)).toInt) ∧ ((ga σ25 0 (2 : Int32)).toInt = (ga σ 0 (2 : Int32)).toInt) := ⟨(by rw [eσ25, refuse_s] <;> exact hp), (by rw [eσ25, refuse_s] <;> exact hd), (by rw [eσ25, refuse_s] <;> exact hpq), (by rw [eσ25, refuse_s] <;> exact hdq)⟩
          obtain ⟨hp, hd, hpq, hdq⟩ := hNEW
          have he : f_X6_dish σ p1 p2 = (σ25, r25) := (by subst eσ25; subst er25; exact ((if_neg c1).trans ((if_neg c11).trans ((if_neg c15).trans ((if_neg c20).trans rfl)))))
          exact M_reti C h hr hlocks (congrArg Prod.fst he) (congrArg Prod.snd he) ⟨hpq, hdq⟩ dX6_dish_28
def f_X6_eaten (σ : MS) (p1 : Int32) : MS × Int32 := (let r2 := (f_X6_isPerson σ p1); if r2 = (0 : Int32) then ((let z22 := (f_X6_refuse σ (1 : Int32)); let σ22 := z22.1; let r22 := z22.2; (σ22, r22))) else ((let r11 := (f_X6_eatenBy σ p1); let z14 := (f_X6_gives σ r11); let σ14 := z14.1; let r14 := z14.2; (σ14, r14))))
set_option maxHeartbeats 4000000 in
set_option maxRecDepth 100000 in
theorem k_X6_eaten (l : Launch) (g : GE) (σ : MS) (p1 : Int32) (hp : 0 ≤ (ga σ 0 (0 : Int32)).toInt ∧ (ga σ 0 (0 : Int32)).toInt ≤ 6) (hd : 0 ≤ (ga σ 0 (2 : Int32)).toInt ∧ (ga σ 0 (2 : Int32)).toInt ≤ 16) : Met l yX6_eaten (ws_ yX6_eaten cX6_eaten 2 (some .int)) ({ frames := 3, cells := 0, slots := 0, locals := 68 } : Room) (mPc g σ [.int p1]) (mQi g (f_X6_eaten σ p1).1 (f_X6_eaten σ p1).2 (fun u r => ((ga u 0 (0 : Int32)).toInt = (ga σ 0 (0 : Int32)).toInt) ∧ ((ga u 0 (2 : Int32)).toInt = (ga σ 0 (2 : Int32)).toInt))) 0 0 (mA g) := by
  refine met_M (by decide) rfl (Nat.le_of_ble_eq_true rfl) ?_
  intro p e s m args below meth c C hr hlocks h ls hl
  have hx := C.1.1
  have hb := C.1.2.1
  have hml := C.1.2.2.1
  have hown := C.1.2.2.2.1
  have hts := C.1.2.2.2.2
  have hl : lv_has ls 2 [(0, .ref (g.2.1 99)), (1, .int p1)] := hl
  have hpq : (ga σ 0 (0 : Int32)).toInt = (ga σ 0 (0 : Int32)).toInt := rfl
  have hdq : (ga σ 0 (2 : Int32)).toInt = (ga σ 0 (2 : Int32)).toInt := rfl
  have zl0 : (0 : Int32).toInt = 0 := rfl
  have zl1 : (1 : Int32).toInt = 1 := rfl
  refine lv_aload_n hx hb dX6_eaten_0 rfl (lv_at hl 0 rfl) ?_
  refine lv_iload_n hx hb dX6_eaten_1 rfl (lv_at hl 1 rfl) ?_
  refine M_callz (As := [.int p1]) (rest := []) 1 C h (k_X6_isPerson l g σ p1) (lw_V q1864 q1866 qs101 q152 q1867) rfl rfl (by decide +kernel) ⟨Nat.le_of_ble_eq_true rfl, Nat.le_of_ble_eq_true rfl⟩ rfl hl.1 rfl (Nat.le_of_ble_eq_true rfl) ⟨Nat.le_of_ble_eq_true rfl, Nat.le_of_ble_eq_true rfl⟩ dX6_eaten_2 (fun r2 σ2 H locs eσ2 er2 br2 hE2 h => ?_)
  rw [eσ2] at h
  clear hE2
  clear eσ2
  refine lv_if_eq (tgt := 20) hx hb dX6_eaten_5 (by decide) (fun c5 => ?_) (fun c5 => ?_)
  · have i5 := c_eq c5
    refine lv_aload_n hx hb dX6_eaten_20 rfl (lv_at hl 0 rfl) ?_
    refine lv_iconst (v := 1) hx hb dX6_eaten_21 (by decide) ?_
    refine M_calli (As := [.int (1 : Int32)]) (rest := []) 1 C h (k_X6_refuse l g σ (1 : Int32)) (lw_V q1723 q1725 qs71 q152 q1726) rfl rfl (by decide +kernel) ⟨Nat.le_of_ble_eq_true rfl, Nat.le_of_ble_eq_true rfl⟩ rfl hl.1 rfl (Nat.le_of_ble_eq_true rfl) ⟨Nat.le_of_ble_eq_true rfl, Nat.le_of_ble_eq_true rfl⟩ dX6_eaten_22 (fun r22 σ22 H locs eσ22 er22 hE22 h => ?_)
    clear hE22
    have hNEW : (0 ≤ (ga σ22 0 (0 : Int32)).toInt ∧ (ga σ22 0 (0 : Int32)).toInt ≤ 6) ∧ (0 ≤ (ga σ22 0 (2 : Int32)).toInt ∧ (ga σ22 0 (2 : Int32)).toInt ≤ 16) ∧ ((ga σ22 0 (0 : Int32)).toInt = (ga σ 0 (0 : Int32)).toInt) ∧ ((ga σ22 0 (2 : Int32)).toInt = (ga σ 0 (2 : Int32)).toInt) := ⟨(by rw [eσ22, refuse_s] <;> exact hp), (by rw [eσ22, refuse_s] <;> exact hd), (by rw [eσ22, refuse_s] <;> exact hpq), (by rw [eσ22, refuse_s] <;> exact hdq)⟩
    obtain ⟨hp, hd, hpq, hdq⟩ := hNEW
    have he : f_X6_eaten σ p1 = (σ22, r22) := (by subst er2; subst eσ22; subst er22; exact ((if_pos c5).trans rfl))
    exact M_reti C h hr hlocks (congrArg Prod.fst he) (congrArg Prod.snd he) ⟨hpq, hdq⟩ dX6_eaten_25
  · have i5 := c_ne c5
    have okr2 := isPerson_ok er2 c5
    refine lv_aload_n hx hb dX6_eaten_8 rfl (lv_at hl 0 rfl) ?_
    refine lv_aload_n hx hb dX6_eaten_9 rfl (lv_at hl 0 rfl) ?_
    refine lv_iload_n hx hb dX6_eaten_10 rfl (lv_at hl 1 rfl) ?_
    refine M_calli (As := [.int p1]) (rest := [.ref (g.2.1 99)]) 1 C h (k_X6_eatenBy l g σ p1 (by first | assumption | omega) (by first | assumption | omega) (by first | assumption | omega)) (lw_V q1880 q1882 qs103 q152 q1883) rfl rfl (by decide +kernel) ⟨Nat.le_of_ble_eq_true rfl, Nat.le_of_ble_eq_true rfl⟩ rfl hl.1 rfl (Nat.le_of_ble_eq_true rfl) ⟨Nat.le_of_ble_eq_true rfl, Nat.le_of_ble_eq_true rfl⟩ dX6_eaten_11 (fun r11 σ11 H locs eσ11 er11 hE11 h => ?_)
    rw [eσ11] at h
    clear hE11
    clear eσ11
    refine M_calli (As := [.int r11]) (rest := []) 1 C h (k_X6_gives l g σ r11) (lw_V q1806 q1808 qs91 q152 q1809) rfl rfl (by decide +kernel) ⟨Nat.le_of_ble_eq_true rfl, Nat.le_of_ble_eq_true rfl⟩ rfl hl.1 rfl (Nat.le_of_ble_eq_true rfl) ⟨Nat.le_of_ble_eq_true rfl, Nat.le_of_ble_eq_true rfl⟩ dX6_eaten_14 (fun r14 σ14 H locs eσ14 er14 hE14 h => ?_)
    clear hE14
    have hNEW : (0 ≤ (ga σ14 0 (0 : Int32)).toInt ∧ (ga σ14 0 (0 : Int32)).toInt ≤ 6) ∧ (0 ≤ (ga σ14 0 (2 : Int32)).toInt ∧ (ga σ14 0 (2 : Int32)).toInt ≤ 16) ∧ ((ga σ14 0 (0 : Int32)).toInt = (ga σ 0 (0 : Int32)).toInt) ∧ ((ga σ14 0 (2 : Int32)).toInt = (ga σ 0 (2 : Int32)).toInt) := ⟨(by rw [eσ14, gives_s] <;> exact hp), (by rw [eσ14, gives_s] <;> exact hd), (by rw [eσ14, gives_s] <;> exact hpq), (by rw [eσ14, gives_s] <;> exact hdq)⟩
    obtain ⟨hp, hd, hpq, hdq⟩ := hNEW
    refine lv_goto (tgt := 25) hx hb dX6_eaten_17 (by decide) ?_
    have he : f_X6_eaten σ p1 = (σ14, r14) := (by subst er2; subst er11; subst eσ14; subst er14; exact ((if_neg c5).trans rfl))
    exact M_reti C h hr hlocks (congrArg Prod.fst he) (congrArg Prod.snd he) ⟨hpq, hdq⟩ dX6_eaten_25
def f_X6_due (σ : MS) (p1 : Int32) (p2 : Int32) : MS × Int32 := (let r2 := (f_X6_isPerson σ p1); if r2 = (0 : Int32) then ((let z30 := (f_X6_refuse σ (1 : Int32)); let σ30 := z30.1; let r30 := z30.2; (σ30, r30))) else ((let r9 := (f_X6_isSplit p2); if r9 = (0 : Int32) then ((let z30 := (f_X6_refuse σ (1 : Int32)); let σ30 := z30.1; let r30 := z30.2; (σ30, r30))) else ((let r19 := (f_X6_dueBy σ p1 p2); let z22 := (f_X6_gives σ r19); let σ22 := z22.1; let r22 := z22.2; (σ22, r22))))))
set_option maxHeartbeats 4000000 in
set_option maxRecDepth 100000 in
theorem k_X6_due (l : Launch) (g : GE) (σ : MS) (p1 : Int32) (p2 : Int32) (hp : 0 ≤ (ga σ 0 (0 : Int32)).toInt ∧ (ga σ 0 (0 : Int32)).toInt ≤ 6) (hd : 0 ≤ (ga σ 0 (2 : Int32)).toInt ∧ (ga σ 0 (2 : Int32)).toInt ≤ 16) : Met l yX6_due (ws_ yX6_due cX6_due 3 (some .int)) ({ frames := 4, cells := 0, slots := 0, locals := 92 } : Room) (mPc g σ [.int p1, .int p2]) (mQi g (f_X6_due σ p1 p2).1 (f_X6_due σ p1 p2).2 (fun u r => ((ga u 0 (0 : Int32)).toInt = (ga σ 0 (0 : Int32)).toInt) ∧ ((ga u 0 (2 : Int32)).toInt = (ga σ 0 (2 : Int32)).toInt))) 0 0 (mA g) := by
  refine met_M (by decide) rfl (Nat.le_of_ble_eq_true rfl) ?_
  intro p e s m args below meth c C hr hlocks h ls hl
  have hx := C.1.1
  have hb := C.1.2.1
  have hml := C.1.2.2.1
  have hown := C.1.2.2.2.1
  have hts := C.1.2.2.2.2
  have hl : lv_has ls 3 [(0, .ref (g.2.1 99)), (1, .int p1), (2, .int p2)] := hl
  have hpq : (ga σ 0 (0 : Int32)).toInt = (ga σ 0 (0 : Int32)).toInt := rfl
  have hdq : (ga σ 0 (2 : Int32)).toInt = (ga σ 0 (2 : Int32)).toInt := rfl
  have zl0 : (0 : Int32).toInt = 0 := rfl
  have zl1 : (1 : Int32).toInt = 1 := rfl
  refine lv_aload_n hx hb dX6_due_0 rfl (lv_at hl 0 rfl) ?_
  refine lv_iload_n hx hb dX6_due_1 rfl (lv_at hl 1 rfl) ?_
  refine M_callz (As := [.int p1]) (rest := []) 1 C h (k_X6_isPerson l g σ p1) (lw_V q1864 q1866 qs101 q152 q1867) rfl rfl (by decide +kernel) ⟨Nat.le_of_ble_eq_true rfl, Nat.le_of_ble_eq_true rfl⟩ rfl hl.1 rfl (Nat.le_of_ble_eq_true rfl) ⟨Nat.le_of_ble_eq_true rfl, Nat.le_of_ble_eq_true rfl⟩ dX6_due_2 (fun r2 σ2 H locs eσ2 er2 br2 hE2 h => ?_)
  rw [eσ2] at h
  clear hE2
  clear eσ2
  refine lv_if_eq (tgt := 28) hx hb dX6_due_5 (by decide) (fun c5 => ?_) (fun c5 => ?_)
  · have i5 := c_eq c5
    refine lv_aload_n hx hb dX6_due_28 rfl (lv_at hl 0 rfl) ?_
    refine lv_iconst (v := 1) hx hb dX6_due_29 (by decide) ?_
    refine M_calli (As := [.int (1 : Int32)]) (rest := []) 1 C h (k_X6_refuse l g σ (1 : Int32)) (lw_V q1723 q1725 qs71 q152 q1726) rfl rfl (by decide +kernel) ⟨Nat.le_of_ble_eq_true rfl, Nat.le_of_ble_eq_true rfl⟩ rfl hl.1 rfl (Nat.le_of_ble_eq_true rfl) ⟨Nat.le_of_ble_eq_true rfl, Nat.le_of_ble_eq_true rfl⟩ dX6_due_30 (fun r30 σ30 H locs eσ30 er30 hE30 h => ?_)
    clear hE30
    have hNEW : (0 ≤ (ga σ30 0 (0 : Int32)).toInt ∧ (ga σ30 0 (0 : Int32)).toInt ≤ 6) ∧ (0 ≤ (ga σ30 0 (2 : Int32)).toInt ∧ (ga σ30 0 (2 : Int32)).toInt ≤ 16) ∧ ((ga σ30 0 (0 : Int32)).toInt = (ga σ 0 (0 : Int32)).toInt) ∧ ((ga σ30 0 (2 : Int32)).toInt = (ga σ 0 (2 : Int32)).toInt) := ⟨(by rw [eσ30, refuse_s] <;> exact hp), (by rw [eσ30, refuse_s] <;> exact hd), (by rw [eσ30, refuse_s] <;> exact hpq), (by rw [eσ30, refuse_s] <;> exact hdq)⟩
    obtain ⟨hp, hd, hpq, hdq⟩ := hNEW
    have he : f_X6_due σ p1 p2 = (σ30, r30) := (by subst er2; subst eσ30; subst er30; exact ((if_pos c5).trans rfl))
    exact M_reti C h hr hlocks (congrArg Prod.fst he) (congrArg Prod.snd he) ⟨hpq, hdq⟩ dX6_due_33
  · have i5 := c_ne c5
    have okr2 := isPerson_ok er2 c5
    refine lv_iload_n hx hb dX6_due_8 rfl (lv_at hl 2 rfl) ?_
    refine s_callz (As := [.int p2]) (rest := []) 1 C.1 (k_X6_isSplit l p2) (lw_S q1895 q1896 q152 q1897) rfl rfl (by decide +kernel) ⟨Nat.le_of_ble_eq_true rfl, Nat.le_of_ble_eq_true rfl⟩ rfl hl.1 rfl (Nat.le_of_ble_eq_true rfl) ⟨Nat.le_of_ble_eq_true rfl, Nat.le_of_ble_eq_true rfl⟩ dX6_due_9 h.2.2 (fun r9 H locs er9 br9 hz1 hk1 hS1 => ?_)
    have h := h.same hk1 hS1
    clear hz1 hk1 hS1
    refine lv_if_eq (tgt := 28) hx hb dX6_due_12 (by decide) (fun c12 => ?_) (fun c12 => ?_)
    · have i12 := c_eq c12
      refine lv_aload_n hx hb dX6_due_28 rfl (lv_at hl 0 rfl) ?_
      refine lv_iconst (v := 1) hx hb dX6_due_29 (by decide) ?_
      refine M_calli (As := [.int (1 : Int32)]) (rest := []) 1 C h (k_X6_refuse l g σ (1 : Int32)) (lw_V q1723 q1725 qs71 q152 q1726) rfl rfl (by decide +kernel) ⟨Nat.le_of_ble_eq_true rfl, Nat.le_of_ble_eq_true rfl⟩ rfl hl.1 rfl (Nat.le_of_ble_eq_true rfl) ⟨Nat.le_of_ble_eq_true rfl, Nat.le_of_ble_eq_true rfl⟩ dX6_due_30 (fun r30 σ30 H locs eσ30 er30 hE30 h => ?_)
      clear hE30
      have hNEW : (0 ≤ (ga σ30 0 (0 : Int32)).toInt ∧ (ga σ30 0 (0 : Int32)).toInt ≤ 6) ∧ (0 ≤ (ga σ30 0 (2 : Int32)).toInt ∧ (ga σ30 0 (2 : Int32)).toInt ≤ 16) ∧ ((ga σ30 0 (0 : Int32)).toInt = (ga σ 0 (0 : Int32)).toInt) ∧ ((ga σ30 0 (2 : Int32)).toInt = (ga σ 0 (2 : Int32)).toInt) := ⟨(by rw [eσ30, refuse_s] <;> exact hp), (by rw [eσ30, refuse_s] <;> exact hd), (by rw [eσ30, refuse_s] <;> exact hpq), (by rw [eσ30, refuse_s] <;> exact hdq)⟩
      obtain ⟨hp, hd, hpq, hdq⟩ := hNEW
      have he : f_X6_due σ p1 p2 = (σ30, r30) := (by subst er2; subst er9; subst eσ30; subst er30; exact ((if_neg c5).trans ((if_pos c12).trans rfl)))
      exact M_reti C h hr hlocks (congrArg Prod.fst he) (congrArg Prod.snd he) ⟨hpq, hdq⟩ dX6_due_33
    · have i12 := c_ne c12
      refine lv_aload_n hx hb dX6_due_15 rfl (lv_at hl 0 rfl) ?_
      refine lv_aload_n hx hb dX6_due_16 rfl (lv_at hl 0 rfl) ?_
      refine lv_iload_n hx hb dX6_due_17 rfl (lv_at hl 1 rfl) ?_
      refine lv_iload_n hx hb dX6_due_18 rfl (lv_at hl 2 rfl) ?_
      refine M_calli (As := [.int p1, .int p2]) (rest := [.ref (g.2.1 99)]) 2 C h (k_X6_dueBy l g σ p1 p2 (by first | assumption | omega) (by first | assumption | omega) (by first | assumption | omega)) (lw_V q1898 q1900 qs105 q152 q1901) rfl rfl (by decide +kernel) ⟨Nat.le_of_ble_eq_true rfl, Nat.le_of_ble_eq_true rfl⟩ rfl hl.1 rfl (Nat.le_of_ble_eq_true rfl) ⟨Nat.le_of_ble_eq_true rfl, Nat.le_of_ble_eq_true rfl⟩ dX6_due_19 (fun r19 σ19 H locs eσ19 er19 hE19 h => ?_)
      rw [eσ19] at h
      clear hE19
      clear eσ19
      refine M_calli (As := [.int r19]) (rest := []) 1 C h (k_X6_gives l g σ r19) (lw_V q1806 q1808 qs91 q152 q1809) rfl rfl (by decide +kernel) ⟨Nat.le_of_ble_eq_true rfl, Nat.le_of_ble_eq_true rfl⟩ rfl hl.1 rfl (Nat.le_of_ble_eq_true rfl) ⟨Nat.le_of_ble_eq_true rfl, Nat.le_of_ble_eq_true rfl⟩ dX6_due_22 (fun r22 σ22 H locs eσ22 er22 hE22 h => ?_)
      clear hE22
      have hNEW : (0 ≤ (ga σ22 0 (0 : Int32)).toInt ∧ (ga σ22 0 (0 : Int32)).toInt ≤ 6) ∧ (0 ≤ (ga σ22 0 (2 : Int32)).toInt ∧ (ga σ22 0 (2 : Int32)).toInt ≤ 16) ∧ ((ga σ22 0 (0 : Int32)).toInt = (ga σ 0 (0 : Int32)).toInt) ∧ ((ga σ22 0 (2 : Int32)).toInt = (ga σ 0 (2 : Int32)).toInt) := ⟨(by rw [eσ22, gives_s] <;> exact hp), (by rw [eσ22, gives_s] <;> exact hd), (by rw [eσ22, gives_s] <;> exact hpq), (by rw [eσ22, gives_s] <;> exact hdq)⟩
      obtain ⟨hp, hd, hpq, hdq⟩ := hNEW
      refine lv_goto (tgt := 33) hx hb dX6_due_25 (by decide) ?_
      have he : f_X6_due σ p1 p2 = (σ22, r22) := (by subst er2; subst er9; subst er19; subst eσ22; subst er22; exact ((if_neg c5).trans ((if_neg c12).trans rfl)))
      exact M_reti C h hr hlocks (congrArg Prod.fst he) (congrArg Prod.snd he) ⟨hpq, hdq⟩ dX6_due_33
def f_X6_unfair (σ : MS) (p1 : Int32) : MS × Int32 := (let r1 := (f_X6_isSplit p1); if r1 = (0 : Int32) then ((let z21 := (f_X6_refuse σ (1 : Int32)); let σ21 := z21.1; let r21 := z21.2; (σ21, r21))) else ((let r10 := (f_X6_unfairBy σ p1); let z13 := (f_X6_gives σ r10); let σ13 := z13.1; let r13 := z13.2; (σ13, r13))))
set_option maxHeartbeats 4000000 in
set_option maxRecDepth 100000 in
theorem k_X6_unfair (l : Launch) (g : GE) (σ : MS) (p1 : Int32) (hp : 0 ≤ (ga σ 0 (0 : Int32)).toInt ∧ (ga σ 0 (0 : Int32)).toInt ≤ 6) (hd : 0 ≤ (ga σ 0 (2 : Int32)).toInt ∧ (ga σ 0 (2 : Int32)).toInt ≤ 16) : Met l yX6_unfair (ws_ yX6_unfair cX6_unfair 2 (some .int)) ({ frames := 5, cells := 0, slots := 0, locals := 115 } : Room) (mPc g σ [.int p1]) (mQi g (f_X6_unfair σ p1).1 (f_X6_unfair σ p1).2 (fun u r => ((ga u 0 (0 : Int32)).toInt = (ga σ 0 (0 : Int32)).toInt) ∧ ((ga u 0 (2 : Int32)).toInt = (ga σ 0 (2 : Int32)).toInt))) 0 0 (mA g) := by
  refine met_M (by decide) rfl (Nat.le_of_ble_eq_true rfl) ?_
  intro p e s m args below meth c C hr hlocks h ls hl
  have hx := C.1.1
  have hb := C.1.2.1
  have hml := C.1.2.2.1
  have hown := C.1.2.2.2.1
  have hts := C.1.2.2.2.2
  have hl : lv_has ls 2 [(0, .ref (g.2.1 99)), (1, .int p1)] := hl
  have hpq : (ga σ 0 (0 : Int32)).toInt = (ga σ 0 (0 : Int32)).toInt := rfl
  have hdq : (ga σ 0 (2 : Int32)).toInt = (ga σ 0 (2 : Int32)).toInt := rfl
  have zl0 : (0 : Int32).toInt = 0 := rfl
  have zl1 : (1 : Int32).toInt = 1 := rfl
  refine lv_iload_n hx hb dX6_unfair_0 rfl (lv_at hl 1 rfl) ?_
  refine s_callz (As := [.int p1]) (rest := []) 1 C.1 (k_X6_isSplit l p1) (lw_S q1895 q1896 q152 q1897) rfl rfl (by decide +kernel) ⟨Nat.le_of_ble_eq_true rfl, Nat.le_of_ble_eq_true rfl⟩ rfl hl.1 rfl (Nat.le_of_ble_eq_true rfl) ⟨Nat.le_of_ble_eq_true rfl, Nat.le_of_ble_eq_true rfl⟩ dX6_unfair_1 h.2.2 (fun r1 H locs er1 br1 hz1 hk1 hS1 => ?_)
  have h := h.same hk1 hS1
  clear hz1 hk1 hS1
  refine lv_if_eq (tgt := 19) hx hb dX6_unfair_4 (by decide) (fun c4 => ?_) (fun c4 => ?_)
  · have i4 := c_eq c4
    refine lv_aload_n hx hb dX6_unfair_19 rfl (lv_at hl 0 rfl) ?_
    refine lv_iconst (v := 1) hx hb dX6_unfair_20 (by decide) ?_
    refine M_calli (As := [.int (1 : Int32)]) (rest := []) 1 C h (k_X6_refuse l g σ (1 : Int32)) (lw_V q1723 q1725 qs71 q152 q1726) rfl rfl (by decide +kernel) ⟨Nat.le_of_ble_eq_true rfl, Nat.le_of_ble_eq_true rfl⟩ rfl hl.1 rfl (Nat.le_of_ble_eq_true rfl) ⟨Nat.le_of_ble_eq_true rfl, Nat.le_of_ble_eq_true rfl⟩ dX6_unfair_21 (fun r21 σ21 H locs eσ21 er21 hE21 h => ?_)
    clear hE21
    have hNEW : (0 ≤ (ga σ21 0 (0 : Int32)).toInt ∧ (ga σ21 0 (0 : Int32)).toInt ≤ 6) ∧ (0 ≤ (ga σ21 0 (2 : Int32)).toInt ∧ (ga σ21 0 (2 : Int32)).toInt ≤ 16) ∧ ((ga σ21 0 (0 : Int32)).toInt = (ga σ 0 (0 : Int32)).toInt) ∧ ((ga σ21 0 (2 : Int32)).toInt = (ga σ 0 (2 : Int32)).toInt) := ⟨(by rw [eσ21, refuse_s] <;> exact hp), (by rw [eσ21, refuse_s] <;> exact hd), (by rw [eσ21, refuse_s] <;> exact hpq), (by rw [eσ21, refuse_s] <;> exact hdq)⟩
    obtain ⟨hp, hd, hpq, hdq⟩ := hNEW
    have he : f_X6_unfair σ p1 = (σ21, r21) := (by subst er1; subst eσ21; subst er21; exact ((if_pos c4).trans rfl))
    exact M_reti C h hr hlocks (congrArg Prod.fst he) (congrArg Prod.snd he) ⟨hpq, hdq⟩ dX6_unfair_24
  · have i4 := c_ne c4
    refine lv_aload_n hx hb dX6_unfair_7 rfl (lv_at hl 0 rfl) ?_
    refine lv_aload_n hx hb dX6_unfair_8 rfl (lv_at hl 0 rfl) ?_
    refine lv_iload_n hx hb dX6_unfair_9 rfl (lv_at hl 1 rfl) ?_
    refine M_calli (As := [.int p1]) (rest := [.ref (g.2.1 99)]) 1 C h (k_X6_unfairBy l g σ p1 (by first | assumption | omega) (by first | assumption | omega)) (lw_V q1914 q1916 qs108 q152 q1917) rfl rfl (by decide +kernel) ⟨Nat.le_of_ble_eq_true rfl, Nat.le_of_ble_eq_true rfl⟩ rfl hl.1 rfl (Nat.le_of_ble_eq_true rfl) ⟨Nat.le_of_ble_eq_true rfl, Nat.le_of_ble_eq_true rfl⟩ dX6_unfair_10 (fun r10 σ10 H locs eσ10 er10 hE10 h => ?_)
    rw [eσ10] at h
    clear hE10
    clear eσ10
    refine M_calli (As := [.int r10]) (rest := []) 1 C h (k_X6_gives l g σ r10) (lw_V q1806 q1808 qs91 q152 q1809) rfl rfl (by decide +kernel) ⟨Nat.le_of_ble_eq_true rfl, Nat.le_of_ble_eq_true rfl⟩ rfl hl.1 rfl (Nat.le_of_ble_eq_true rfl) ⟨Nat.le_of_ble_eq_true rfl, Nat.le_of_ble_eq_true rfl⟩ dX6_unfair_13 (fun r13 σ13 H locs eσ13 er13 hE13 h => ?_)
    clear hE13
    have hNEW : (0 ≤ (ga σ13 0 (0 : Int32)).toInt ∧ (ga σ13 0 (0 : Int32)).toInt ≤ 6) ∧ (0 ≤ (ga σ13 0 (2 : Int32)).toInt ∧ (ga σ13 0 (2 : Int32)).toInt ≤ 16) ∧ ((ga σ13 0 (0 : Int32)).toInt = (ga σ 0 (0 : Int32)).toInt) ∧ ((ga σ13 0 (2 : Int32)).toInt = (ga σ 0 (2 : Int32)).toInt) := ⟨(by rw [eσ13, gives_s] <;> exact hp), (by rw [eσ13, gives_s] <;> exact hd), (by rw [eσ13, gives_s] <;> exact hpq), (by rw [eσ13, gives_s] <;> exact hdq)⟩
    obtain ⟨hp, hd, hpq, hdq⟩ := hNEW
    refine lv_goto (tgt := 24) hx hb dX6_unfair_16 (by decide) ?_
    have he : f_X6_unfair σ p1 = (σ13, r13) := (by subst er1; subst er10; subst eσ13; subst er13; exact ((if_neg c4).trans rfl))
    exact M_reti C h hr hlocks (congrArg Prod.fst he) (congrArg Prod.snd he) ⟨hpq, hdq⟩ dX6_unfair_24
def f_X6_fairest_L4 (σ : MS) : Nat → Int32 → Int32 → Int32 × Int32
  | 0, x1_4, x2_4 => (x1_4, x2_4)
  | n + 1, x1_4, x2_4 => if (3 : Int32) ≤ x2_4 then ((x1_4, x2_4)) else ((let r11 := (f_X6_unfairBy σ x2_4); let r16 := (f_X6_unfairBy σ x1_4); if r16 ≤ r11 then (f_X6_fairest_L4 σ n x1_4 (x2_4 + (1 : Int32))) else (f_X6_fairest_L4 σ n x2_4 (x2_4 + (1 : Int32)))))
def f_X6_fairest (σ : MS) : MS × Int32 := (let zL4 := f_X6_fairest_L4 σ (3) (0 : Int32) (1 : Int32); let x1_4e := zL4.1; let x2_4e := zL4.2; (let z32 := (f_X6_gives σ x1_4e); let σ32 := z32.1; let r32 := z32.2; (σ32, r32)))
set_option maxHeartbeats 4000000 in
set_option maxRecDepth 100000 in
theorem k_X6_fairest (l : Launch) (g : GE) (σ : MS) (hp : 0 ≤ (ga σ 0 (0 : Int32)).toInt ∧ (ga σ 0 (0 : Int32)).toInt ≤ 6) (hd : 0 ≤ (ga σ 0 (2 : Int32)).toInt ∧ (ga σ 0 (2 : Int32)).toInt ≤ 16) : Met l yX6_fairest (ws_ yX6_fairest cX6_fairest 3 (some .int)) ({ frames := 5, cells := 0, slots := 0, locals := 115 } : Room) (mPc g σ []) (mQi g (f_X6_fairest σ).1 (f_X6_fairest σ).2 (fun u r => ((ga u 0 (0 : Int32)).toInt = (ga σ 0 (0 : Int32)).toInt) ∧ ((ga u 0 (2 : Int32)).toInt = (ga σ 0 (2 : Int32)).toInt))) 0 0 (mA g) := by
  refine met_M (by decide) rfl (Nat.le_of_ble_eq_true rfl) ?_
  intro p e s m args below meth c C hr hlocks h ls hl
  have hx := C.1.1
  have hb := C.1.2.1
  have hml := C.1.2.2.1
  have hown := C.1.2.2.2.1
  have hts := C.1.2.2.2.2
  have hl : lv_has ls 3 [(0, .ref (g.2.1 99))] := hl
  have hpq : (ga σ 0 (0 : Int32)).toInt = (ga σ 0 (0 : Int32)).toInt := rfl
  have hdq : (ga σ 0 (2 : Int32)).toInt = (ga σ 0 (2 : Int32)).toInt := rfl
  have zl0 : (0 : Int32).toInt = 0 := rfl
  have zl1 : (1 : Int32).toInt = 1 := rfl
  have zl3 : (3 : Int32).toInt = 3 := rfl
  refine lv_iconst (v := 0) hx hb dX6_fairest_0 (by decide) ?_
  refine lv_istore_n (lv' := [(1, .int (0 : Int32)), (0, .ref (g.2.1 99))]) hx hb dX6_fairest_1 rfl hl (by decide) rfl (fun ls hl => ?_)
  refine lv_iconst (v := 1) hx hb dX6_fairest_2 (by decide) ?_
  refine lv_istore_n (lv' := [(2, .int (1 : Int32)), (1, .int (0 : Int32)), (0, .ref (g.2.1 99))]) hx hb dX6_fairest_3 rfl hl (by decide) rfl (fun ls hl => ?_)
  have hL4 : ∀ (n : Nat) (x1_4 : Int32) (x2_4 : Int32) (H : Heap) (locs : List Loc) (ls : Array Slot), (1 ≤ x2_4.toInt ∧ x2_4.toInt ≤ 3) → (3 - x2_4.toInt).toNat < n → MH g σ s H locs → lv_has ls 3 [(0, .ref (g.2.1 99)), (1, .int x1_4), (2, .int x2_4)] → (∀ (x1_4' : Int32) (x2_4' : Int32) (H : Heap) (locs : List Loc) (ls : Array Slot), f_X6_fairest_L4 σ n x1_4 x2_4 = (x1_4', x2_4') → (1 ≤ x2_4'.toInt ∧ x2_4'.toInt ≤ 3) → MH g σ s H locs → lv_has ls 3 [(0, .ref (g.2.1 99)), (1, .int x1_4')] → W p l e ({ frames := 5, cells := 0, slots := 0, locals := 115 } : Room) s m args below meth c H locs 0 0 (MQ below (mQi g (f_X6_fairest σ).1 (f_X6_fairest σ).2 (fun u r => ((ga u 0 (0 : Int32)).toInt = (ga σ 0 (0 : Int32)).toInt) ∧ ((ga u 0 (2 : Int32)).toInt = (ga σ 0 (2 : Int32)).toInt))) args s 0 0 (mA g)) (F0 m 30 ls [])) → W p l e ({ frames := 5, cells := 0, slots := 0, locals := 115 } : Room) s m args below meth c H locs 0 0 (MQ below (mQi g (f_X6_fairest σ).1 (f_X6_fairest σ).2 (fun u r => ((ga u 0 (0 : Int32)).toInt = (ga σ 0 (0 : Int32)).toInt) ∧ ((ga u 0 (2 : Int32)).toInt = (ga σ 0 (2 : Int32)).toInt))) args s 0 0 (mA g)) (F0 m 4 ls []) := by
    intro n
    induction n with
    | zero =>
      intro x1_4 x2_4 H locs ls _ hm; exact absurd hm (Nat.not_lt_zero _)
    | succ n ih =>
      intro x1_4 x2_4 H locs ls hI4 hm h hl kk
      refine lv_iload_n hx hb dX6_fairest_4 rfl (lv_at hl 2 rfl) ?_
      refine lv_iconst (v := 3) hx hb dX6_fairest_5 (by decide) ?_
      refine lv_icmp_ge (tgt := 30) hx hb dX6_fairest_6 (by decide) (fun c6 => ?_) (fun c6 => ?_)
      · have i6 := c_le c6
        exact kk x1_4 x2_4 _ _ _ (show f_X6_fairest_L4 σ (n + 1) x1_4 x2_4 = (x1_4, x2_4) from (by exact ((if_pos c6).trans rfl)))  (by first | assumption | omega) h (lv_sub hl [0, 1] rfl)
      · have i6 := c_nle c6
        refine lv_aload_n hx hb dX6_fairest_9 rfl (lv_at hl 0 rfl) ?_
        refine lv_iload_n hx hb dX6_fairest_10 rfl (lv_at hl 2 rfl) ?_
        refine M_calli (As := [.int x2_4]) (rest := []) 1 C h (k_X6_unfairBy l g σ x2_4 (by first | assumption | omega) (by first | assumption | omega)) (lw_V q1914 q1916 qs108 q152 q1917) rfl rfl (by decide +kernel) ⟨Nat.le_of_ble_eq_true rfl, Nat.le_of_ble_eq_true rfl⟩ rfl hl.1 rfl (Nat.le_of_ble_eq_true rfl) ⟨Nat.le_of_ble_eq_true rfl, Nat.le_of_ble_eq_true rfl⟩ dX6_fairest_11 (fun r11 σ11 H locs eσ11 er11 hE11 h => ?_)
        rw [eσ11] at h
        clear hE11
        clear eσ11
        refine lv_aload_n hx hb dX6_fairest_14 rfl (lv_at hl 0 rfl) ?_
        refine lv_iload_n hx hb dX6_fairest_15 rfl (lv_at hl 1 rfl) ?_
        refine M_calli (As := [.int x1_4]) (rest := [.int r11]) 1 C h (k_X6_unfairBy l g σ x1_4 (by first | assumption | omega) (by first | assumption | omega)) (lw_V q1914 q1916 qs108 q152 q1917) rfl rfl (by decide +kernel) ⟨Nat.le_of_ble_eq_true rfl, Nat.le_of_ble_eq_true rfl⟩ rfl hl.1 rfl (Nat.le_of_ble_eq_true rfl) ⟨Nat.le_of_ble_eq_true rfl, Nat.le_of_ble_eq_true rfl⟩ dX6_fairest_16 (fun r16 σ16 H locs eσ16 er16 hE16 h => ?_)
        rw [eσ16] at h
        clear hE16
        clear eσ16
        refine lv_icmp_ge (tgt := 24) hx hb dX6_fairest_19 (by decide) (fun c19 => ?_) (fun c19 => ?_)
        · have i19 := c_le c19
          refine lv_iinc (v := (x2_4 + (1 : Int32))) (lv' := [(2, .int (x2_4 + (1 : Int32))), (0, .ref (g.2.1 99)), (1, .int x1_4)]) hx hb dX6_fairest_24 hl (k := 2) rfl rfl (by decide) rfl (fun ls hl => ?_)
          refine lv_goto (tgt := 4) hx hb dX6_fairest_27 (by decide) ?_
          have tt2 : (x2_4 + (1 : Int32)).toInt = (x2_4.toInt + (1)) := (i_add (rfl : x2_4.toInt = x2_4.toInt) zl1 (by omega))
          exact ih x1_4 (x2_4 + (1 : Int32)) _ _ _  (by first | assumption | omega) (by omega) h (lv_sub hl [1, 2, 0] rfl) (fun x1_4' x2_4' H locs ls en hI h hl => kk x1_4' x2_4' H locs ls ((show f_X6_fairest_L4 σ (n + 1) x1_4 x2_4 = f_X6_fairest_L4 σ n x1_4 (x2_4 + (1 : Int32)) from (by subst er11; subst er16; exact ((if_neg c6).trans ((if_pos c19).trans rfl)))).trans en) hI h hl)
        · have i19 := c_nle c19
          refine lv_iload_n hx hb dX6_fairest_22 rfl (lv_at hl 2 rfl) ?_
          refine lv_istore_n (lv' := [(1, .int x2_4), (0, .ref (g.2.1 99)), (2, .int x2_4)]) hx hb dX6_fairest_23 rfl hl (by decide) rfl (fun ls hl => ?_)
          refine lv_iinc (v := (x2_4 + (1 : Int32))) (lv' := [(2, .int (x2_4 + (1 : Int32))), (1, .int x2_4), (0, .ref (g.2.1 99))]) hx hb dX6_fairest_24 hl (k := 2) rfl rfl (by decide) rfl (fun ls hl => ?_)
          refine lv_goto (tgt := 4) hx hb dX6_fairest_27 (by decide) ?_
          have tt2 : (x2_4 + (1 : Int32)).toInt = (x2_4.toInt + (1)) := (i_add (rfl : x2_4.toInt = x2_4.toInt) zl1 (by omega))
          exact ih x2_4 (x2_4 + (1 : Int32)) _ _ _  (by first | assumption | omega) (by omega) h (lv_sub hl [2, 1, 0] rfl) (fun x1_4' x2_4' H locs ls en hI h hl => kk x1_4' x2_4' H locs ls ((show f_X6_fairest_L4 σ (n + 1) x1_4 x2_4 = f_X6_fairest_L4 σ n x2_4 (x2_4 + (1 : Int32)) from (by subst er11; subst er16; exact ((if_neg c6).trans ((if_neg c19).trans rfl)))).trans en) hI h hl)
  refine hL4 (3) (0 : Int32) (1 : Int32) _ _ _  (by first | assumption | omega) (by omega) h (lv_sub hl [2, 1, 0] rfl) (fun x1_4e x2_4e H locs ls eL4 hI4 h hl => ?_)
  have ex1_4e : x1_4e = (f_X6_fairest_L4 σ (3) (0 : Int32) (1 : Int32)).1 := by rw [eL4]
  have ex2_4e : x2_4e = (f_X6_fairest_L4 σ (3) (0 : Int32) (1 : Int32)).2 := by rw [eL4]
  refine lv_aload_n hx hb dX6_fairest_30 rfl (lv_at hl 0 rfl) ?_
  refine lv_iload_n hx hb dX6_fairest_31 rfl (lv_at hl 1 rfl) ?_
  refine M_calli (As := [.int x1_4e]) (rest := []) 1 C h (k_X6_gives l g σ x1_4e) (lw_V q1806 q1808 qs91 q152 q1809) rfl rfl (by decide +kernel) ⟨Nat.le_of_ble_eq_true rfl, Nat.le_of_ble_eq_true rfl⟩ rfl hl.1 rfl (Nat.le_of_ble_eq_true rfl) ⟨Nat.le_of_ble_eq_true rfl, Nat.le_of_ble_eq_true rfl⟩ dX6_fairest_32 (fun r32 σ32 H locs eσ32 er32 hE32 h => ?_)
  clear hE32
  have hNEW : (0 ≤ (ga σ32 0 (0 : Int32)).toInt ∧ (ga σ32 0 (0 : Int32)).toInt ≤ 6) ∧ (0 ≤ (ga σ32 0 (2 : Int32)).toInt ∧ (ga σ32 0 (2 : Int32)).toInt ≤ 16) ∧ ((ga σ32 0 (0 : Int32)).toInt = (ga σ 0 (0 : Int32)).toInt) ∧ ((ga σ32 0 (2 : Int32)).toInt = (ga σ 0 (2 : Int32)).toInt) := ⟨(by rw [eσ32, gives_s] <;> exact hp), (by rw [eσ32, gives_s] <;> exact hd), (by rw [eσ32, gives_s] <;> exact hpq), (by rw [eσ32, gives_s] <;> exact hdq)⟩
  obtain ⟨hp, hd, hpq, hdq⟩ := hNEW
  have he : f_X6_fairest σ = (σ32, r32) := (by subst ex1_4e; subst ex2_4e; subst eσ32; subst er32; exact rfl)
  exact M_reti C h hr hlocks (congrArg Prod.fst he) (congrArg Prod.snd he) ⟨hpq, hdq⟩ dX6_fairest_35
def f_X6_dearer (σ : MS) (p1 : Int32) (p2 : Int32) (p3 : Int32) : MS × Int32 := (let r2 := (f_X6_isPerson σ p1); if r2 = (0 : Int32) then ((let z44 := (f_X6_refuse σ (1 : Int32)); let σ44 := z44.1; let r44 := z44.2; (σ44, r44))) else ((let r9 := (f_X6_isSplit p2); if r9 = (0 : Int32) then ((let z44 := (f_X6_refuse σ (1 : Int32)); let σ44 := z44.1; let r44 := z44.2; (σ44, r44))) else ((let r16 := (f_X6_isSplit p3); if r16 = (0 : Int32) then ((let z44 := (f_X6_refuse σ (1 : Int32)); let σ44 := z44.1; let r44 := z44.2; (σ44, r44))) else ((let r26 := (f_X6_dueBy σ p1 p2); let r32 := (f_X6_dueBy σ p1 p3); let z36 := (f_X6_gives σ (r26 - r32)); let σ36 := z36.1; let r36 := z36.2; (σ36, r36))))))))
set_option maxHeartbeats 4000000 in
set_option maxRecDepth 100000 in
theorem k_X6_dearer (l : Launch) (g : GE) (σ : MS) (p1 : Int32) (p2 : Int32) (p3 : Int32) (hp : 0 ≤ (ga σ 0 (0 : Int32)).toInt ∧ (ga σ 0 (0 : Int32)).toInt ≤ 6) (hd : 0 ≤ (ga σ 0 (2 : Int32)).toInt ∧ (ga σ 0 (2 : Int32)).toInt ≤ 16) : Met l yX6_dearer (ws_ yX6_dearer cX6_dearer 4 (some .int)) ({ frames := 4, cells := 0, slots := 0, locals := 92 } : Room) (mPc g σ [.int p1, .int p2, .int p3]) (mQi g (f_X6_dearer σ p1 p2 p3).1 (f_X6_dearer σ p1 p2 p3).2 (fun u r => ((ga u 0 (0 : Int32)).toInt = (ga σ 0 (0 : Int32)).toInt) ∧ ((ga u 0 (2 : Int32)).toInt = (ga σ 0 (2 : Int32)).toInt))) 0 0 (mA g) := by
  refine met_M (by decide) rfl (Nat.le_of_ble_eq_true rfl) ?_
  intro p e s m args below meth c C hr hlocks h ls hl
  have hx := C.1.1
  have hb := C.1.2.1
  have hml := C.1.2.2.1
  have hown := C.1.2.2.2.1
  have hts := C.1.2.2.2.2
  have hl : lv_has ls 4 [(0, .ref (g.2.1 99)), (1, .int p1), (2, .int p2), (3, .int p3)] := hl
  have hpq : (ga σ 0 (0 : Int32)).toInt = (ga σ 0 (0 : Int32)).toInt := rfl
  have hdq : (ga σ 0 (2 : Int32)).toInt = (ga σ 0 (2 : Int32)).toInt := rfl
  have zl0 : (0 : Int32).toInt = 0 := rfl
  have zl1 : (1 : Int32).toInt = 1 := rfl
  refine lv_aload_n hx hb dX6_dearer_0 rfl (lv_at hl 0 rfl) ?_
  refine lv_iload_n hx hb dX6_dearer_1 rfl (lv_at hl 1 rfl) ?_
  refine M_callz (As := [.int p1]) (rest := []) 1 C h (k_X6_isPerson l g σ p1) (lw_V q1864 q1866 qs101 q152 q1867) rfl rfl (by decide +kernel) ⟨Nat.le_of_ble_eq_true rfl, Nat.le_of_ble_eq_true rfl⟩ rfl hl.1 rfl (Nat.le_of_ble_eq_true rfl) ⟨Nat.le_of_ble_eq_true rfl, Nat.le_of_ble_eq_true rfl⟩ dX6_dearer_2 (fun r2 σ2 H locs eσ2 er2 br2 hE2 h => ?_)
  rw [eσ2] at h
  clear hE2
  clear eσ2
  refine lv_if_eq (tgt := 42) hx hb dX6_dearer_5 (by decide) (fun c5 => ?_) (fun c5 => ?_)
  · have i5 := c_eq c5
    refine lv_aload_n hx hb dX6_dearer_42 rfl (lv_at hl 0 rfl) ?_
    refine lv_iconst (v := 1) hx hb dX6_dearer_43 (by decide) ?_
    refine M_calli (As := [.int (1 : Int32)]) (rest := []) 1 C h (k_X6_refuse l g σ (1 : Int32)) (lw_V q1723 q1725 qs71 q152 q1726) rfl rfl (by decide +kernel) ⟨Nat.le_of_ble_eq_true rfl, Nat.le_of_ble_eq_true rfl⟩ rfl hl.1 rfl (Nat.le_of_ble_eq_true rfl) ⟨Nat.le_of_ble_eq_true rfl, Nat.le_of_ble_eq_true rfl⟩ dX6_dearer_44 (fun r44 σ44 H locs eσ44 er44 hE44 h => ?_)
    clear hE44
    have hNEW : (0 ≤ (ga σ44 0 (0 : Int32)).toInt ∧ (ga σ44 0 (0 : Int32)).toInt ≤ 6) ∧ (0 ≤ (ga σ44 0 (2 : Int32)).toInt ∧ (ga σ44 0 (2 : Int32)).toInt ≤ 16) ∧ ((ga σ44 0 (0 : Int32)).toInt = (ga σ 0 (0 : Int32)).toInt) ∧ ((ga σ44 0 (2 : Int32)).toInt = (ga σ 0 (2 : Int32)).toInt) := ⟨(by rw [eσ44, refuse_s] <;> exact hp), (by rw [eσ44, refuse_s] <;> exact hd), (by rw [eσ44, refuse_s] <;> exact hpq), (by rw [eσ44, refuse_s] <;> exact hdq)⟩
    obtain ⟨hp, hd, hpq, hdq⟩ := hNEW
    have he : f_X6_dearer σ p1 p2 p3 = (σ44, r44) := (by subst er2; subst eσ44; subst er44; exact ((if_pos c5).trans rfl))
    exact M_reti C h hr hlocks (congrArg Prod.fst he) (congrArg Prod.snd he) ⟨hpq, hdq⟩ dX6_dearer_47
  · have i5 := c_ne c5
    have okr2 := isPerson_ok er2 c5
    refine lv_iload_n hx hb dX6_dearer_8 rfl (lv_at hl 2 rfl) ?_
    refine s_callz (As := [.int p2]) (rest := []) 1 C.1 (k_X6_isSplit l p2) (lw_S q1895 q1896 q152 q1897) rfl rfl (by decide +kernel) ⟨Nat.le_of_ble_eq_true rfl, Nat.le_of_ble_eq_true rfl⟩ rfl hl.1 rfl (Nat.le_of_ble_eq_true rfl) ⟨Nat.le_of_ble_eq_true rfl, Nat.le_of_ble_eq_true rfl⟩ dX6_dearer_9 h.2.2 (fun r9 H locs er9 br9 hz1 hk1 hS1 => ?_)
    have h := h.same hk1 hS1
    clear hz1 hk1 hS1
    refine lv_if_eq (tgt := 42) hx hb dX6_dearer_12 (by decide) (fun c12 => ?_) (fun c12 => ?_)
    · have i12 := c_eq c12
      refine lv_aload_n hx hb dX6_dearer_42 rfl (lv_at hl 0 rfl) ?_
      refine lv_iconst (v := 1) hx hb dX6_dearer_43 (by decide) ?_
      refine M_calli (As := [.int (1 : Int32)]) (rest := []) 1 C h (k_X6_refuse l g σ (1 : Int32)) (lw_V q1723 q1725 qs71 q152 q1726) rfl rfl (by decide +kernel) ⟨Nat.le_of_ble_eq_true rfl, Nat.le_of_ble_eq_true rfl⟩ rfl hl.1 rfl (Nat.le_of_ble_eq_true rfl) ⟨Nat.le_of_ble_eq_true rfl, Nat.le_of_ble_eq_true rfl⟩ dX6_dearer_44 (fun r44 σ44 H locs eσ44 er44 hE44 h => ?_)
      clear hE44
      have hNEW : (0 ≤ (ga σ44 0 (0 : Int32)).toInt ∧ (ga σ44 0 (0 : Int32)).toInt ≤ 6) ∧ (0 ≤ (ga σ44 0 (2 : Int32)).toInt ∧ (ga σ44 0 (2 : Int32)).toInt ≤ 16) ∧ ((ga σ44 0 (0 : Int32)).toInt = (ga σ 0 (0 : Int32)).toInt) ∧ ((ga σ44 0 (2 : Int32)).toInt = (ga σ 0 (2 : Int32)).toInt) := ⟨(by rw [eσ44, refuse_s] <;> exact hp), (by rw [eσ44, refuse_s] <;> exact hd), (by rw [eσ44, refuse_s] <;> exact hpq), (by rw [eσ44, refuse_s] <;> exact hdq)⟩
      obtain ⟨hp, hd, hpq, hdq⟩ := hNEW
      have he : f_X6_dearer σ p1 p2 p3 = (σ44, r44) := (by subst er2; subst er9; subst eσ44; subst er44; exact ((if_neg c5).trans ((if_pos c12).trans rfl)))
      exact M_reti C h hr hlocks (congrArg Prod.fst he) (congrArg Prod.snd he) ⟨hpq, hdq⟩ dX6_dearer_47
    · have i12 := c_ne c12
      refine lv_iload_n hx hb dX6_dearer_15 rfl (lv_at hl 3 rfl) ?_
      refine s_callz (As := [.int p3]) (rest := []) 1 C.1 (k_X6_isSplit l p3) (lw_S q1895 q1896 q152 q1897) rfl rfl (by decide +kernel) ⟨Nat.le_of_ble_eq_true rfl, Nat.le_of_ble_eq_true rfl⟩ rfl hl.1 rfl (Nat.le_of_ble_eq_true rfl) ⟨Nat.le_of_ble_eq_true rfl, Nat.le_of_ble_eq_true rfl⟩ dX6_dearer_16 h.2.2 (fun r16 H locs er16 br16 hz1 hk1 hS1 => ?_)
      have h := h.same hk1 hS1
      clear hz1 hk1 hS1
      refine lv_if_eq (tgt := 42) hx hb dX6_dearer_19 (by decide) (fun c19 => ?_) (fun c19 => ?_)
      · have i19 := c_eq c19
        refine lv_aload_n hx hb dX6_dearer_42 rfl (lv_at hl 0 rfl) ?_
        refine lv_iconst (v := 1) hx hb dX6_dearer_43 (by decide) ?_
        refine M_calli (As := [.int (1 : Int32)]) (rest := []) 1 C h (k_X6_refuse l g σ (1 : Int32)) (lw_V q1723 q1725 qs71 q152 q1726) rfl rfl (by decide +kernel) ⟨Nat.le_of_ble_eq_true rfl, Nat.le_of_ble_eq_true rfl⟩ rfl hl.1 rfl (Nat.le_of_ble_eq_true rfl) ⟨Nat.le_of_ble_eq_true rfl, Nat.le_of_ble_eq_true rfl⟩ dX6_dearer_44 (fun r44 σ44 H locs eσ44 er44 hE44 h => ?_)
        clear hE44
        have hNEW : (0 ≤ (ga σ44 0 (0 : Int32)).toInt ∧ (ga σ44 0 (0 : Int32)).toInt ≤ 6) ∧ (0 ≤ (ga σ44 0 (2 : Int32)).toInt ∧ (ga σ44 0 (2 : Int32)).toInt ≤ 16) ∧ ((ga σ44 0 (0 : Int32)).toInt = (ga σ 0 (0 : Int32)).toInt) ∧ ((ga σ44 0 (2 : Int32)).toInt = (ga σ 0 (2 : Int32)).toInt) := ⟨(by rw [eσ44, refuse_s] <;> exact hp), (by rw [eσ44, refuse_s] <;> exact hd), (by rw [eσ44, refuse_s] <;> exact hpq), (by rw [eσ44, refuse_s] <;> exact hdq)⟩
        obtain ⟨hp, hd, hpq, hdq⟩ := hNEW
        have he : f_X6_dearer σ p1 p2 p3 = (σ44, r44) := (by subst er2; subst er9; subst er16; subst eσ44; subst er44; exact ((if_neg c5).trans ((if_neg c12).trans ((if_pos c19).trans rfl))))
        exact M_reti C h hr hlocks (congrArg Prod.fst he) (congrArg Prod.snd he) ⟨hpq, hdq⟩ dX6_dearer_47
      · have i19 := c_ne c19
        refine lv_aload_n hx hb dX6_dearer_22 rfl (lv_at hl 0 rfl) ?_
        refine lv_aload_n hx hb dX6_dearer_23 rfl (lv_at hl 0 rfl) ?_
        refine lv_iload_n hx hb dX6_dearer_24 rfl (lv_at hl 1 rfl) ?_
        refine lv_iload_n hx hb dX6_dearer_25 rfl (lv_at hl 2 rfl) ?_
        refine M_calli (As := [.int p1, .int p2]) (rest := [.ref (g.2.1 99)]) 2 C h (k_X6_dueBy l g σ p1 p2 (by first | assumption | omega) (by first | assumption | omega) (by first | assumption | omega)) (lw_V q1898 q1900 qs105 q152 q1901) rfl rfl (by decide +kernel) ⟨Nat.le_of_ble_eq_true rfl, Nat.le_of_ble_eq_true rfl⟩ rfl hl.1 rfl (Nat.le_of_ble_eq_true rfl) ⟨Nat.le_of_ble_eq_true rfl, Nat.le_of_ble_eq_true rfl⟩ dX6_dearer_26 (fun r26 σ26 H locs eσ26 er26 hE26 h => ?_)
        rw [eσ26] at h
        clear hE26
        clear eσ26
        refine lv_aload_n hx hb dX6_dearer_29 rfl (lv_at hl 0 rfl) ?_
        refine lv_iload_n hx hb dX6_dearer_30 rfl (lv_at hl 1 rfl) ?_
        refine lv_iload_n hx hb dX6_dearer_31 rfl (lv_at hl 3 rfl) ?_
        refine M_calli (As := [.int p1, .int p3]) (rest := [.int r26, .ref (g.2.1 99)]) 2 C h (k_X6_dueBy l g σ p1 p3 (by first | assumption | omega) (by first | assumption | omega) (by first | assumption | omega)) (lw_V q1898 q1900 qs105 q152 q1901) rfl rfl (by decide +kernel) ⟨Nat.le_of_ble_eq_true rfl, Nat.le_of_ble_eq_true rfl⟩ rfl hl.1 rfl (Nat.le_of_ble_eq_true rfl) ⟨Nat.le_of_ble_eq_true rfl, Nat.le_of_ble_eq_true rfl⟩ dX6_dearer_32 (fun r32 σ32 H locs eσ32 er32 hE32 h => ?_)
        rw [eσ32] at h
        clear hE32
        clear eσ32
        refine lv_isub hx hb dX6_dearer_35 ?_
        refine M_calli (As := [.int (r26 - r32)]) (rest := []) 1 C h (k_X6_gives l g σ (r26 - r32)) (lw_V q1806 q1808 qs91 q152 q1809) rfl rfl (by decide +kernel) ⟨Nat.le_of_ble_eq_true rfl, Nat.le_of_ble_eq_true rfl⟩ rfl hl.1 rfl (Nat.le_of_ble_eq_true rfl) ⟨Nat.le_of_ble_eq_true rfl, Nat.le_of_ble_eq_true rfl⟩ dX6_dearer_36 (fun r36 σ36 H locs eσ36 er36 hE36 h => ?_)
        clear hE36
        have hNEW : (0 ≤ (ga σ36 0 (0 : Int32)).toInt ∧ (ga σ36 0 (0 : Int32)).toInt ≤ 6) ∧ (0 ≤ (ga σ36 0 (2 : Int32)).toInt ∧ (ga σ36 0 (2 : Int32)).toInt ≤ 16) ∧ ((ga σ36 0 (0 : Int32)).toInt = (ga σ 0 (0 : Int32)).toInt) ∧ ((ga σ36 0 (2 : Int32)).toInt = (ga σ 0 (2 : Int32)).toInt) := ⟨(by rw [eσ36, gives_s] <;> exact hp), (by rw [eσ36, gives_s] <;> exact hd), (by rw [eσ36, gives_s] <;> exact hpq), (by rw [eσ36, gives_s] <;> exact hdq)⟩
        obtain ⟨hp, hd, hpq, hdq⟩ := hNEW
        refine lv_goto (tgt := 47) hx hb dX6_dearer_39 (by decide) ?_
        have he : f_X6_dearer σ p1 p2 p3 = (σ36, r36) := (by subst er2; subst er9; subst er16; subst er26; subst er32; subst eσ36; subst er36; exact ((if_neg c5).trans ((if_neg c12).trans ((if_neg c19).trans rfl))))
        exact M_reti C h hr hlocks (congrArg Prod.fst he) (congrArg Prod.snd he) ⟨hpq, hdq⟩ dX6_dearer_47
def f_X6_hardest_L17 (σ : MS) (y1_17 : Int32) : Nat → Int32 → Int32 → Int32 × Int32
  | 0, x2_17, x3_17 => (x2_17, x3_17)
  | n + 1, x2_17, x3_17 => if (ga σ 0 (0 : Int32)) ≤ x3_17 then ((x2_17, x3_17)) else (if x2_17 = (-1 : Int32) then (f_X6_hardest_L17 σ y1_17 n x3_17 (x3_17 + (1 : Int32))) else ((let r35 := (f_X6_dueBy σ x3_17 y1_17); let r41 := (f_X6_dueBy σ x2_17 y1_17); if r35 ≤ r41 then (f_X6_hardest_L17 σ y1_17 n x2_17 (x3_17 + (1 : Int32))) else (f_X6_hardest_L17 σ y1_17 n x3_17 (x3_17 + (1 : Int32))))))
def f_X6_hardest (σ : MS) (p1 : Int32) : MS × Int32 := (let r1 := (f_X6_isSplit p1); if r1 = (0 : Int32) then ((let z9 := (f_X6_refuse σ (1 : Int32)); let σ9 := z9.1; let r9 := z9.2; (σ9, r9))) else ((let zL17 := f_X6_hardest_L17 σ p1 (7) (-1 : Int32) (0 : Int32); let x2_17e := zL17.1; let x3_17e := zL17.2; (let z57 := (f_X6_orNone σ x2_17e); let σ57 := z57.1; let r57 := z57.2; (σ57, r57)))))
set_option maxHeartbeats 4000000 in
set_option maxRecDepth 100000 in
theorem k_X6_hardest (l : Launch) (g : GE) (σ : MS) (p1 : Int32) (hp : 0 ≤ (ga σ 0 (0 : Int32)).toInt ∧ (ga σ 0 (0 : Int32)).toInt ≤ 6) (hd : 0 ≤ (ga σ 0 (2 : Int32)).toInt ∧ (ga σ 0 (2 : Int32)).toInt ≤ 16) : Met l yX6_hardest (ws_ yX6_hardest cX6_hardest 4 (some .int)) ({ frames := 4, cells := 0, slots := 0, locals := 92 } : Room) (mPc g σ [.int p1]) (mQi g (f_X6_hardest σ p1).1 (f_X6_hardest σ p1).2 (fun u r => ((ga u 0 (0 : Int32)).toInt = (ga σ 0 (0 : Int32)).toInt) ∧ ((ga u 0 (2 : Int32)).toInt = (ga σ 0 (2 : Int32)).toInt))) 0 0 (mA g) := by
  refine met_M (by decide) rfl (Nat.le_of_ble_eq_true rfl) ?_
  intro p e s m args below meth c C hr hlocks h ls hl
  have hx := C.1.1
  have hb := C.1.2.1
  have hml := C.1.2.2.1
  have hown := C.1.2.2.2.1
  have hts := C.1.2.2.2.2
  have hl : lv_has ls 4 [(0, .ref (g.2.1 99)), (1, .int p1)] := hl
  have hpq : (ga σ 0 (0 : Int32)).toInt = (ga σ 0 (0 : Int32)).toInt := rfl
  have hdq : (ga σ 0 (2 : Int32)).toInt = (ga σ 0 (2 : Int32)).toInt := rfl
  have zlm1 : (-1 : Int32).toInt = -1 := rfl
  have zl0 : (0 : Int32).toInt = 0 := rfl
  have zl1 : (1 : Int32).toInt = 1 := rfl
  refine lv_iload_n hx hb dX6_hardest_0 rfl (lv_at hl 1 rfl) ?_
  refine s_callz (As := [.int p1]) (rest := []) 1 C.1 (k_X6_isSplit l p1) (lw_S q1895 q1896 q152 q1897) rfl rfl (by decide +kernel) ⟨Nat.le_of_ble_eq_true rfl, Nat.le_of_ble_eq_true rfl⟩ rfl hl.1 rfl (Nat.le_of_ble_eq_true rfl) ⟨Nat.le_of_ble_eq_true rfl, Nat.le_of_ble_eq_true rfl⟩ dX6_hardest_1 h.2.2 (fun r1 H locs er1 br1 hz1 hk1 hS1 => ?_)
  have h := h.same hk1 hS1
  clear hz1 hk1 hS1
  refine lv_if_ne (tgt := 13) hx hb dX6_hardest_4 (by decide) (fun c4 => ?_) (fun c4 => ?_)
  · have i4 := c_ne c4
    refine lv_iconst (v := -1) hx hb dX6_hardest_13 (by decide) ?_
    refine lv_istore_n (lv' := [(2, .int (-1 : Int32)), (0, .ref (g.2.1 99)), (1, .int p1)]) hx hb dX6_hardest_14 rfl hl (by decide) rfl (fun ls hl => ?_)
    refine lv_iconst (v := 0) hx hb dX6_hardest_15 (by decide) ?_
    refine lv_istore_n (lv' := [(3, .int (0 : Int32)), (2, .int (-1 : Int32)), (0, .ref (g.2.1 99)), (1, .int p1)]) hx hb dX6_hardest_16 rfl hl (by decide) rfl (fun ls hl => ?_)
    have hL17 : ∀ (n : Nat) (x2_17 : Int32) (x3_17 : Int32) (H : Heap) (locs : List Loc) (ls : Array Slot), (0 ≤ x3_17.toInt ∧ x3_17.toInt ≤ (ga σ 0 (0 : Int32)).toInt ∧ -1 ≤ x2_17.toInt ∧ x2_17.toInt < x3_17.toInt) → ((ga σ 0 (0 : Int32)).toInt - x3_17.toInt).toNat < n → MH g σ s H locs → lv_has ls 4 [(0, .ref (g.2.1 99)), (1, .int p1), (2, .int x2_17), (3, .int x3_17)] → (∀ (x2_17' : Int32) (x3_17' : Int32) (H : Heap) (locs : List Loc) (ls : Array Slot), f_X6_hardest_L17 σ p1 n x2_17 x3_17 = (x2_17', x3_17') → (0 ≤ x3_17'.toInt ∧ x3_17'.toInt ≤ (ga σ 0 (0 : Int32)).toInt ∧ -1 ≤ x2_17'.toInt ∧ x2_17'.toInt < x3_17'.toInt) → MH g σ s H locs → lv_has ls 4 [(0, .ref (g.2.1 99)), (2, .int x2_17')] → W p l e ({ frames := 4, cells := 0, slots := 0, locals := 92 } : Room) s m args below meth c H locs 0 0 (MQ below (mQi g (f_X6_hardest σ p1).1 (f_X6_hardest σ p1).2 (fun u r => ((ga u 0 (0 : Int32)).toInt = (ga σ 0 (0 : Int32)).toInt) ∧ ((ga u 0 (2 : Int32)).toInt = (ga σ 0 (2 : Int32)).toInt))) args s 0 0 (mA g)) (F0 m 55 ls [])) → W p l e ({ frames := 4, cells := 0, slots := 0, locals := 92 } : Room) s m args below meth c H locs 0 0 (MQ below (mQi g (f_X6_hardest σ p1).1 (f_X6_hardest σ p1).2 (fun u r => ((ga u 0 (0 : Int32)).toInt = (ga σ 0 (0 : Int32)).toInt) ∧ ((ga u 0 (2 : Int32)).toInt = (ga σ 0 (2 : Int32)).toInt))) args s 0 0 (mA g)) (F0 m 17 ls []) := by
      intro n
      induction n with
      | zero =>
        intro x2_17 x3_17 H locs ls _ hm; exact absurd hm (Nat.not_lt_zero _)
      | succ n ih =>
        intro x2_17 x3_17 H locs ls hI17 hm h hl kk
        refine lv_iload_n hx hb dX6_hardest_17 rfl (lv_at hl 3 rfl) ?_
        refine lv_aload_n hx hb dX6_hardest_18 rfl (lv_at hl 0 rfl) ?_
        refine Mg_0 C h dX6_hardest_19 ?_
        refine lv_iconst (v := 0) hx hb dX6_hardest_22 (by decide) ?_
        refine Ml_0 C h (ix_of zl0 (by omega)) dX6_hardest_23 ?_
        refine lv_icmp_ge (tgt := 55) hx hb dX6_hardest_24 (by decide) (fun c24 => ?_) (fun c24 => ?_)
        · have i24 := c_le c24
          exact kk x2_17 x3_17 _ _ _ (show f_X6_hardest_L17 σ p1 (n + 1) x2_17 x3_17 = (x2_17, x3_17) from (by exact ((if_pos c24).trans rfl)))  (by first | assumption | omega) h (lv_sub hl [0, 2] rfl)
        · have i24 := c_nle c24
          refine lv_iload_n hx hb dX6_hardest_27 rfl (lv_at hl 2 rfl) ?_
          refine lv_iconst (v := -1) hx hb dX6_hardest_28 (by decide) ?_
          refine lv_icmp_eq (tgt := 47) hx hb dX6_hardest_29 (by decide) (fun c29 => ?_) (fun c29 => ?_)
          · have i29 := c_eq c29
            refine lv_iload_n hx hb dX6_hardest_47 rfl (lv_at hl 3 rfl) ?_
            refine lv_istore_n (lv' := [(2, .int x3_17), (0, .ref (g.2.1 99)), (1, .int p1), (3, .int x3_17)]) hx hb dX6_hardest_48 rfl hl (by decide) rfl (fun ls hl => ?_)
            refine lv_iinc (v := (x3_17 + (1 : Int32))) (lv' := [(3, .int (x3_17 + (1 : Int32))), (2, .int x3_17), (0, .ref (g.2.1 99)), (1, .int p1)]) hx hb dX6_hardest_49 hl (k := 3) rfl rfl (by decide) rfl (fun ls hl => ?_)
            refine lv_goto (tgt := 17) hx hb dX6_hardest_52 (by decide) ?_
            have tt3 : (x3_17 + (1 : Int32)).toInt = (x3_17.toInt + (1)) := (i_add (rfl : x3_17.toInt = x3_17.toInt) zl1 (by omega))
            exact ih x3_17 (x3_17 + (1 : Int32)) _ _ _  (by first | assumption | omega) (by omega) h (lv_sub hl [2, 3, 1, 0] rfl) (fun x2_17' x3_17' H locs ls en hI h hl => kk x2_17' x3_17' H locs ls ((show f_X6_hardest_L17 σ p1 (n + 1) x2_17 x3_17 = f_X6_hardest_L17 σ p1 n x3_17 (x3_17 + (1 : Int32)) from (by exact ((if_neg c24).trans ((if_pos c29).trans rfl)))).trans en) hI h hl)
          · have i29 := c_ne c29
            refine lv_aload_n hx hb dX6_hardest_32 rfl (lv_at hl 0 rfl) ?_
            refine lv_iload_n hx hb dX6_hardest_33 rfl (lv_at hl 3 rfl) ?_
            refine lv_iload_n hx hb dX6_hardest_34 rfl (lv_at hl 1 rfl) ?_
            refine M_calli (As := [.int x3_17, .int p1]) (rest := []) 2 C h (k_X6_dueBy l g σ x3_17 p1 (by first | assumption | omega) (by first | assumption | omega) (by first | assumption | omega)) (lw_V q1898 q1900 qs105 q152 q1901) rfl rfl (by decide +kernel) ⟨Nat.le_of_ble_eq_true rfl, Nat.le_of_ble_eq_true rfl⟩ rfl hl.1 rfl (Nat.le_of_ble_eq_true rfl) ⟨Nat.le_of_ble_eq_true rfl, Nat.le_of_ble_eq_true rfl⟩ dX6_hardest_35 (fun r35 σ35 H locs eσ35 er35 hE35 h => ?_)
            rw [eσ35] at h
            clear hE35
            clear eσ35
            refine lv_aload_n hx hb dX6_hardest_38 rfl (lv_at hl 0 rfl) ?_
            refine lv_iload_n hx hb dX6_hardest_39 rfl (lv_at hl 2 rfl) ?_
            refine lv_iload_n hx hb dX6_hardest_40 rfl (lv_at hl 1 rfl) ?_
            refine M_calli (As := [.int x2_17, .int p1]) (rest := [.int r35]) 2 C h (k_X6_dueBy l g σ x2_17 p1 (by first | assumption | omega) (by first | assumption | omega) (by first | assumption | omega)) (lw_V q1898 q1900 qs105 q152 q1901) rfl rfl (by decide +kernel) ⟨Nat.le_of_ble_eq_true rfl, Nat.le_of_ble_eq_true rfl⟩ rfl hl.1 rfl (Nat.le_of_ble_eq_true rfl) ⟨Nat.le_of_ble_eq_true rfl, Nat.le_of_ble_eq_true rfl⟩ dX6_hardest_41 (fun r41 σ41 H locs eσ41 er41 hE41 h => ?_)
            rw [eσ41] at h
            clear hE41
            clear eσ41
            refine lv_icmp_le (tgt := 49) hx hb dX6_hardest_44 (by decide) (fun c44 => ?_) (fun c44 => ?_)
            · have i44 := c_le c44
              refine lv_iinc (v := (x3_17 + (1 : Int32))) (lv' := [(3, .int (x3_17 + (1 : Int32))), (0, .ref (g.2.1 99)), (1, .int p1), (2, .int x2_17)]) hx hb dX6_hardest_49 hl (k := 3) rfl rfl (by decide) rfl (fun ls hl => ?_)
              refine lv_goto (tgt := 17) hx hb dX6_hardest_52 (by decide) ?_
              have tt3 : (x3_17 + (1 : Int32)).toInt = (x3_17.toInt + (1)) := (i_add (rfl : x3_17.toInt = x3_17.toInt) zl1 (by omega))
              exact ih x2_17 (x3_17 + (1 : Int32)) _ _ _  (by first | assumption | omega) (by omega) h (lv_sub hl [1, 2, 3, 0] rfl) (fun x2_17' x3_17' H locs ls en hI h hl => kk x2_17' x3_17' H locs ls ((show f_X6_hardest_L17 σ p1 (n + 1) x2_17 x3_17 = f_X6_hardest_L17 σ p1 n x2_17 (x3_17 + (1 : Int32)) from (by subst er35; subst er41; exact ((if_neg c24).trans ((if_neg c29).trans ((if_pos c44).trans rfl))))).trans en) hI h hl)
            · have i44 := c_nle c44
              refine lv_iload_n hx hb dX6_hardest_47 rfl (lv_at hl 3 rfl) ?_
              refine lv_istore_n (lv' := [(2, .int x3_17), (0, .ref (g.2.1 99)), (1, .int p1), (3, .int x3_17)]) hx hb dX6_hardest_48 rfl hl (by decide) rfl (fun ls hl => ?_)
              refine lv_iinc (v := (x3_17 + (1 : Int32))) (lv' := [(3, .int (x3_17 + (1 : Int32))), (2, .int x3_17), (0, .ref (g.2.1 99)), (1, .int p1)]) hx hb dX6_hardest_49 hl (k := 3) rfl rfl (by decide) rfl (fun ls hl => ?_)
              refine lv_goto (tgt := 17) hx hb dX6_hardest_52 (by decide) ?_
              have tt3 : (x3_17 + (1 : Int32)).toInt = (x3_17.toInt + (1)) := (i_add (rfl : x3_17.toInt = x3_17.toInt) zl1 (by omega))
              exact ih x3_17 (x3_17 + (1 : Int32)) _ _ _  (by first | assumption | omega) (by omega) h (lv_sub hl [2, 3, 1, 0] rfl) (fun x2_17' x3_17' H locs ls en hI h hl => kk x2_17' x3_17' H locs ls ((show f_X6_hardest_L17 σ p1 (n + 1) x2_17 x3_17 = f_X6_hardest_L17 σ p1 n x3_17 (x3_17 + (1 : Int32)) from (by subst er35; subst er41; exact ((if_neg c24).trans ((if_neg c29).trans ((if_neg c44).trans rfl))))).trans en) hI h hl)
    refine hL17 (7) (-1 : Int32) (0 : Int32) _ _ _  (by first | assumption | omega) (by omega) h (lv_sub hl [2, 3, 1, 0] rfl) (fun x2_17e x3_17e H locs ls eL17 hI17 h hl => ?_)
    have ex2_17e : x2_17e = (f_X6_hardest_L17 σ p1 (7) (-1 : Int32) (0 : Int32)).1 := by rw [eL17]
    have ex3_17e : x3_17e = (f_X6_hardest_L17 σ p1 (7) (-1 : Int32) (0 : Int32)).2 := by rw [eL17]
    refine lv_aload_n hx hb dX6_hardest_55 rfl (lv_at hl 0 rfl) ?_
    refine lv_iload_n hx hb dX6_hardest_56 rfl (lv_at hl 1 rfl) ?_
    refine M_calli (As := [.int x2_17e]) (rest := []) 1 C h (k_X6_orNone l g σ x2_17e) (lw_V q1868 q1870 qs102 q152 q1871) rfl rfl (by decide +kernel) ⟨Nat.le_of_ble_eq_true rfl, Nat.le_of_ble_eq_true rfl⟩ rfl hl.1 rfl (Nat.le_of_ble_eq_true rfl) ⟨Nat.le_of_ble_eq_true rfl, Nat.le_of_ble_eq_true rfl⟩ dX6_hardest_57 (fun r57 σ57 H locs eσ57 er57 hE57 h => ?_)
    clear hE57
    have hNEW : (0 ≤ (ga σ57 0 (0 : Int32)).toInt ∧ (ga σ57 0 (0 : Int32)).toInt ≤ 6) ∧ (0 ≤ (ga σ57 0 (2 : Int32)).toInt ∧ (ga σ57 0 (2 : Int32)).toInt ≤ 16) ∧ ((ga σ57 0 (0 : Int32)).toInt = (ga σ 0 (0 : Int32)).toInt) ∧ ((ga σ57 0 (2 : Int32)).toInt = (ga σ 0 (2 : Int32)).toInt) := ⟨(by rw [eσ57, orNone_s] <;> exact hp), (by rw [eσ57, orNone_s] <;> exact hd), (by rw [eσ57, orNone_s] <;> exact hpq), (by rw [eσ57, orNone_s] <;> exact hdq)⟩
    obtain ⟨hp, hd, hpq, hdq⟩ := hNEW
    have he : f_X6_hardest σ p1 = (σ57, r57) := (by subst er1; subst ex2_17e; subst ex3_17e; subst eσ57; subst er57; exact ((if_neg c4).trans rfl))
    exact M_reti C h hr hlocks (congrArg Prod.fst he) (congrArg Prod.snd he) ⟨hpq, hdq⟩ dX6_hardest_60
  · have i4 := c_eq c4
    refine lv_aload_n hx hb dX6_hardest_7 rfl (lv_at hl 0 rfl) ?_
    refine lv_iconst (v := 1) hx hb dX6_hardest_8 (by decide) ?_
    refine M_calli (As := [.int (1 : Int32)]) (rest := []) 1 C h (k_X6_refuse l g σ (1 : Int32)) (lw_V q1723 q1725 qs71 q152 q1726) rfl rfl (by decide +kernel) ⟨Nat.le_of_ble_eq_true rfl, Nat.le_of_ble_eq_true rfl⟩ rfl hl.1 rfl (Nat.le_of_ble_eq_true rfl) ⟨Nat.le_of_ble_eq_true rfl, Nat.le_of_ble_eq_true rfl⟩ dX6_hardest_9 (fun r9 σ9 H locs eσ9 er9 hE9 h => ?_)
    clear hE9
    have hNEW : (0 ≤ (ga σ9 0 (0 : Int32)).toInt ∧ (ga σ9 0 (0 : Int32)).toInt ≤ 6) ∧ (0 ≤ (ga σ9 0 (2 : Int32)).toInt ∧ (ga σ9 0 (2 : Int32)).toInt ≤ 16) ∧ ((ga σ9 0 (0 : Int32)).toInt = (ga σ 0 (0 : Int32)).toInt) ∧ ((ga σ9 0 (2 : Int32)).toInt = (ga σ 0 (2 : Int32)).toInt) := ⟨(by rw [eσ9, refuse_s] <;> exact hp), (by rw [eσ9, refuse_s] <;> exact hd), (by rw [eσ9, refuse_s] <;> exact hpq), (by rw [eσ9, refuse_s] <;> exact hdq)⟩
    obtain ⟨hp, hd, hpq, hdq⟩ := hNEW
    have he : f_X6_hardest σ p1 = (σ9, r9) := (by subst er1; subst eσ9; subst er9; exact ((if_pos c4).trans rfl))
    exact M_reti C h hr hlocks (congrArg Prod.fst he) (congrArg Prod.snd he) ⟨hpq, hdq⟩ dX6_hardest_12
def f_X6_order (σ : MS) (p1 : Int32) (p2 : Int32) : MS × Int32 := (let r6 := (f_X6_isFrom p1.toInt64 (1 : Int64) (999 : Int64)); if r6 = (0 : Int32) then ((let z27 := (f_X6_refuse σ (1 : Int32)); let σ27 := z27.1; let r27 := z27.2; (σ27, r27))) else ((let jj31 := if (ga σ 0 (2 : Int32)) = (16 : Int32) then ((let z44 := (f_X6_refuse σ (4 : Int32)); let σ44 := z44.1; let r44 := z44.2; (σ44, r44))) else ((let v59 := ((60 : Int32) + ((2 : Int32) * (ga σ 0 (2 : Int32)))); let σ66 := sa σ 0 v59 p1; let σ75 := sa σ66 0 (v59 + (1 : Int32)) p2; let σ85 := sa σ75 0 (2 : Int32) ((ga σ75 0 (2 : Int32)) + (1 : Int32)); let z93 := (f_X6_gives σ85 (ga σ85 0 (2 : Int32))); let σ93 := z93.1; let r93 := z93.2; (σ93, r93))); if p2 = (-1 : Int32) then (jj31) else ((let r19 := (f_X6_isPerson σ p2); if r19 = (0 : Int32) then ((let z27 := (f_X6_refuse σ (1 : Int32)); let σ27 := z27.1; let r27 := z27.2; (σ27, r27))) else (jj31))))))
set_option maxHeartbeats 4000000 in
set_option maxRecDepth 100000 in
theorem k_X6_order (l : Launch) (g : GE) (σ : MS) (p1 : Int32) (p2 : Int32) (hp : 0 ≤ (ga σ 0 (0 : Int32)).toInt ∧ (ga σ 0 (0 : Int32)).toInt ≤ 6) (hd : 0 ≤ (ga σ 0 (2 : Int32)).toInt ∧ (ga σ 0 (2 : Int32)).toInt ≤ 16) : Met l yX6_order (ws_ yX6_order cX6_order 4 (some .int)) ({ frames := 1, cells := 0, slots := 0, locals := 25 } : Room) (mPc g σ [.int p1, .int p2]) (mQi g (f_X6_order σ p1 p2).1 (f_X6_order σ p1 p2).2 (fun u r => ((ga u 0 (0 : Int32)).toInt = (ga σ 0 (0 : Int32)).toInt) ∧ (MFr σ u) ∧ (0 ≤ (ga u 0 (2 : Int32)).toInt ∧ (ga u 0 (2 : Int32)).toInt ≤ 16))) 0 0 (mA g) := by
  refine met_M (by decide) rfl (Nat.le_of_ble_eq_true rfl) ?_
  intro p e s m args below meth c C hr hlocks h ls hl
  have hx := C.1.1
  have hb := C.1.2.1
  have hml := C.1.2.2.1
  have hown := C.1.2.2.2.1
  have hts := C.1.2.2.2.2
  have hl : lv_has ls 4 [(0, .ref (g.2.1 99)), (1, .int p1), (2, .int p2)] := hl
  have hpq : (ga σ 0 (0 : Int32)).toInt = (ga σ 0 (0 : Int32)).toInt := rfl
  have hdq : (ga σ 0 (2 : Int32)).toInt = (ga σ 0 (2 : Int32)).toInt := rfl
  have hLF : MFr σ σ := Fr.rf
  have zlm1 : (-1 : Int32).toInt = -1 := rfl
  have zl0 : (0 : Int32).toInt = 0 := rfl
  have zl1 : (1 : Int32).toInt = 1 := rfl
  have zl2 : (2 : Int32).toInt = 2 := rfl
  have zl4 : (4 : Int32).toInt = 4 := rfl
  have zl16 : (16 : Int32).toInt = 16 := rfl
  have zl60 : (60 : Int32).toInt = 60 := rfl
  refine lv_iload_n hx hb dX6_order_0 rfl (lv_at hl 1 rfl) ?_
  refine lv_i2l (v := p1.toInt64) hx hb dX6_order_1 rfl ?_
  refine lv_lconst (v := 1) hx hb dX6_order_2 (by decide) ?_
  refine lv_ldc2 hx hb hown (hts _ q1935) dX6_order_3 ?_
  refine s_callz (As := [.long p1.toInt64, .long (1 : Int64), .long (999 : Int64)]) (rest := []) 3 C.1 (k_X6_isFrom l p1.toInt64 (1 : Int64) (999 : Int64)) (lw_S q1936 q1937 q152 q1938) rfl rfl (by decide +kernel) ⟨Nat.le_of_ble_eq_true rfl, Nat.le_of_ble_eq_true rfl⟩ rfl hl.1 rfl (Nat.le_of_ble_eq_true rfl) ⟨Nat.le_of_ble_eq_true rfl, Nat.le_of_ble_eq_true rfl⟩ dX6_order_6 h.2.2 (fun r6 H locs er6 br6 hz1 hk1 hS1 => ?_)
  have h := h.same hk1 hS1
  clear hz1 hk1 hS1
  refine lv_if_eq (tgt := 25) hx hb dX6_order_9 (by decide) (fun c9 => ?_) (fun c9 => ?_)
  · have i9 := c_eq c9
    refine lv_aload_n hx hb dX6_order_25 rfl (lv_at hl 0 rfl) ?_
    refine lv_iconst (v := 1) hx hb dX6_order_26 (by decide) ?_
    refine M_calli (As := [.int (1 : Int32)]) (rest := []) 1 C h (k_X6_refuse l g σ (1 : Int32)) (lw_V q1723 q1725 qs71 q152 q1726) rfl rfl (by decide +kernel) ⟨Nat.le_of_ble_eq_true rfl, Nat.le_of_ble_eq_true rfl⟩ rfl hl.1 rfl (Nat.le_of_ble_eq_true rfl) ⟨Nat.le_of_ble_eq_true rfl, Nat.le_of_ble_eq_true rfl⟩ dX6_order_27 (fun r27 σ27 H locs eσ27 er27 hE27 h => ?_)
    clear hE27
    have hNEW : (0 ≤ (ga σ27 0 (0 : Int32)).toInt ∧ (ga σ27 0 (0 : Int32)).toInt ≤ 6) ∧ (0 ≤ (ga σ27 0 (2 : Int32)).toInt ∧ (ga σ27 0 (2 : Int32)).toInt ≤ 16) ∧ ((ga σ27 0 (0 : Int32)).toInt = (ga σ 0 (0 : Int32)).toInt) ∧ ((ga σ27 0 (2 : Int32)).toInt = (ga σ 0 (2 : Int32)).toInt) ∧ (MFr σ σ27) := ⟨(by rw [eσ27, refuse_s] <;> exact hp), (by rw [eσ27, refuse_s] <;> exact hd), (by rw [eσ27, refuse_s] <;> exact hpq), (by rw [eσ27, refuse_s] <;> exact hdq), (by rw [eσ27, refuse_s]; exact Fr_si (by decide) hLF)⟩
    obtain ⟨hp, hd, hpq, hdq, hLF⟩ := hNEW
    have he : f_X6_order σ p1 p2 = (σ27, r27) := (by subst er6; subst eσ27; subst er27; exact ((if_pos c9).trans rfl))
    exact M_reti C h hr hlocks (congrArg Prod.fst he) (congrArg Prod.snd he) ⟨hpq, hLF, (by first | assumption | omega | (unfold Hd; omega))⟩ dX6_order_30
  · have i9 := c_ne c9
    have okr6 := isFrom_ok er6 c9
    refine lv_iload_n hx hb dX6_order_12 rfl (lv_at hl 2 rfl) ?_
    refine lv_iconst (v := -1) hx hb dX6_order_13 (by decide) ?_
    have j31 : ∀  (H : Heap) (locs : List Loc) (ls : Array Slot) (ej31 : f_X6_order σ p1 p2 = if (ga σ 0 (2 : Int32)) = (16 : Int32) then ((let z44 := (f_X6_refuse σ (4 : Int32)); let σ44 := z44.1; let r44 := z44.2; (σ44, r44))) else ((let v59 := ((60 : Int32) + ((2 : Int32) * (ga σ 0 (2 : Int32)))); let σ66 := sa σ 0 v59 p1; let σ75 := sa σ66 0 (v59 + (1 : Int32)) p2; let σ85 := sa σ75 0 (2 : Int32) ((ga σ75 0 (2 : Int32)) + (1 : Int32)); let z93 := (f_X6_gives σ85 (ga σ85 0 (2 : Int32))); let σ93 := z93.1; let r93 := z93.2; (σ93, r93)))) (h : MH g σ s H locs) (hl : lv_has ls 4 [(0, .ref (g.2.1 99)), (1, .int p1), (2, .int p2)]), W p l e ({ frames := 1, cells := 0, slots := 0, locals := 25 } : Room) s m args below meth c H locs 0 0 (MQ below (mQi g (f_X6_order σ p1 p2).1 (f_X6_order σ p1 p2).2 (fun u r => ((ga u 0 (0 : Int32)).toInt = (ga σ 0 (0 : Int32)).toInt) ∧ (MFr σ u) ∧ (0 ≤ (ga u 0 (2 : Int32)).toInt ∧ (ga u 0 (2 : Int32)).toInt ≤ 16))) args s 0 0 (mA g)) (F0 m 31 ls []) := by
      intro  H locs ls ej31 h hl
      refine lv_aload_n hx hb dX6_order_31 rfl (lv_at hl 0 rfl) ?_
      refine Mg_0 C h dX6_order_32 ?_
      refine lv_iconst (v := 2) hx hb dX6_order_35 (by decide) ?_
      refine Ml_0 C h (ix_of zl2 (by omega)) dX6_order_36 ?_
      refine lv_bipush (v := 16) hx hb dX6_order_37 (by decide) ?_
      refine lv_icmp_ne (tgt := 48) hx hb dX6_order_39 (by decide) (fun c39 => ?_) (fun c39 => ?_)
      · have i39 := c_ne c39
        have hd5 : (ga σ 0 (2 : Int32)).toInt ≤ 15 := (by omega)
        refine lv_bipush (v := 60) hx hb dX6_order_48 (by decide) ?_
        refine lv_iconst (v := 2) hx hb dX6_order_50 (by decide) ?_
        refine lv_aload_n hx hb dX6_order_51 rfl (lv_at hl 0 rfl) ?_
        refine Mg_0 C h dX6_order_52 ?_
        refine lv_iconst (v := 2) hx hb dX6_order_55 (by decide) ?_
        refine Ml_0 C h (ix_of zl2 (by omega)) dX6_order_56 ?_
        refine lv_imul hx hb dX6_order_57 ?_
        refine lv_iadd hx hb dX6_order_58 ?_
        refine lv_topi (fun v59 ev59 => ?_)
        have tv59 : v59.toInt = ((60) + ((2) * (ga σ 0 (2 : Int32)).toInt)) := by rw [ev59]; exact (i_add zl60 (i_mul zl2 (rfl : (ga σ 0 (2 : Int32)).toInt = (ga σ 0 (2 : Int32)).toInt) (by omega)) (by omega))
        refine lv_istore_n (lv' := [(3, .int v59), (0, .ref (g.2.1 99)), (1, .int p1), (2, .int p2)]) hx hb dX6_order_59 rfl hl (by decide) rfl (fun ls hl => ?_)
        refine lv_aload_n hx hb dX6_order_60 rfl (lv_at hl 1 rfl) ?_
        refine Mg_0 C h dX6_order_61 ?_
        refine lv_iload_n hx hb dX6_order_64 rfl (lv_at hl 0 rfl) ?_
        refine lv_iload_n hx hb dX6_order_65 rfl (lv_at hl 2 rfl) ?_
        refine Ms_0 C h (ix_of tv59 (by omega)) dX6_order_66 (fun σ66 H locs eσ66 h => ?_)
        have hNEW : (0 ≤ (ga σ66 0 (0 : Int32)).toInt ∧ (ga σ66 0 (0 : Int32)).toInt ≤ 6) ∧ (0 ≤ (ga σ66 0 (2 : Int32)).toInt ∧ (ga σ66 0 (2 : Int32)).toInt ≤ 16) ∧ ((ga σ66 0 (0 : Int32)).toInt = (ga σ 0 (0 : Int32)).toInt) ∧ ((ga σ66 0 (2 : Int32)).toInt = (ga σ 0 (2 : Int32)).toInt) ∧ (MFr σ σ66) ∧ ((ga σ66 0 (2 : Int32)).toInt ≤ 15) := ⟨(by rw [eσ66, ga_sa_ne (j := (0 : Int32)) tv59 zl0 (by omega)] <;> exact hp), (by rw [eσ66, ga_sa_ne (j := (2 : Int32)) tv59 zl2 (by omega)] <;> exact hd), (by rw [eσ66, ga_sa_ne (j := (0 : Int32)) tv59 zl0 (by omega)] <;> exact hpq), (by rw [eσ66, ga_sa_ne (j := (2 : Int32)) tv59 zl2 (by omega)] <;> exact hdq), (by rw [eσ66]; exact (Fr_sa tv59 (by first | omega | (dsimp only; omega)) (by omega) hLF)), (by rw [eσ66, ga_sa_ne (j := (2 : Int32)) tv59 zl2 (by omega)] <;> exact hd5)⟩
        obtain ⟨hp, hd, hpq, hdq, hLF, hd5⟩ := hNEW
        refine lv_aload_n hx hb dX6_order_67 rfl (lv_at hl 1 rfl) ?_
        refine Mg_0 C h dX6_order_68 ?_
        refine lv_iload_n hx hb dX6_order_71 rfl (lv_at hl 0 rfl) ?_
        refine lv_iconst (v := 1) hx hb dX6_order_72 (by decide) ?_
        refine lv_iadd hx hb dX6_order_73 ?_
        refine lv_iload_n hx hb dX6_order_74 rfl (lv_at hl 3 rfl) ?_
        refine Ms_0 C h (ix_of (i_add tv59 zl1 (by omega)) (by omega)) dX6_order_75 (fun σ75 H locs eσ75 h => ?_)
        have hNEW : (0 ≤ (ga σ75 0 (0 : Int32)).toInt ∧ (ga σ75 0 (0 : Int32)).toInt ≤ 6) ∧ (0 ≤ (ga σ75 0 (2 : Int32)).toInt ∧ (ga σ75 0 (2 : Int32)).toInt ≤ 16) ∧ ((ga σ75 0 (0 : Int32)).toInt = (ga σ 0 (0 : Int32)).toInt) ∧ ((ga σ75 0 (2 : Int32)).toInt = (ga σ 0 (2 : Int32)).toInt) ∧ (MFr σ σ75) ∧ ((ga σ75 0 (2 : Int32)).toInt ≤ 15) := ⟨(by rw [eσ75, ga_sa_ne (j := (0 : Int32)) (i_add tv59 zl1 (by omega)) zl0 (by omega)] <;> exact hp), (by rw [eσ75, ga_sa_ne (j := (2 : Int32)) (i_add tv59 zl1 (by omega)) zl2 (by omega)] <;> exact hd), (by rw [eσ75, ga_sa_ne (j := (0 : Int32)) (i_add tv59 zl1 (by omega)) zl0 (by omega)] <;> exact hpq), (by rw [eσ75, ga_sa_ne (j := (2 : Int32)) (i_add tv59 zl1 (by omega)) zl2 (by omega)] <;> exact hdq), (by rw [eσ75]; exact (Fr_sa (i_add tv59 zl1 (by omega)) (by first | omega | (dsimp only; omega)) (by omega) hLF)), (by rw [eσ75, ga_sa_ne (j := (2 : Int32)) (i_add tv59 zl1 (by omega)) zl2 (by omega)] <;> exact hd5)⟩
        clear hp hd hpq hdq hLF hd5
        obtain ⟨hp, hd, hpq, hdq, hLF, hd5⟩ := hNEW
        refine lv_aload_n hx hb dX6_order_76 rfl (lv_at hl 1 rfl) ?_
        refine Mg_0 C h dX6_order_77 ?_
        refine lv_iconst (v := 2) hx hb dX6_order_80 (by decide) ?_
        refine lv_dup2_11 hx hb dX6_order_81 rfl rfl ?_
        refine Ml_0 C h (ix_of zl2 (by omega)) dX6_order_82 ?_
        refine lv_iconst (v := 1) hx hb dX6_order_83 (by decide) ?_
        refine lv_iadd hx hb dX6_order_84 ?_
        refine Ms_0 C h (ix_of zl2 (by omega)) dX6_order_85 (fun σ85 H locs eσ85 h => ?_)
        have hNEW : (0 ≤ (ga σ85 0 (0 : Int32)).toInt ∧ (ga σ85 0 (0 : Int32)).toInt ≤ 6) ∧ (0 ≤ (ga σ85 0 (2 : Int32)).toInt ∧ (ga σ85 0 (2 : Int32)).toInt ≤ 16) ∧ ((ga σ85 0 (0 : Int32)).toInt = (ga σ 0 (0 : Int32)).toInt) ∧ (MFr σ σ85) := ⟨(by rw [eσ85, ga_sa_ne (j := (0 : Int32)) zl2 zl0 (by omega)] <;> exact hp), (by have t := i_add (a := ga σ75 0 (2 : Int32)) (b := (1 : Int32)) rfl zl1 (by omega); rw [eσ85, ga_sa_eq, t]; omega), (by rw [eσ85, ga_sa_ne (j := (0 : Int32)) zl2 zl0 (by omega)] <;> exact hpq), (by rw [eσ85]; exact (Fr_sa zl2 (by first | omega | (dsimp only; omega)) (by omega) hLF))⟩
        clear hp hd hpq hLF
        obtain ⟨hp, hd, hpq, hLF⟩ := hNEW
        refine lv_aload_n hx hb dX6_order_86 rfl (lv_at hl 1 rfl) ?_
        refine lv_aload_n hx hb dX6_order_87 rfl (lv_at hl 1 rfl) ?_
        refine Mg_0 C h dX6_order_88 ?_
        refine lv_iconst (v := 2) hx hb dX6_order_91 (by decide) ?_
        refine Ml_0 C h (ix_of zl2 (by omega)) dX6_order_92 ?_
        refine M_calli (As := [.int (ga σ85 0 (2 : Int32))]) (rest := []) 1 C h (k_X6_gives l g σ85 (ga σ85 0 (2 : Int32))) (lw_V q1806 q1808 qs91 q152 q1809) rfl rfl (by decide +kernel) ⟨Nat.le_of_ble_eq_true rfl, Nat.le_of_ble_eq_true rfl⟩ rfl hl.1 rfl (Nat.le_of_ble_eq_true rfl) ⟨Nat.le_of_ble_eq_true rfl, Nat.le_of_ble_eq_true rfl⟩ dX6_order_93 (fun r93 σ93 H locs eσ93 er93 hE93 h => ?_)
        clear hE93
        have hNEW : (0 ≤ (ga σ93 0 (0 : Int32)).toInt ∧ (ga σ93 0 (0 : Int32)).toInt ≤ 6) ∧ (0 ≤ (ga σ93 0 (2 : Int32)).toInt ∧ (ga σ93 0 (2 : Int32)).toInt ≤ 16) ∧ ((ga σ93 0 (0 : Int32)).toInt = (ga σ 0 (0 : Int32)).toInt) ∧ (MFr σ σ93) := ⟨(by rw [eσ93, gives_s] <;> exact hp), (by rw [eσ93, gives_s] <;> exact hd), (by rw [eσ93, gives_s] <;> exact hpq), (by rw [eσ93, gives_s]; exact Fr_si (by decide) hLF)⟩
        clear hp hd hpq hLF
        obtain ⟨hp, hd, hpq, hLF⟩ := hNEW
        have he : f_X6_order σ p1 p2 = (σ93, r93) := (by subst ev59; subst eσ66; subst eσ75; subst eσ85; subst eσ93; subst er93; exact (ej31.trans ((if_neg c39).trans rfl)))
        exact M_reti C h hr hlocks (congrArg Prod.fst he) (congrArg Prod.snd he) ⟨hpq, hLF, (by first | assumption | omega | (unfold Hd; omega))⟩ dX6_order_96
      · have i39 := c_eq c39
        refine lv_aload_n hx hb dX6_order_42 rfl (lv_at hl 0 rfl) ?_
        refine lv_iconst (v := 4) hx hb dX6_order_43 (by decide) ?_
        refine M_calli (As := [.int (4 : Int32)]) (rest := []) 1 C h (k_X6_refuse l g σ (4 : Int32)) (lw_V q1723 q1725 qs71 q152 q1726) rfl rfl (by decide +kernel) ⟨Nat.le_of_ble_eq_true rfl, Nat.le_of_ble_eq_true rfl⟩ rfl hl.1 rfl (Nat.le_of_ble_eq_true rfl) ⟨Nat.le_of_ble_eq_true rfl, Nat.le_of_ble_eq_true rfl⟩ dX6_order_44 (fun r44 σ44 H locs eσ44 er44 hE44 h => ?_)
        clear hE44
        have hNEW : (0 ≤ (ga σ44 0 (0 : Int32)).toInt ∧ (ga σ44 0 (0 : Int32)).toInt ≤ 6) ∧ (0 ≤ (ga σ44 0 (2 : Int32)).toInt ∧ (ga σ44 0 (2 : Int32)).toInt ≤ 16) ∧ ((ga σ44 0 (0 : Int32)).toInt = (ga σ 0 (0 : Int32)).toInt) ∧ ((ga σ44 0 (2 : Int32)).toInt = (ga σ 0 (2 : Int32)).toInt) ∧ (MFr σ σ44) := ⟨(by rw [eσ44, refuse_s] <;> exact hp), (by rw [eσ44, refuse_s] <;> exact hd), (by rw [eσ44, refuse_s] <;> exact hpq), (by rw [eσ44, refuse_s] <;> exact hdq), (by rw [eσ44, refuse_s]; exact Fr_si (by decide) hLF)⟩
        obtain ⟨hp, hd, hpq, hdq, hLF⟩ := hNEW
        have he : f_X6_order σ p1 p2 = (σ44, r44) := (by subst eσ44; subst er44; exact (ej31.trans ((if_pos c39).trans rfl)))
        exact M_reti C h hr hlocks (congrArg Prod.fst he) (congrArg Prod.snd he) ⟨hpq, hLF, (by first | assumption | omega | (unfold Hd; omega))⟩ dX6_order_47
    refine lv_icmp_eq (tgt := 31) hx hb dX6_order_14 (by decide) (fun c14 => ?_) (fun c14 => ?_)
    · have i14 := c_eq c14
      exact j31  _ _ _ (by subst er6; exact ((if_neg c9).trans ((if_pos c14).trans rfl))) h hl
    · have i14 := c_ne c14
      refine lv_aload_n hx hb dX6_order_17 rfl (lv_at hl 0 rfl) ?_
      refine lv_iload_n hx hb dX6_order_18 rfl (lv_at hl 2 rfl) ?_
      refine M_callz (As := [.int p2]) (rest := []) 1 C h (k_X6_isPerson l g σ p2) (lw_V q1864 q1866 qs101 q152 q1867) rfl rfl (by decide +kernel) ⟨Nat.le_of_ble_eq_true rfl, Nat.le_of_ble_eq_true rfl⟩ rfl hl.1 rfl (Nat.le_of_ble_eq_true rfl) ⟨Nat.le_of_ble_eq_true rfl, Nat.le_of_ble_eq_true rfl⟩ dX6_order_19 (fun r19 σ19 H locs eσ19 er19 br19 hE19 h => ?_)
      rw [eσ19] at h
      clear hE19
      clear eσ19
      refine lv_if_ne (tgt := 31) hx hb dX6_order_22 (by decide) (fun c22 => ?_) (fun c22 => ?_)
      · have i22 := c_ne c22
        have okr19 := isPerson_ok er19 c22
        exact j31  _ _ _ (by subst er6; subst er19; exact ((if_neg c9).trans ((if_neg c14).trans ((if_neg c22).trans rfl)))) h hl
      · have i22 := c_eq c22
        refine lv_aload_n hx hb dX6_order_25 rfl (lv_at hl 0 rfl) ?_
        refine lv_iconst (v := 1) hx hb dX6_order_26 (by decide) ?_
        refine M_calli (As := [.int (1 : Int32)]) (rest := []) 1 C h (k_X6_refuse l g σ (1 : Int32)) (lw_V q1723 q1725 qs71 q152 q1726) rfl rfl (by decide +kernel) ⟨Nat.le_of_ble_eq_true rfl, Nat.le_of_ble_eq_true rfl⟩ rfl hl.1 rfl (Nat.le_of_ble_eq_true rfl) ⟨Nat.le_of_ble_eq_true rfl, Nat.le_of_ble_eq_true rfl⟩ dX6_order_27 (fun r27 σ27 H locs eσ27 er27 hE27 h => ?_)
        clear hE27
        have hNEW : (0 ≤ (ga σ27 0 (0 : Int32)).toInt ∧ (ga σ27 0 (0 : Int32)).toInt ≤ 6) ∧ (0 ≤ (ga σ27 0 (2 : Int32)).toInt ∧ (ga σ27 0 (2 : Int32)).toInt ≤ 16) ∧ ((ga σ27 0 (0 : Int32)).toInt = (ga σ 0 (0 : Int32)).toInt) ∧ ((ga σ27 0 (2 : Int32)).toInt = (ga σ 0 (2 : Int32)).toInt) ∧ (MFr σ σ27) := ⟨(by rw [eσ27, refuse_s] <;> exact hp), (by rw [eσ27, refuse_s] <;> exact hd), (by rw [eσ27, refuse_s] <;> exact hpq), (by rw [eσ27, refuse_s] <;> exact hdq), (by rw [eσ27, refuse_s]; exact Fr_si (by decide) hLF)⟩
        obtain ⟨hp, hd, hpq, hdq, hLF⟩ := hNEW
        have he : f_X6_order σ p1 p2 = (σ27, r27) := (by subst er6; subst er19; subst eσ27; subst er27; exact ((if_neg c9).trans ((if_neg c14).trans ((if_pos c22).trans rfl))))
        exact M_reti C h hr hlocks (congrArg Prod.fst he) (congrArg Prod.snd he) ⟨hpq, hLF, (by first | assumption | omega | (unfold Hd; omega))⟩ dX6_order_30
def f_X6_strike (σ : MS) : MS × Int32 := if (ga σ 0 (2 : Int32)) = (0 : Int32) then ((let z12 := (f_X6_refuse σ (6 : Int32)); let σ12 := z12.1; let r12 := z12.2; (σ12, r12))) else ((let σ25 := sa σ 0 (2 : Int32) ((ga σ 0 (2 : Int32)) - (1 : Int32)); let z43 := (f_X6_gives σ25 (ga σ25 0 ((60 : Int32) + ((2 : Int32) * (ga σ25 0 (2 : Int32)))))); let σ43 := z43.1; let r43 := z43.2; (σ43, r43)))
set_option maxHeartbeats 4000000 in
set_option maxRecDepth 100000 in
theorem k_X6_strike (l : Launch) (g : GE) (σ : MS) (hd : 0 ≤ (ga σ 0 (2 : Int32)).toInt ∧ (ga σ 0 (2 : Int32)).toInt ≤ 16) : Met l yX6_strike (ws_ yX6_strike cX6_strike 1 (some .int)) ({ frames := 1, cells := 0, slots := 0, locals := 21 } : Room) (mPc g σ []) (mQi g (f_X6_strike σ).1 (f_X6_strike σ).2 (fun u r => (MFr σ u) ∧ (0 ≤ (ga u 0 (2 : Int32)).toInt ∧ (ga u 0 (2 : Int32)).toInt ≤ 16))) 0 0 (mA g) := by
  refine met_M (by decide) rfl (Nat.le_of_ble_eq_true rfl) ?_
  intro p e s m args below meth c C hr hlocks h ls hl
  have hx := C.1.1
  have hb := C.1.2.1
  have hml := C.1.2.2.1
  have hown := C.1.2.2.2.1
  have hts := C.1.2.2.2.2
  have hl : lv_has ls 1 [(0, .ref (g.2.1 99))] := hl
  have hdq : (ga σ 0 (2 : Int32)).toInt = (ga σ 0 (2 : Int32)).toInt := rfl
  have hLF : MFr σ σ := Fr.rf
  have zl0 : (0 : Int32).toInt = 0 := rfl
  have zl1 : (1 : Int32).toInt = 1 := rfl
  have zl2 : (2 : Int32).toInt = 2 := rfl
  have zl6 : (6 : Int32).toInt = 6 := rfl
  have zl60 : (60 : Int32).toInt = 60 := rfl
  refine lv_aload_n hx hb dX6_strike_0 rfl (lv_at hl 0 rfl) ?_
  refine Mg_0 C h dX6_strike_1 ?_
  refine lv_iconst (v := 2) hx hb dX6_strike_4 (by decide) ?_
  refine Ml_0 C h (ix_of zl2 (by omega)) dX6_strike_5 ?_
  refine lv_if_ne (tgt := 16) hx hb dX6_strike_6 (by decide) (fun c6 => ?_) (fun c6 => ?_)
  · have i6 := c_ne c6
    have hd5 : 1 ≤ (ga σ 0 (2 : Int32)).toInt := (by omega)
    refine lv_aload_n hx hb dX6_strike_16 rfl (lv_at hl 0 rfl) ?_
    refine Mg_0 C h dX6_strike_17 ?_
    refine lv_iconst (v := 2) hx hb dX6_strike_20 (by decide) ?_
    refine lv_dup2_11 hx hb dX6_strike_21 rfl rfl ?_
    refine Ml_0 C h (ix_of zl2 (by omega)) dX6_strike_22 ?_
    refine lv_iconst (v := 1) hx hb dX6_strike_23 (by decide) ?_
    refine lv_isub hx hb dX6_strike_24 ?_
    refine Ms_0 C h (ix_of zl2 (by omega)) dX6_strike_25 (fun σ25 H locs eσ25 h => ?_)
    have hNEW : (0 ≤ (ga σ25 0 (2 : Int32)).toInt ∧ (ga σ25 0 (2 : Int32)).toInt ≤ 16) ∧ (MFr σ σ25) := ⟨(by have t := i_sub (a := ga σ 0 (2 : Int32)) (b := (1 : Int32)) rfl zl1 (by omega); rw [eσ25, ga_sa_eq, t]; omega), (by rw [eσ25]; exact (Fr_sa zl2 (by first | omega | (dsimp only; omega)) (by omega) hLF))⟩
    obtain ⟨hd, hLF⟩ := hNEW
    refine lv_aload_n hx hb dX6_strike_26 rfl (lv_at hl 0 rfl) ?_
    refine lv_aload_n hx hb dX6_strike_27 rfl (lv_at hl 0 rfl) ?_
    refine Mg_0 C h dX6_strike_28 ?_
    refine lv_bipush (v := 60) hx hb dX6_strike_31 (by decide) ?_
    refine lv_iconst (v := 2) hx hb dX6_strike_33 (by decide) ?_
    refine lv_aload_n hx hb dX6_strike_34 rfl (lv_at hl 0 rfl) ?_
    refine Mg_0 C h dX6_strike_35 ?_
    refine lv_iconst (v := 2) hx hb dX6_strike_38 (by decide) ?_
    refine Ml_0 C h (ix_of zl2 (by omega)) dX6_strike_39 ?_
    refine lv_imul hx hb dX6_strike_40 ?_
    refine lv_iadd hx hb dX6_strike_41 ?_
    refine Ml_0 C h (ix_of (i_add zl60 (i_mul zl2 (rfl : (ga σ25 0 (2 : Int32)).toInt = (ga σ25 0 (2 : Int32)).toInt) (by omega)) (by omega)) (by omega)) dX6_strike_42 ?_
    refine M_calli (As := [.int (ga σ25 0 ((60 : Int32) + ((2 : Int32) * (ga σ25 0 (2 : Int32)))))]) (rest := []) 1 C h (k_X6_gives l g σ25 (ga σ25 0 ((60 : Int32) + ((2 : Int32) * (ga σ25 0 (2 : Int32)))))) (lw_V q1806 q1808 qs91 q152 q1809) rfl rfl (by decide +kernel) ⟨Nat.le_of_ble_eq_true rfl, Nat.le_of_ble_eq_true rfl⟩ rfl hl.1 rfl (Nat.le_of_ble_eq_true rfl) ⟨Nat.le_of_ble_eq_true rfl, Nat.le_of_ble_eq_true rfl⟩ dX6_strike_43 (fun r43 σ43 H locs eσ43 er43 hE43 h => ?_)
    clear hE43
    have hNEW : (0 ≤ (ga σ43 0 (2 : Int32)).toInt ∧ (ga σ43 0 (2 : Int32)).toInt ≤ 16) ∧ (MFr σ σ43) := ⟨(by rw [eσ43, gives_s] <;> exact hd), (by rw [eσ43, gives_s]; exact Fr_si (by decide) hLF)⟩
    clear hd hLF
    obtain ⟨hd, hLF⟩ := hNEW
    have he : f_X6_strike σ = (σ43, r43) := (by subst eσ25; subst eσ43; subst er43; exact ((if_neg c6).trans rfl))
    exact M_reti C h hr hlocks (congrArg Prod.fst he) (congrArg Prod.snd he) ⟨hLF, (by first | assumption | omega | (unfold Hd; omega))⟩ dX6_strike_46
  · have i6 := c_eq c6
    refine lv_aload_n hx hb dX6_strike_9 rfl (lv_at hl 0 rfl) ?_
    refine lv_bipush (v := 6) hx hb dX6_strike_10 (by decide) ?_
    refine M_calli (As := [.int (6 : Int32)]) (rest := []) 1 C h (k_X6_refuse l g σ (6 : Int32)) (lw_V q1723 q1725 qs71 q152 q1726) rfl rfl (by decide +kernel) ⟨Nat.le_of_ble_eq_true rfl, Nat.le_of_ble_eq_true rfl⟩ rfl hl.1 rfl (Nat.le_of_ble_eq_true rfl) ⟨Nat.le_of_ble_eq_true rfl, Nat.le_of_ble_eq_true rfl⟩ dX6_strike_12 (fun r12 σ12 H locs eσ12 er12 hE12 h => ?_)
    clear hE12
    have hNEW : (0 ≤ (ga σ12 0 (2 : Int32)).toInt ∧ (ga σ12 0 (2 : Int32)).toInt ≤ 16) ∧ ((ga σ12 0 (2 : Int32)).toInt = (ga σ 0 (2 : Int32)).toInt) ∧ (MFr σ σ12) := ⟨(by rw [eσ12, refuse_s] <;> exact hd), (by rw [eσ12, refuse_s] <;> exact hdq), (by rw [eσ12, refuse_s]; exact Fr_si (by decide) hLF)⟩
    obtain ⟨hd, hdq, hLF⟩ := hNEW
    have he : f_X6_strike σ = (σ12, r12) := (by subst eσ12; subst er12; exact ((if_pos c6).trans rfl))
    exact M_reti C h hr hlocks (congrArg Prod.fst he) (congrArg Prod.snd he) ⟨hLF, (by first | assumption | omega | (unfold Hd; omega))⟩ dX6_strike_15
def f_X6_split (σ : MS) (p1 : Int32) : MS × Int32 := (let r1 := (f_X6_isSplit p1); if r1 = (0 : Int32) then ((let z9 := (f_X6_is σ (1 : Int32)); let σ9 := z9.1; let r9 := z9.2; (σ9, r9))) else ((let σ19 := sa σ 0 (3 : Int32) p1; let z22 := (f_X6_is σ19 (0 : Int32)); let σ22 := z22.1; let r22 := z22.2; (σ22, r22))))
set_option maxHeartbeats 4000000 in
set_option maxRecDepth 100000 in
theorem k_X6_split (l : Launch) (g : GE) (σ : MS) (p1 : Int32) : Met l yX6_split (ws_ yX6_split cX6_split 2 (some .boolean)) ({ frames := 1, cells := 0, slots := 0, locals := 21 } : Room) (mPc g σ [.int p1]) (mQz g (f_X6_split σ p1).1 (f_X6_split σ p1).2 (fun u r => (MFr σ u))) 0 0 (mA g) := by
  refine met_M (by decide) rfl (Nat.le_of_ble_eq_true rfl) ?_
  intro p e s m args below meth c C hr hlocks h ls hl
  have hx := C.1.1
  have hb := C.1.2.1
  have hml := C.1.2.2.1
  have hown := C.1.2.2.2.1
  have hts := C.1.2.2.2.2
  have hl : lv_has ls 2 [(0, .ref (g.2.1 99)), (1, .int p1)] := hl
  have hLF : MFr σ σ := Fr.rf
  have zl0 : (0 : Int32).toInt = 0 := rfl
  have zl1 : (1 : Int32).toInt = 1 := rfl
  have zl3 : (3 : Int32).toInt = 3 := rfl
  refine lv_iload_n hx hb dX6_split_0 rfl (lv_at hl 1 rfl) ?_
  refine s_callz (As := [.int p1]) (rest := []) 1 C.1 (k_X6_isSplit l p1) (lw_S q1895 q1896 q152 q1897) rfl rfl (by decide +kernel) ⟨Nat.le_of_ble_eq_true rfl, Nat.le_of_ble_eq_true rfl⟩ rfl hl.1 rfl (Nat.le_of_ble_eq_true rfl) ⟨Nat.le_of_ble_eq_true rfl, Nat.le_of_ble_eq_true rfl⟩ dX6_split_1 h.2.2 (fun r1 H locs er1 br1 hz1 hk1 hS1 => ?_)
  have h := h.same hk1 hS1
  clear hz1 hk1 hS1
  refine lv_if_ne (tgt := 13) hx hb dX6_split_4 (by decide) (fun c4 => ?_) (fun c4 => ?_)
  · have i4 := c_ne c4
    refine lv_aload_n hx hb dX6_split_13 rfl (lv_at hl 0 rfl) ?_
    refine Mg_0 C h dX6_split_14 ?_
    refine lv_iconst (v := 3) hx hb dX6_split_17 (by decide) ?_
    refine lv_iload_n hx hb dX6_split_18 rfl (lv_at hl 1 rfl) ?_
    refine Ms_0 C h (ix_of zl3 (by omega)) dX6_split_19 (fun σ19 H locs eσ19 h => ?_)
    have hLF : MFr σ σ19 := by rw [eσ19]; exact (Fr_sa zl3 (by first | omega | (dsimp only; omega)) (by omega) hLF)
    refine lv_aload_n hx hb dX6_split_20 rfl (lv_at hl 0 rfl) ?_
    refine lv_iconst (v := 0) hx hb dX6_split_21 (by decide) ?_
    refine M_callz (As := [.int (0 : Int32)]) (rest := []) 1 C h (k_X6_is l g σ19 (0 : Int32)) (lw_V q1663 q1665 qs65 q152 q1666) rfl rfl (by decide +kernel) ⟨Nat.le_of_ble_eq_true rfl, Nat.le_of_ble_eq_true rfl⟩ rfl hl.1 rfl (Nat.le_of_ble_eq_true rfl) ⟨Nat.le_of_ble_eq_true rfl, Nat.le_of_ble_eq_true rfl⟩ dX6_split_22 (fun r22 σ22 H locs eσ22 er22 br22 hE22 h => ?_)
    clear hE22
    replace hLF : MFr σ σ22 := (by rw [eσ22, is_s]; exact Fr_si (by decide) hLF)
    have he : f_X6_split σ p1 = (σ22, r22) := (by subst er1; subst eσ19; subst eσ22; subst er22; exact ((if_neg c4).trans rfl))
    exact M_retz C h hr hlocks (congrArg Prod.fst he) (congrArg Prod.snd he) br22 hLF dX6_split_25
  · have i4 := c_eq c4
    refine lv_aload_n hx hb dX6_split_7 rfl (lv_at hl 0 rfl) ?_
    refine lv_iconst (v := 1) hx hb dX6_split_8 (by decide) ?_
    refine M_callz (As := [.int (1 : Int32)]) (rest := []) 1 C h (k_X6_is l g σ (1 : Int32)) (lw_V q1663 q1665 qs65 q152 q1666) rfl rfl (by decide +kernel) ⟨Nat.le_of_ble_eq_true rfl, Nat.le_of_ble_eq_true rfl⟩ rfl hl.1 rfl (Nat.le_of_ble_eq_true rfl) ⟨Nat.le_of_ble_eq_true rfl, Nat.le_of_ble_eq_true rfl⟩ dX6_split_9 (fun r9 σ9 H locs eσ9 er9 br9 hE9 h => ?_)
    clear hE9
    have hLF : MFr σ σ9 := (by rw [eσ9, is_s]; exact Fr_si (by decide) hLF)
    have he : f_X6_split σ p1 = (σ9, r9) := (by subst er1; subst eσ9; subst er9; exact ((if_pos c4).trans rfl))
    exact M_retz C h hr hlocks (congrArg Prod.fst he) (congrArg Prod.snd he) br9 hLF dX6_split_12
def f_X6_law (σ : MS) (p1 : Int32) : MS × Int32 := (let r6 := (f_X6_isFrom p1.toInt64 (0 : Int64) (3 : Int64)); if r6 = (0 : Int32) then ((let z14 := (f_X6_is σ (1 : Int32)); let σ14 := z14.1; let r14 := z14.2; (σ14, r14))) else ((let σ24 := sa σ 0 (4 : Int32) p1; let z27 := (f_X6_is σ24 (0 : Int32)); let σ27 := z27.1; let r27 := z27.2; (σ27, r27))))
set_option maxHeartbeats 4000000 in
set_option maxRecDepth 100000 in
theorem k_X6_law (l : Launch) (g : GE) (σ : MS) (p1 : Int32) : Met l yX6_law (ws_ yX6_law cX6_law 2 (some .boolean)) ({ frames := 1, cells := 0, slots := 0, locals := 25 } : Room) (mPc g σ [.int p1]) (mQz g (f_X6_law σ p1).1 (f_X6_law σ p1).2 (fun u r => (MFr σ u))) 0 0 (mA g) := by
  refine met_M (by decide) rfl (Nat.le_of_ble_eq_true rfl) ?_
  intro p e s m args below meth c C hr hlocks h ls hl
  have hx := C.1.1
  have hb := C.1.2.1
  have hml := C.1.2.2.1
  have hown := C.1.2.2.2.1
  have hts := C.1.2.2.2.2
  have hl : lv_has ls 2 [(0, .ref (g.2.1 99)), (1, .int p1)] := hl
  have hLF : MFr σ σ := Fr.rf
  have zl0 : (0 : Int32).toInt = 0 := rfl
  have zl1 : (1 : Int32).toInt = 1 := rfl
  have zl4 : (4 : Int32).toInt = 4 := rfl
  refine lv_iload_n hx hb dX6_law_0 rfl (lv_at hl 1 rfl) ?_
  refine lv_i2l (v := p1.toInt64) hx hb dX6_law_1 rfl ?_
  refine lv_lconst (v := 0) hx hb dX6_law_2 (by decide) ?_
  refine lv_ldc2 hx hb hown (hts _ q1951) dX6_law_3 ?_
  refine s_callz (As := [.long p1.toInt64, .long (0 : Int64), .long (3 : Int64)]) (rest := []) 3 C.1 (k_X6_isFrom l p1.toInt64 (0 : Int64) (3 : Int64)) (lw_S q1936 q1937 q152 q1938) rfl rfl (by decide +kernel) ⟨Nat.le_of_ble_eq_true rfl, Nat.le_of_ble_eq_true rfl⟩ rfl hl.1 rfl (Nat.le_of_ble_eq_true rfl) ⟨Nat.le_of_ble_eq_true rfl, Nat.le_of_ble_eq_true rfl⟩ dX6_law_6 h.2.2 (fun r6 H locs er6 br6 hz1 hk1 hS1 => ?_)
  have h := h.same hk1 hS1
  clear hz1 hk1 hS1
  refine lv_if_ne (tgt := 18) hx hb dX6_law_9 (by decide) (fun c9 => ?_) (fun c9 => ?_)
  · have i9 := c_ne c9
    have okr6 := isFrom_ok er6 c9
    refine lv_aload_n hx hb dX6_law_18 rfl (lv_at hl 0 rfl) ?_
    refine Mg_0 C h dX6_law_19 ?_
    refine lv_iconst (v := 4) hx hb dX6_law_22 (by decide) ?_
    refine lv_iload_n hx hb dX6_law_23 rfl (lv_at hl 1 rfl) ?_
    refine Ms_0 C h (ix_of zl4 (by omega)) dX6_law_24 (fun σ24 H locs eσ24 h => ?_)
    have hLF : MFr σ σ24 := by rw [eσ24]; exact (Fr_sa zl4 (by first | omega | (dsimp only; omega)) (by omega) hLF)
    refine lv_aload_n hx hb dX6_law_25 rfl (lv_at hl 0 rfl) ?_
    refine lv_iconst (v := 0) hx hb dX6_law_26 (by decide) ?_
    refine M_callz (As := [.int (0 : Int32)]) (rest := []) 1 C h (k_X6_is l g σ24 (0 : Int32)) (lw_V q1663 q1665 qs65 q152 q1666) rfl rfl (by decide +kernel) ⟨Nat.le_of_ble_eq_true rfl, Nat.le_of_ble_eq_true rfl⟩ rfl hl.1 rfl (Nat.le_of_ble_eq_true rfl) ⟨Nat.le_of_ble_eq_true rfl, Nat.le_of_ble_eq_true rfl⟩ dX6_law_27 (fun r27 σ27 H locs eσ27 er27 br27 hE27 h => ?_)
    clear hE27
    replace hLF : MFr σ σ27 := (by rw [eσ27, is_s]; exact Fr_si (by decide) hLF)
    have he : f_X6_law σ p1 = (σ27, r27) := (by subst er6; subst eσ24; subst eσ27; subst er27; exact ((if_neg c9).trans rfl))
    exact M_retz C h hr hlocks (congrArg Prod.fst he) (congrArg Prod.snd he) br27 hLF dX6_law_30
  · have i9 := c_eq c9
    refine lv_aload_n hx hb dX6_law_12 rfl (lv_at hl 0 rfl) ?_
    refine lv_iconst (v := 1) hx hb dX6_law_13 (by decide) ?_
    refine M_callz (As := [.int (1 : Int32)]) (rest := []) 1 C h (k_X6_is l g σ (1 : Int32)) (lw_V q1663 q1665 qs65 q152 q1666) rfl rfl (by decide +kernel) ⟨Nat.le_of_ble_eq_true rfl, Nat.le_of_ble_eq_true rfl⟩ rfl hl.1 rfl (Nat.le_of_ble_eq_true rfl) ⟨Nat.le_of_ble_eq_true rfl, Nat.le_of_ble_eq_true rfl⟩ dX6_law_14 (fun r14 σ14 H locs eσ14 er14 br14 hE14 h => ?_)
    clear hE14
    have hLF : MFr σ σ14 := (by rw [eσ14, is_s]; exact Fr_si (by decide) hLF)
    have he : f_X6_law σ p1 = (σ14, r14) := (by subst er6; subst eσ14; subst er14; exact ((if_pos c9).trans rfl))
    exact M_retz C h hr hlocks (congrArg Prod.fst he) (congrArg Prod.snd he) br14 hLF dX6_law_17
def f_X6_second_L54 (σ : MS) (y1_54 : Int32) (y2_54 : Int32) (y3_54 : Int32) (y4_54 : Int32) (y5_54 : Int32) : Nat → Int32 → Int32 → Int32 × Int32
  | 0, x6_54, x7_54 => (x6_54, x7_54)
  | n + 1, x6_54, x7_54 => if (ga σ 0 (2 : Int32)) ≤ x7_54 then ((x6_54, x7_54)) else ((let r72 := (f_X6_isIn σ y5_54 x7_54); (let z94_ : Int32 := (if r72 = (0 : Int32) then ((0 : Int32)) else ((ga σ 0 ((60 : Int32) + ((2 : Int32) * x7_54))))); let t0_94 := z94_; (let v95 := (x6_54 + t0_94); f_X6_second_L54 σ y1_54 y2_54 y3_54 y4_54 y5_54 n v95 (x7_54 + (1 : Int32))))))
def f_X6_second_L35 (σ : MS) (y1_35 : Int32) (y2_35 : Int32) : Nat → Int32 → Int32 → Int32 → Int32 × Int32 × Int32
  | 0, x3_35, x4_35, x5_35 => (x3_35, x4_35, x5_35)
  | n + 1, x3_35, x4_35, x5_35 => if ((1 : Int32) <<< ((ga σ 0 (2 : Int32)) &&& (31 : Int32))) ≤ x5_35 then ((x3_35, x4_35, x5_35)) else ((let zL54 := f_X6_second_L54 σ y1_35 y2_35 x3_35 x4_35 x5_35 (17) (0 : Int32) (0 : Int32); let x6_54e := zL54.1; let x7_54e := zL54.2; if x6_54e = y1_35 then (if x4_35 = (-1 : Int32) then (f_X6_second_L35 σ y1_35 y2_35 n (x3_35 + (1 : Int32)) x5_35 (x5_35 + (1 : Int32))) else ((let r123 := (f_X6_bits x5_35); let r128 := (f_X6_bits x4_35); if r128 ≤ r123 then (f_X6_second_L35 σ y1_35 y2_35 n (x3_35 + (1 : Int32)) x4_35 (x5_35 + (1 : Int32))) else (f_X6_second_L35 σ y1_35 y2_35 n (x3_35 + (1 : Int32)) x5_35 (x5_35 + (1 : Int32)))))) else (f_X6_second_L35 σ y1_35 y2_35 n x3_35 x4_35 (x5_35 + (1 : Int32)))))
def f_X6_second (σ : MS) (p1 : Int32) (p2 : Int32) : MS × Int32 := (let r6 := (f_X6_isFrom p1.toInt64 (1 : Int64) (9999 : Int64)); if r6 = (0 : Int32) then ((let z23 := (f_X6_refuse σ (1 : Int32)); let σ23 := z23.1; let r23 := z23.2; (σ23, r23))) else (if p2 < (0 : Int32) then ((let z23 := (f_X6_refuse σ (1 : Int32)); let σ23 := z23.1; let r23 := z23.2; (σ23, r23))) else (if p2 ≤ (2 : Int32) then ((let zL35 := f_X6_second_L35 σ p1 p2 (65537) (0 : Int32) (-1 : Int32) (1 : Int32); let x3_35e := zL35.1; let x4_35e := zL35.2.1; let x5_35e := zL35.2.2; if x4_35e = (-1 : Int32) then ((let z153 := (f_X6_refuse σ (6 : Int32)); let σ153 := z153.1; let r153 := z153.2; (σ153, r153))) else ((let z183_ : Int32 := (if p2 = (0 : Int32) then ((let r166 := (f_X6_bits x4_35e); r166)) else (if p2 = (1 : Int32) then (x3_35e) else (x4_35e))); let t0_183 := z183_; (let z183 := (f_X6_gives σ t0_183); let σ183 := z183.1; let r183 := z183.2; (σ183, r183)))))) else ((let z23 := (f_X6_refuse σ (1 : Int32)); let σ23 := z23.1; let r23 := z23.2; (σ23, r23))))))
set_option maxHeartbeats 4000000 in
set_option maxRecDepth 100000 in
theorem k_X6_second (l : Launch) (g : GE) (σ : MS) (p1 : Int32) (p2 : Int32) (hd : 0 ≤ (ga σ 0 (2 : Int32)).toInt ∧ (ga σ 0 (2 : Int32)).toInt ≤ 16) : Met l yX6_second (ws_ yX6_second cX6_second 8 (some .int)) ({ frames := 1, cells := 0, slots := 0, locals := 25 } : Room) (mPc g σ [.int p1, .int p2]) (mQi g (f_X6_second σ p1 p2).1 (f_X6_second σ p1 p2).2 (fun u r => ((ga u 0 (2 : Int32)).toInt = (ga σ 0 (2 : Int32)).toInt))) 0 0 (mA g) := by
  refine met_M (by decide) rfl (Nat.le_of_ble_eq_true rfl) ?_
  intro p e s m args below meth c C hr hlocks h ls hl
  have hx := C.1.1
  have hb := C.1.2.1
  have hml := C.1.2.2.1
  have hown := C.1.2.2.2.1
  have hts := C.1.2.2.2.2
  have hl : lv_has ls 8 [(0, .ref (g.2.1 99)), (1, .int p1), (2, .int p2)] := hl
  have hdq : (ga σ 0 (2 : Int32)).toInt = (ga σ 0 (2 : Int32)).toInt := rfl
  have zlm1 : (-1 : Int32).toInt = -1 := rfl
  have zl0 : (0 : Int32).toInt = 0 := rfl
  have zl1 : (1 : Int32).toInt = 1 := rfl
  have zl2 : (2 : Int32).toInt = 2 := rfl
  have zl6 : (6 : Int32).toInt = 6 := rfl
  have zl60 : (60 : Int32).toInt = 60 := rfl
  have hsh := shl_rng hd
  refine lv_iload_n hx hb dX6_second_0 rfl (lv_at hl 1 rfl) ?_
  refine lv_i2l (v := p1.toInt64) hx hb dX6_second_1 rfl ?_
  refine lv_lconst (v := 1) hx hb dX6_second_2 (by decide) ?_
  refine lv_ldc2 hx hb hown (hts _ q1956) dX6_second_3 ?_
  refine s_callz (As := [.long p1.toInt64, .long (1 : Int64), .long (9999 : Int64)]) (rest := []) 3 C.1 (k_X6_isFrom l p1.toInt64 (1 : Int64) (9999 : Int64)) (lw_S q1936 q1937 q152 q1938) rfl rfl (by decide +kernel) ⟨Nat.le_of_ble_eq_true rfl, Nat.le_of_ble_eq_true rfl⟩ rfl hl.1 rfl (Nat.le_of_ble_eq_true rfl) ⟨Nat.le_of_ble_eq_true rfl, Nat.le_of_ble_eq_true rfl⟩ dX6_second_6 h.2.2 (fun r6 H locs er6 br6 hz1 hk1 hS1 => ?_)
  have h := h.same hk1 hS1
  clear hz1 hk1 hS1
  refine lv_if_eq (tgt := 21) hx hb dX6_second_9 (by decide) (fun c9 => ?_) (fun c9 => ?_)
  · have i9 := c_eq c9
    refine lv_aload_n hx hb dX6_second_21 rfl (lv_at hl 0 rfl) ?_
    refine lv_iconst (v := 1) hx hb dX6_second_22 (by decide) ?_
    refine M_calli (As := [.int (1 : Int32)]) (rest := []) 1 C h (k_X6_refuse l g σ (1 : Int32)) (lw_V q1723 q1725 qs71 q152 q1726) rfl rfl (by decide +kernel) ⟨Nat.le_of_ble_eq_true rfl, Nat.le_of_ble_eq_true rfl⟩ rfl hl.1 rfl (Nat.le_of_ble_eq_true rfl) ⟨Nat.le_of_ble_eq_true rfl, Nat.le_of_ble_eq_true rfl⟩ dX6_second_23 (fun r23 σ23 H locs eσ23 er23 hE23 h => ?_)
    clear hE23
    have hNEW : (0 ≤ (ga σ23 0 (2 : Int32)).toInt ∧ (ga σ23 0 (2 : Int32)).toInt ≤ 16) ∧ ((ga σ23 0 (2 : Int32)).toInt = (ga σ 0 (2 : Int32)).toInt) := ⟨(by rw [eσ23, refuse_s] <;> exact hd), (by rw [eσ23, refuse_s] <;> exact hdq)⟩
    obtain ⟨hd, hdq⟩ := hNEW
    have he : f_X6_second σ p1 p2 = (σ23, r23) := (by subst er6; subst eσ23; subst er23; exact ((if_pos c9).trans rfl))
    exact M_reti C h hr hlocks (congrArg Prod.fst he) (congrArg Prod.snd he) hdq dX6_second_26
  · have i9 := c_ne c9
    have okr6 := isFrom_ok er6 c9
    refine lv_iload_n hx hb dX6_second_12 rfl (lv_at hl 2 rfl) ?_
    refine lv_if_lt (tgt := 21) hx hb dX6_second_13 (by decide) (fun c13 => ?_) (fun c13 => ?_)
    · have i13 := c_lt c13
      refine lv_aload_n hx hb dX6_second_21 rfl (lv_at hl 0 rfl) ?_
      refine lv_iconst (v := 1) hx hb dX6_second_22 (by decide) ?_
      refine M_calli (As := [.int (1 : Int32)]) (rest := []) 1 C h (k_X6_refuse l g σ (1 : Int32)) (lw_V q1723 q1725 qs71 q152 q1726) rfl rfl (by decide +kernel) ⟨Nat.le_of_ble_eq_true rfl, Nat.le_of_ble_eq_true rfl⟩ rfl hl.1 rfl (Nat.le_of_ble_eq_true rfl) ⟨Nat.le_of_ble_eq_true rfl, Nat.le_of_ble_eq_true rfl⟩ dX6_second_23 (fun r23 σ23 H locs eσ23 er23 hE23 h => ?_)
      clear hE23
      have hNEW : (0 ≤ (ga σ23 0 (2 : Int32)).toInt ∧ (ga σ23 0 (2 : Int32)).toInt ≤ 16) ∧ ((ga σ23 0 (2 : Int32)).toInt = (ga σ 0 (2 : Int32)).toInt) := ⟨(by rw [eσ23, refuse_s] <;> exact hd), (by rw [eσ23, refuse_s] <;> exact hdq)⟩
      obtain ⟨hd, hdq⟩ := hNEW
      have he : f_X6_second σ p1 p2 = (σ23, r23) := (by subst er6; subst eσ23; subst er23; exact ((if_neg c9).trans ((if_pos c13).trans rfl)))
      exact M_reti C h hr hlocks (congrArg Prod.fst he) (congrArg Prod.snd he) hdq dX6_second_26
    · have i13 := c_nlt c13
      refine lv_iload_n hx hb dX6_second_16 rfl (lv_at hl 2 rfl) ?_
      refine lv_iconst (v := 2) hx hb dX6_second_17 (by decide) ?_
      refine lv_icmp_le (tgt := 27) hx hb dX6_second_18 (by decide) (fun c18 => ?_) (fun c18 => ?_)
      · have i18 := c_le c18
        refine lv_iconst (v := 0) hx hb dX6_second_27 (by decide) ?_
        refine lv_istore_n (lv' := [(3, .int (0 : Int32)), (0, .ref (g.2.1 99)), (1, .int p1), (2, .int p2)]) hx hb dX6_second_28 rfl hl (by decide) rfl (fun ls hl => ?_)
        refine lv_iconst (v := -1) hx hb dX6_second_29 (by decide) ?_
        refine lv_istore (lv' := [(4, .int (-1 : Int32)), (3, .int (0 : Int32)), (0, .ref (g.2.1 99)), (1, .int p1), (2, .int p2)]) hx hb dX6_second_30 hl (by decide) rfl (fun ls hl => ?_)
        refine lv_iconst (v := 1) hx hb dX6_second_32 (by decide) ?_
        refine lv_istore (lv' := [(5, .int (1 : Int32)), (4, .int (-1 : Int32)), (3, .int (0 : Int32)), (0, .ref (g.2.1 99)), (1, .int p1), (2, .int p2)]) hx hb dX6_second_33 hl (by decide) rfl (fun ls hl => ?_)
        have hL35 : ∀ (n : Nat) (x3_35 : Int32) (x4_35 : Int32) (x5_35 : Int32) (H : Heap) (locs : List Loc) (ls : Array Slot), (1 ≤ x5_35.toInt ∧ x5_35.toInt ≤ ((1 : Int32) <<< ((ga σ 0 (2 : Int32)) &&& (31 : Int32))).toInt) → (((1 : Int32) <<< ((ga σ 0 (2 : Int32)) &&& (31 : Int32))).toInt - x5_35.toInt).toNat < n → MH g σ s H locs → lv_has ls 8 [(0, .ref (g.2.1 99)), (1, .int p1), (2, .int p2), (3, .int x3_35), (4, .int x4_35), (5, .int x5_35)] → (∀ (x3_35' : Int32) (x4_35' : Int32) (x5_35' : Int32) (H : Heap) (locs : List Loc) (ls : Array Slot), f_X6_second_L35 σ p1 p2 n x3_35 x4_35 x5_35 = (x3_35', x4_35', x5_35') → (1 ≤ x5_35'.toInt ∧ x5_35'.toInt ≤ ((1 : Int32) <<< ((ga σ 0 (2 : Int32)) &&& (31 : Int32))).toInt) → MH g σ s H locs → lv_has ls 8 [(0, .ref (g.2.1 99)), (2, .int p2), (3, .int x3_35'), (4, .int x4_35')] → W p l e ({ frames := 1, cells := 0, slots := 0, locals := 25 } : Room) s m args below meth c H locs 0 0 (MQ below (mQi g (f_X6_second σ p1 p2).1 (f_X6_second σ p1 p2).2 (fun u r => ((ga u 0 (2 : Int32)).toInt = (ga σ 0 (2 : Int32)).toInt))) args s 0 0 (mA g)) (F0 m 144 ls [])) → W p l e ({ frames := 1, cells := 0, slots := 0, locals := 25 } : Room) s m args below meth c H locs 0 0 (MQ below (mQi g (f_X6_second σ p1 p2).1 (f_X6_second σ p1 p2).2 (fun u r => ((ga u 0 (2 : Int32)).toInt = (ga σ 0 (2 : Int32)).toInt))) args s 0 0 (mA g)) (F0 m 35 ls []) := by
          intro n
          induction n with
          | zero =>
            intro x3_35 x4_35 x5_35 H locs ls _ hm; exact absurd hm (Nat.not_lt_zero _)
          | succ n ih =>
            intro x3_35 x4_35 x5_35 H locs ls hI35 hm h hl kk
            refine lv_iload hx hb dX6_second_35 (lv_at hl 5 rfl) ?_
            refine lv_iconst (v := 1) hx hb dX6_second_37 (by decide) ?_
            refine lv_aload_n hx hb dX6_second_38 rfl (lv_at hl 0 rfl) ?_
            refine Mg_0 C h dX6_second_39 ?_
            refine lv_iconst (v := 2) hx hb dX6_second_42 (by decide) ?_
            refine Ml_0 C h (ix_of zl2 (by omega)) dX6_second_43 ?_
            refine lv_ishl hx hb dX6_second_44 ?_
            refine lv_icmp_ge (tgt := 144) hx hb dX6_second_45 (by decide) (fun c45 => ?_) (fun c45 => ?_)
            · have i45 := c_le c45
              exact kk x3_35 x4_35 x5_35 _ _ _ (show f_X6_second_L35 σ p1 p2 (n + 1) x3_35 x4_35 x5_35 = (x3_35, x4_35, x5_35) from (by exact ((if_pos c45).trans rfl)))  (by first | assumption | omega) h (lv_sub hl [0, 2, 3, 4] rfl)
            · have i45 := c_nle c45
              refine lv_iconst (v := 0) hx hb dX6_second_48 (by decide) ?_
              refine lv_istore (lv' := [(6, .int (0 : Int32)), (0, .ref (g.2.1 99)), (1, .int p1), (2, .int p2), (3, .int x3_35), (4, .int x4_35), (5, .int x5_35)]) hx hb dX6_second_49 hl (by decide) rfl (fun ls hl => ?_)
              refine lv_iconst (v := 0) hx hb dX6_second_51 (by decide) ?_
              refine lv_istore (lv' := [(7, .int (0 : Int32)), (6, .int (0 : Int32)), (0, .ref (g.2.1 99)), (1, .int p1), (2, .int p2), (3, .int x3_35), (4, .int x4_35), (5, .int x5_35)]) hx hb dX6_second_52 hl (by decide) rfl (fun ls hl => ?_)
              have hL54 : ∀ (n : Nat) (x6_54 : Int32) (x7_54 : Int32) (H : Heap) (locs : List Loc) (ls : Array Slot), (0 ≤ x7_54.toInt ∧ x7_54.toInt ≤ (ga σ 0 (2 : Int32)).toInt) → ((ga σ 0 (2 : Int32)).toInt - x7_54.toInt).toNat < n → MH g σ s H locs → lv_has ls 8 [(0, .ref (g.2.1 99)), (1, .int p1), (2, .int p2), (3, .int x3_35), (4, .int x4_35), (5, .int x5_35), (6, .int x6_54), (7, .int x7_54)] → (∀ (x6_54' : Int32) (x7_54' : Int32) (H : Heap) (locs : List Loc) (ls : Array Slot), f_X6_second_L54 σ p1 p2 x3_35 x4_35 x5_35 n x6_54 x7_54 = (x6_54', x7_54') → (0 ≤ x7_54'.toInt ∧ x7_54'.toInt ≤ (ga σ 0 (2 : Int32)).toInt) → MH g σ s H locs → lv_has ls 8 [(0, .ref (g.2.1 99)), (1, .int p1), (2, .int p2), (3, .int x3_35), (4, .int x4_35), (5, .int x5_35), (6, .int x6_54')] → W p l e ({ frames := 1, cells := 0, slots := 0, locals := 25 } : Room) s m args below meth c H locs 0 0 (MQ below (mQi g (f_X6_second σ p1 p2).1 (f_X6_second σ p1 p2).2 (fun u r => ((ga u 0 (2 : Int32)).toInt = (ga σ 0 (2 : Int32)).toInt))) args s 0 0 (mA g)) (F0 m 103 ls [])) → W p l e ({ frames := 1, cells := 0, slots := 0, locals := 25 } : Room) s m args below meth c H locs 0 0 (MQ below (mQi g (f_X6_second σ p1 p2).1 (f_X6_second σ p1 p2).2 (fun u r => ((ga u 0 (2 : Int32)).toInt = (ga σ 0 (2 : Int32)).toInt))) args s 0 0 (mA g)) (F0 m 54 ls []) := by
                intro n
                induction n with
                | zero =>
                  intro x6_54 x7_54 H locs ls _ hm; exact absurd hm (Nat.not_lt_zero _)
                | succ n ih =>
                  intro x6_54 x7_54 H locs ls hI54 hm h hl kk
                  refine lv_iload hx hb dX6_second_54 (lv_at hl 7 rfl) ?_
                  refine lv_aload_n hx hb dX6_second_56 rfl (lv_at hl 0 rfl) ?_
                  refine Mg_0 C h dX6_second_57 ?_
                  refine lv_iconst (v := 2) hx hb dX6_second_60 (by decide) ?_
                  refine Ml_0 C h (ix_of zl2 (by omega)) dX6_second_61 ?_
                  refine lv_icmp_ge (tgt := 103) hx hb dX6_second_62 (by decide) (fun c62 => ?_) (fun c62 => ?_)
                  · have i62 := c_le c62
                    exact kk x6_54 x7_54 _ _ _ (show f_X6_second_L54 σ p1 p2 x3_35 x4_35 x5_35 (n + 1) x6_54 x7_54 = (x6_54, x7_54) from (by exact ((if_pos c62).trans rfl)))  (by first | assumption | omega) h (lv_sub hl [0, 1, 2, 3, 4, 5, 6] rfl)
                  · have i62 := c_nle c62
                    refine lv_iload hx hb dX6_second_65 (lv_at hl 6 rfl) ?_
                    refine lv_aload_n hx hb dX6_second_67 rfl (lv_at hl 0 rfl) ?_
                    refine lv_iload hx hb dX6_second_68 (lv_at hl 5 rfl) ?_
                    refine lv_iload hx hb dX6_second_70 (lv_at hl 7 rfl) ?_
                    refine M_callz (As := [.int x5_35, .int x7_54]) (rest := [.int x6_54]) 2 C h (k_X6_isIn l g σ x5_35 x7_54) (lw_V q1906 q1908 qs107 q152 q1909) rfl rfl (by decide +kernel) ⟨Nat.le_of_ble_eq_true rfl, Nat.le_of_ble_eq_true rfl⟩ rfl hl.1 rfl (Nat.le_of_ble_eq_true rfl) ⟨Nat.le_of_ble_eq_true rfl, Nat.le_of_ble_eq_true rfl⟩ dX6_second_72 (fun r72 σ72 H locs eσ72 er72 br72 hE72 h => ?_)
                    rw [eσ72] at h
                    clear hE72
                    clear eσ72
                    have j94 : ∀ (t0_94 : Int32) (H : Heap) (locs : List Loc) (ls : Array Slot) (ej94 : (if r72 = (0 : Int32) then ((0 : Int32)) else ((ga σ 0 ((60 : Int32) + ((2 : Int32) * x7_54))))) = t0_94) (h : MH g σ s H locs) (hl : lv_has ls 8 [(0, .ref (g.2.1 99)), (1, .int p1), (2, .int p2), (3, .int x3_35), (4, .int x4_35), (5, .int x5_35), (7, .int x7_54)]), W p l e ({ frames := 1, cells := 0, slots := 0, locals := 25 } : Room) s m args below meth c H locs 0 0 (MQ below (mQi g (f_X6_second σ p1 p2).1 (f_X6_second σ p1 p2).2 (fun u r => ((ga u 0 (2 : Int32)).toInt = (ga σ 0 (2 : Int32)).toInt))) args s 0 0 (mA g)) (F0 m 94 ls [.int t0_94, .int x6_54]) := by
                      intro t0_94 H locs ls ej94 h hl
                      have et0_94 := ej94.symm
                      refine lv_iadd hx hb dX6_second_94 ?_
                      refine lv_topi (fun v95 ev95 => ?_)
                      refine lv_istore (lv' := [(6, .int v95), (0, .ref (g.2.1 99)), (1, .int p1), (2, .int p2), (3, .int x3_35), (4, .int x4_35), (5, .int x5_35), (7, .int x7_54)]) hx hb dX6_second_95 hl (by decide) rfl (fun ls hl => ?_)
                      refine lv_iinc (v := (x7_54 + (1 : Int32))) (lv' := [(7, .int (x7_54 + (1 : Int32))), (6, .int v95), (0, .ref (g.2.1 99)), (1, .int p1), (2, .int p2), (3, .int x3_35), (4, .int x4_35), (5, .int x5_35)]) hx hb dX6_second_97 hl (k := 7) rfl rfl (by decide) rfl (fun ls hl => ?_)
                      refine lv_goto (tgt := 54) hx hb dX6_second_100 (by decide) ?_
                      have tt7 : (x7_54 + (1 : Int32)).toInt = (x7_54.toInt + (1)) := (i_add (rfl : x7_54.toInt = x7_54.toInt) zl1 (by omega))
                      exact ih v95 (x7_54 + (1 : Int32)) _ _ _  (by first | assumption | omega) (by omega) h (lv_sub hl [2, 3, 4, 5, 6, 7, 1, 0] rfl) (fun x6_54' x7_54' H locs ls en hI h hl => kk x6_54' x7_54' H locs ls ((show f_X6_second_L54 σ p1 p2 x3_35 x4_35 x5_35 (n + 1) x6_54 x7_54 = f_X6_second_L54 σ p1 p2 x3_35 x4_35 x5_35 n v95 (x7_54 + (1 : Int32)) from (by subst er72; subst et0_94; subst ev95; exact ((if_neg c62).trans rfl))).trans en) hI h hl)
                    refine lv_if_eq (tgt := 93) hx hb dX6_second_75 (by decide) (fun c75 => ?_) (fun c75 => ?_)
                    · have i75 := c_eq c75
                      refine lv_iconst (v := 0) hx hb dX6_second_93 (by decide) ?_
                      exact j94 _ _ _ _ (by exact ((if_pos c75).trans rfl)) h (lv_sub hl [0, 1, 2, 3, 4, 5, 7] rfl)
                    · have i75 := c_ne c75
                      have okr72 := isIn_ok er72 c75
                      refine lv_aload_n hx hb dX6_second_78 rfl (lv_at hl 0 rfl) ?_
                      refine Mg_0 C h dX6_second_79 ?_
                      refine lv_bipush (v := 60) hx hb dX6_second_82 (by decide) ?_
                      refine lv_iconst (v := 2) hx hb dX6_second_84 (by decide) ?_
                      refine lv_iload hx hb dX6_second_85 (lv_at hl 7 rfl) ?_
                      refine lv_imul hx hb dX6_second_87 ?_
                      refine lv_iadd hx hb dX6_second_88 ?_
                      refine Ml_0 C h (ix_of (i_add zl60 (i_mul zl2 (rfl : x7_54.toInt = x7_54.toInt) (by omega)) (by omega)) (by omega)) dX6_second_89 ?_
                      refine lv_goto (tgt := 94) hx hb dX6_second_90 (by decide) ?_
                      exact j94 _ _ _ _ (by exact ((if_neg c75).trans rfl)) h (lv_sub hl [0, 1, 2, 3, 4, 5, 7] rfl)
              refine hL54 (17) (0 : Int32) (0 : Int32) _ _ _  (by first | assumption | omega) (by omega) h (lv_sub hl [2, 3, 4, 5, 6, 7, 1, 0] rfl) (fun x6_54e x7_54e H locs ls eL54 hI54 h hl => ?_)
              have ex6_54e : x6_54e = (f_X6_second_L54 σ p1 p2 x3_35 x4_35 x5_35 (17) (0 : Int32) (0 : Int32)).1 := by rw [eL54]
              have ex7_54e : x7_54e = (f_X6_second_L54 σ p1 p2 x3_35 x4_35 x5_35 (17) (0 : Int32) (0 : Int32)).2 := by rw [eL54]
              refine lv_iload hx hb dX6_second_103 (lv_at hl 6 rfl) ?_
              refine lv_iload_n hx hb dX6_second_105 rfl (lv_at hl 1 rfl) ?_
              refine lv_icmp_eq (tgt := 112) hx hb dX6_second_106 (by decide) (fun c106 => ?_) (fun c106 => ?_)
              · have i106 := c_eq c106
                refine lv_iinc (v := (x3_35 + (1 : Int32))) (lv' := [(3, .int (x3_35 + (1 : Int32))), (0, .ref (g.2.1 99)), (1, .int p1), (2, .int p2), (4, .int x4_35), (5, .int x5_35), (6, .int x6_54e)]) hx hb dX6_second_112 hl (k := 3) rfl rfl (by decide) rfl (fun ls hl => ?_)
                refine lv_iload hx hb dX6_second_115 (lv_at hl 4 rfl) ?_
                refine lv_iconst (v := -1) hx hb dX6_second_117 (by decide) ?_
                refine lv_icmp_eq (tgt := 134) hx hb dX6_second_118 (by decide) (fun c118 => ?_) (fun c118 => ?_)
                · have i118 := c_eq c118
                  refine lv_iload hx hb dX6_second_134 (lv_at hl 5 rfl) ?_
                  refine lv_istore (lv' := [(4, .int x5_35), (3, .int (x3_35 + (1 : Int32))), (0, .ref (g.2.1 99)), (1, .int p1), (2, .int p2), (5, .int x5_35), (6, .int x6_54e)]) hx hb dX6_second_136 hl (by decide) rfl (fun ls hl => ?_)
                  refine lv_iinc (v := (x5_35 + (1 : Int32))) (lv' := [(5, .int (x5_35 + (1 : Int32))), (4, .int x5_35), (3, .int (x3_35 + (1 : Int32))), (0, .ref (g.2.1 99)), (1, .int p1), (2, .int p2), (6, .int x6_54e)]) hx hb dX6_second_138 hl (k := 5) rfl rfl (by decide) rfl (fun ls hl => ?_)
                  refine lv_goto (tgt := 35) hx hb dX6_second_141 (by decide) ?_
                  have tt5 : (x5_35 + (1 : Int32)).toInt = (x5_35.toInt + (1)) := (i_add (rfl : x5_35.toInt = x5_35.toInt) zl1 (by omega))
                  exact ih (x3_35 + (1 : Int32)) x5_35 (x5_35 + (1 : Int32)) _ _ _  (by first | assumption | omega) (by omega) h (lv_sub hl [3, 4, 5, 2, 1, 0] rfl) (fun x3_35' x4_35' x5_35' H locs ls en hI h hl => kk x3_35' x4_35' x5_35' H locs ls ((show f_X6_second_L35 σ p1 p2 (n + 1) x3_35 x4_35 x5_35 = f_X6_second_L35 σ p1 p2 n (x3_35 + (1 : Int32)) x5_35 (x5_35 + (1 : Int32)) from (by subst ex6_54e; subst ex7_54e; exact ((if_neg c45).trans ((if_pos c106).trans ((if_pos c118).trans rfl))))).trans en) hI h hl)
                · have i118 := c_ne c118
                  refine lv_iload hx hb dX6_second_121 (lv_at hl 5 rfl) ?_
                  refine s_calli (As := [.int x5_35]) (rest := []) 1 C.1 (k_X6_bits l x5_35) (lw_S q1850 q1851 q152 q1852) rfl rfl (by decide +kernel) ⟨Nat.le_of_ble_eq_true rfl, Nat.le_of_ble_eq_true rfl⟩ rfl hl.1 rfl (Nat.le_of_ble_eq_true rfl) ⟨Nat.le_of_ble_eq_true rfl, Nat.le_of_ble_eq_true rfl⟩ dX6_second_123 h.2.2 (fun r123 H locs er123 hz1 hk1 hS1 => ?_)
                  have h := h.same hk1 hS1
                  clear hz1 hk1 hS1
                  refine lv_iload hx hb dX6_second_126 (lv_at hl 4 rfl) ?_
                  refine s_calli (As := [.int x4_35]) (rest := [.int r123]) 1 C.1 (k_X6_bits l x4_35) (lw_S q1850 q1851 q152 q1852) rfl rfl (by decide +kernel) ⟨Nat.le_of_ble_eq_true rfl, Nat.le_of_ble_eq_true rfl⟩ rfl hl.1 rfl (Nat.le_of_ble_eq_true rfl) ⟨Nat.le_of_ble_eq_true rfl, Nat.le_of_ble_eq_true rfl⟩ dX6_second_128 h.2.2 (fun r128 H locs er128 hz1 hk1 hS1 => ?_)
                  have h := h.same hk1 hS1
                  clear hz1 hk1 hS1
                  refine lv_icmp_ge (tgt := 138) hx hb dX6_second_131 (by decide) (fun c131 => ?_) (fun c131 => ?_)
                  · have i131 := c_le c131
                    refine lv_iinc (v := (x5_35 + (1 : Int32))) (lv' := [(5, .int (x5_35 + (1 : Int32))), (3, .int (x3_35 + (1 : Int32))), (0, .ref (g.2.1 99)), (1, .int p1), (2, .int p2), (4, .int x4_35), (6, .int x6_54e)]) hx hb dX6_second_138 hl (k := 5) rfl rfl (by decide) rfl (fun ls hl => ?_)
                    refine lv_goto (tgt := 35) hx hb dX6_second_141 (by decide) ?_
                    have tt5 : (x5_35 + (1 : Int32)).toInt = (x5_35.toInt + (1)) := (i_add (rfl : x5_35.toInt = x5_35.toInt) zl1 (by omega))
                    exact ih (x3_35 + (1 : Int32)) x4_35 (x5_35 + (1 : Int32)) _ _ _  (by first | assumption | omega) (by omega) h (lv_sub hl [2, 3, 4, 1, 5, 0] rfl) (fun x3_35' x4_35' x5_35' H locs ls en hI h hl => kk x3_35' x4_35' x5_35' H locs ls ((show f_X6_second_L35 σ p1 p2 (n + 1) x3_35 x4_35 x5_35 = f_X6_second_L35 σ p1 p2 n (x3_35 + (1 : Int32)) x4_35 (x5_35 + (1 : Int32)) from (by subst ex6_54e; subst ex7_54e; subst er123; subst er128; exact ((if_neg c45).trans ((if_pos c106).trans ((if_neg c118).trans ((if_pos c131).trans rfl)))))).trans en) hI h hl)
                  · have i131 := c_nle c131
                    refine lv_iload hx hb dX6_second_134 (lv_at hl 5 rfl) ?_
                    refine lv_istore (lv' := [(4, .int x5_35), (3, .int (x3_35 + (1 : Int32))), (0, .ref (g.2.1 99)), (1, .int p1), (2, .int p2), (5, .int x5_35), (6, .int x6_54e)]) hx hb dX6_second_136 hl (by decide) rfl (fun ls hl => ?_)
                    refine lv_iinc (v := (x5_35 + (1 : Int32))) (lv' := [(5, .int (x5_35 + (1 : Int32))), (4, .int x5_35), (3, .int (x3_35 + (1 : Int32))), (0, .ref (g.2.1 99)), (1, .int p1), (2, .int p2), (6, .int x6_54e)]) hx hb dX6_second_138 hl (k := 5) rfl rfl (by decide) rfl (fun ls hl => ?_)
                    refine lv_goto (tgt := 35) hx hb dX6_second_141 (by decide) ?_
                    have tt5 : (x5_35 + (1 : Int32)).toInt = (x5_35.toInt + (1)) := (i_add (rfl : x5_35.toInt = x5_35.toInt) zl1 (by omega))
                    exact ih (x3_35 + (1 : Int32)) x5_35 (x5_35 + (1 : Int32)) _ _ _  (by first | assumption | omega) (by omega) h (lv_sub hl [3, 4, 5, 2, 1, 0] rfl) (fun x3_35' x4_35' x5_35' H locs ls en hI h hl => kk x3_35' x4_35' x5_35' H locs ls ((show f_X6_second_L35 σ p1 p2 (n + 1) x3_35 x4_35 x5_35 = f_X6_second_L35 σ p1 p2 n (x3_35 + (1 : Int32)) x5_35 (x5_35 + (1 : Int32)) from (by subst ex6_54e; subst ex7_54e; subst er123; subst er128; exact ((if_neg c45).trans ((if_pos c106).trans ((if_neg c118).trans ((if_neg c131).trans rfl)))))).trans en) hI h hl)
              · have i106 := c_ne c106
                refine lv_goto (tgt := 138) hx hb dX6_second_109 (by decide) ?_
                refine lv_iinc (v := (x5_35 + (1 : Int32))) (lv' := [(5, .int (x5_35 + (1 : Int32))), (0, .ref (g.2.1 99)), (1, .int p1), (2, .int p2), (3, .int x3_35), (4, .int x4_35), (6, .int x6_54e)]) hx hb dX6_second_138 hl (k := 5) rfl rfl (by decide) rfl (fun ls hl => ?_)
                refine lv_goto (tgt := 35) hx hb dX6_second_141 (by decide) ?_
                have tt5 : (x5_35 + (1 : Int32)).toInt = (x5_35.toInt + (1)) := (i_add (rfl : x5_35.toInt = x5_35.toInt) zl1 (by omega))
                exact ih x3_35 x4_35 (x5_35 + (1 : Int32)) _ _ _  (by first | assumption | omega) (by omega) h (lv_sub hl [1, 2, 3, 4, 5, 0] rfl) (fun x3_35' x4_35' x5_35' H locs ls en hI h hl => kk x3_35' x4_35' x5_35' H locs ls ((show f_X6_second_L35 σ p1 p2 (n + 1) x3_35 x4_35 x5_35 = f_X6_second_L35 σ p1 p2 n x3_35 x4_35 (x5_35 + (1 : Int32)) from (by subst ex6_54e; subst ex7_54e; exact ((if_neg c45).trans ((if_neg c106).trans rfl)))).trans en) hI h hl)
        refine hL35 (65537) (0 : Int32) (-1 : Int32) (1 : Int32) _ _ _  (by first | assumption | omega) (by omega) h (lv_sub hl [3, 4, 5, 2, 1, 0] rfl) (fun x3_35e x4_35e x5_35e H locs ls eL35 hI35 h hl => ?_)
        have ex3_35e : x3_35e = (f_X6_second_L35 σ p1 p2 (65537) (0 : Int32) (-1 : Int32) (1 : Int32)).1 := by rw [eL35]
        have ex4_35e : x4_35e = (f_X6_second_L35 σ p1 p2 (65537) (0 : Int32) (-1 : Int32) (1 : Int32)).2.1 := by rw [eL35]
        have ex5_35e : x5_35e = (f_X6_second_L35 σ p1 p2 (65537) (0 : Int32) (-1 : Int32) (1 : Int32)).2.2 := by rw [eL35]
        refine lv_iload hx hb dX6_second_144 (lv_at hl 3 rfl) ?_
        refine lv_iconst (v := -1) hx hb dX6_second_146 (by decide) ?_
        refine lv_icmp_ne (tgt := 159) hx hb dX6_second_147 (by decide) (fun c147 => ?_) (fun c147 => ?_)
        · have i147 := c_ne c147
          refine lv_aload_n hx hb dX6_second_159 rfl (lv_at hl 0 rfl) ?_
          refine lv_iload_n hx hb dX6_second_160 rfl (lv_at hl 1 rfl) ?_
          have j183 : ∀ (t0_183 : Int32) (H : Heap) (locs : List Loc) (ls : Array Slot) (ej183 : (if p2 = (0 : Int32) then ((let r166 := (f_X6_bits x4_35e); r166)) else (if p2 = (1 : Int32) then (x3_35e) else (x4_35e))) = t0_183) (h : MH g σ s H locs) (hl : lv_has ls 8 []), W p l e ({ frames := 1, cells := 0, slots := 0, locals := 25 } : Room) s m args below meth c H locs 0 0 (MQ below (mQi g (f_X6_second σ p1 p2).1 (f_X6_second σ p1 p2).2 (fun u r => ((ga u 0 (2 : Int32)).toInt = (ga σ 0 (2 : Int32)).toInt))) args s 0 0 (mA g)) (F0 m 183 ls [.int t0_183, .ref (g.2.1 99)]) := by
            intro t0_183 H locs ls ej183 h hl
            have et0_183 := ej183.symm
            refine M_calli (As := [.int t0_183]) (rest := []) 1 C h (k_X6_gives l g σ t0_183) (lw_V q1806 q1808 qs91 q152 q1809) rfl rfl (by decide +kernel) ⟨Nat.le_of_ble_eq_true rfl, Nat.le_of_ble_eq_true rfl⟩ rfl hl.1 rfl (Nat.le_of_ble_eq_true rfl) ⟨Nat.le_of_ble_eq_true rfl, Nat.le_of_ble_eq_true rfl⟩ dX6_second_183 (fun r183 σ183 H locs eσ183 er183 hE183 h => ?_)
            clear hE183
            have hNEW : (0 ≤ (ga σ183 0 (2 : Int32)).toInt ∧ (ga σ183 0 (2 : Int32)).toInt ≤ 16) ∧ ((ga σ183 0 (2 : Int32)).toInt = (ga σ 0 (2 : Int32)).toInt) := ⟨(by rw [eσ183, gives_s] <;> exact hd), (by rw [eσ183, gives_s] <;> exact hdq)⟩
            obtain ⟨hd, hdq⟩ := hNEW
            have he : f_X6_second σ p1 p2 = (σ183, r183) := (by subst er6; subst ex3_35e; subst ex4_35e; subst ex5_35e; subst et0_183; subst eσ183; subst er183; exact ((if_neg c9).trans ((if_neg c13).trans ((if_pos c18).trans ((if_neg c147).trans rfl)))))
            exact M_reti C h hr hlocks (congrArg Prod.fst he) (congrArg Prod.snd he) hdq dX6_second_186
          refine lv_if_ne (tgt := 172) hx hb dX6_second_161 (by decide) (fun c161 => ?_) (fun c161 => ?_)
          · have i161 := c_ne c161
            refine lv_iload_n hx hb dX6_second_172 rfl (lv_at hl 1 rfl) ?_
            refine lv_iconst (v := 1) hx hb dX6_second_173 (by decide) ?_
            refine lv_icmp_ne (tgt := 181) hx hb dX6_second_174 (by decide) (fun c174 => ?_) (fun c174 => ?_)
            · have i174 := c_ne c174
              refine lv_iload hx hb dX6_second_181 (lv_at hl 3 rfl) ?_
              exact j183 _ _ _ _ (by exact ((if_neg c161).trans ((if_neg c174).trans rfl))) h (lv_sub hl [] rfl)
            · have i174 := c_eq c174
              refine lv_iload_n hx hb dX6_second_177 rfl (lv_at hl 2 rfl) ?_
              refine lv_goto (tgt := 183) hx hb dX6_second_178 (by decide) ?_
              exact j183 _ _ _ _ (by exact ((if_neg c161).trans ((if_pos c174).trans rfl))) h (lv_sub hl [] rfl)
          · have i161 := c_eq c161
            refine lv_iload hx hb dX6_second_164 (lv_at hl 3 rfl) ?_
            refine s_calli (As := [.int x4_35e]) (rest := [.ref (g.2.1 99)]) 1 C.1 (k_X6_bits l x4_35e) (lw_S q1850 q1851 q152 q1852) rfl rfl (by decide +kernel) ⟨Nat.le_of_ble_eq_true rfl, Nat.le_of_ble_eq_true rfl⟩ rfl hl.1 rfl (Nat.le_of_ble_eq_true rfl) ⟨Nat.le_of_ble_eq_true rfl, Nat.le_of_ble_eq_true rfl⟩ dX6_second_166 h.2.2 (fun r166 H locs er166 hz1 hk1 hS1 => ?_)
            have h := h.same hk1 hS1
            clear hz1 hk1 hS1
            refine lv_goto (tgt := 183) hx hb dX6_second_169 (by decide) ?_
            exact j183 _ _ _ _ (by subst er166; exact ((if_pos c161).trans rfl)) h (lv_sub hl [] rfl)
        · have i147 := c_eq c147
          refine lv_aload_n hx hb dX6_second_150 rfl (lv_at hl 0 rfl) ?_
          refine lv_bipush (v := 6) hx hb dX6_second_151 (by decide) ?_
          refine M_calli (As := [.int (6 : Int32)]) (rest := []) 1 C h (k_X6_refuse l g σ (6 : Int32)) (lw_V q1723 q1725 qs71 q152 q1726) rfl rfl (by decide +kernel) ⟨Nat.le_of_ble_eq_true rfl, Nat.le_of_ble_eq_true rfl⟩ rfl hl.1 rfl (Nat.le_of_ble_eq_true rfl) ⟨Nat.le_of_ble_eq_true rfl, Nat.le_of_ble_eq_true rfl⟩ dX6_second_153 (fun r153 σ153 H locs eσ153 er153 hE153 h => ?_)
          clear hE153
          have hNEW : (0 ≤ (ga σ153 0 (2 : Int32)).toInt ∧ (ga σ153 0 (2 : Int32)).toInt ≤ 16) ∧ ((ga σ153 0 (2 : Int32)).toInt = (ga σ 0 (2 : Int32)).toInt) := ⟨(by rw [eσ153, refuse_s] <;> exact hd), (by rw [eσ153, refuse_s] <;> exact hdq)⟩
          obtain ⟨hd, hdq⟩ := hNEW
          refine lv_goto (tgt := 186) hx hb dX6_second_156 (by decide) ?_
          have he : f_X6_second σ p1 p2 = (σ153, r153) := (by subst er6; subst ex3_35e; subst ex4_35e; subst ex5_35e; subst eσ153; subst er153; exact ((if_neg c9).trans ((if_neg c13).trans ((if_pos c18).trans ((if_pos c147).trans rfl)))))
          exact M_reti C h hr hlocks (congrArg Prod.fst he) (congrArg Prod.snd he) hdq dX6_second_186
      · have i18 := c_nle c18
        refine lv_aload_n hx hb dX6_second_21 rfl (lv_at hl 0 rfl) ?_
        refine lv_iconst (v := 1) hx hb dX6_second_22 (by decide) ?_
        refine M_calli (As := [.int (1 : Int32)]) (rest := []) 1 C h (k_X6_refuse l g σ (1 : Int32)) (lw_V q1723 q1725 qs71 q152 q1726) rfl rfl (by decide +kernel) ⟨Nat.le_of_ble_eq_true rfl, Nat.le_of_ble_eq_true rfl⟩ rfl hl.1 rfl (Nat.le_of_ble_eq_true rfl) ⟨Nat.le_of_ble_eq_true rfl, Nat.le_of_ble_eq_true rfl⟩ dX6_second_23 (fun r23 σ23 H locs eσ23 er23 hE23 h => ?_)
        clear hE23
        have hNEW : (0 ≤ (ga σ23 0 (2 : Int32)).toInt ∧ (ga σ23 0 (2 : Int32)).toInt ≤ 16) ∧ ((ga σ23 0 (2 : Int32)).toInt = (ga σ 0 (2 : Int32)).toInt) := ⟨(by rw [eσ23, refuse_s] <;> exact hd), (by rw [eσ23, refuse_s] <;> exact hdq)⟩
        obtain ⟨hd, hdq⟩ := hNEW
        have he : f_X6_second σ p1 p2 = (σ23, r23) := (by subst er6; subst eσ23; subst er23; exact ((if_neg c9).trans ((if_neg c13).trans ((if_neg c18).trans rfl))))
        exact M_reti C h hr hlocks (congrArg Prod.fst he) (congrArg Prod.snd he) hdq dX6_second_26
def f_X6_padded (σ : MS) (p1 : Int32) : MS × Int32 := (let r6 := (f_X6_isFrom p1.toInt64 (0 : Int64) (99999 : Int64)); if r6 = (0 : Int32) then ((let z27 := (f_X6_refuse σ (1 : Int32)); let σ27 := z27.1; let r27 := z27.2; (σ27, r27))) else ((let r15 := (f_X6_bill σ); let z19 := (f_X6_gives σ (p1 - r15)); let σ19 := z19.1; let r19 := z19.2; (σ19, r19))))
set_option maxHeartbeats 4000000 in
set_option maxRecDepth 100000 in
theorem k_X6_padded (l : Launch) (g : GE) (σ : MS) (p1 : Int32) (hp : 0 ≤ (ga σ 0 (0 : Int32)).toInt ∧ (ga σ 0 (0 : Int32)).toInt ≤ 6) (hd : 0 ≤ (ga σ 0 (2 : Int32)).toInt ∧ (ga σ 0 (2 : Int32)).toInt ≤ 16) : Met l yX6_padded (ws_ yX6_padded cX6_padded 2 (some .int)) ({ frames := 1, cells := 0, slots := 0, locals := 25 } : Room) (mPc g σ [.int p1]) (mQi g (f_X6_padded σ p1).1 (f_X6_padded σ p1).2 (fun u r => ((ga u 0 (0 : Int32)).toInt = (ga σ 0 (0 : Int32)).toInt) ∧ ((ga u 0 (2 : Int32)).toInt = (ga σ 0 (2 : Int32)).toInt))) 0 0 (mA g) := by
  refine met_M (by decide) rfl (Nat.le_of_ble_eq_true rfl) ?_
  intro p e s m args below meth c C hr hlocks h ls hl
  have hx := C.1.1
  have hb := C.1.2.1
  have hml := C.1.2.2.1
  have hown := C.1.2.2.2.1
  have hts := C.1.2.2.2.2
  have hl : lv_has ls 2 [(0, .ref (g.2.1 99)), (1, .int p1)] := hl
  have hpq : (ga σ 0 (0 : Int32)).toInt = (ga σ 0 (0 : Int32)).toInt := rfl
  have hdq : (ga σ 0 (2 : Int32)).toInt = (ga σ 0 (2 : Int32)).toInt := rfl
  have zl0 : (0 : Int32).toInt = 0 := rfl
  have zl1 : (1 : Int32).toInt = 1 := rfl
  refine lv_iload_n hx hb dX6_padded_0 rfl (lv_at hl 1 rfl) ?_
  refine lv_i2l (v := p1.toInt64) hx hb dX6_padded_1 rfl ?_
  refine lv_lconst (v := 0) hx hb dX6_padded_2 (by decide) ?_
  refine lv_ldc2 hx hb hown (hts _ q1961) dX6_padded_3 ?_
  refine s_callz (As := [.long p1.toInt64, .long (0 : Int64), .long (99999 : Int64)]) (rest := []) 3 C.1 (k_X6_isFrom l p1.toInt64 (0 : Int64) (99999 : Int64)) (lw_S q1936 q1937 q152 q1938) rfl rfl (by decide +kernel) ⟨Nat.le_of_ble_eq_true rfl, Nat.le_of_ble_eq_true rfl⟩ rfl hl.1 rfl (Nat.le_of_ble_eq_true rfl) ⟨Nat.le_of_ble_eq_true rfl, Nat.le_of_ble_eq_true rfl⟩ dX6_padded_6 h.2.2 (fun r6 H locs er6 br6 hz1 hk1 hS1 => ?_)
  have h := h.same hk1 hS1
  clear hz1 hk1 hS1
  refine lv_if_eq (tgt := 25) hx hb dX6_padded_9 (by decide) (fun c9 => ?_) (fun c9 => ?_)
  · have i9 := c_eq c9
    refine lv_aload_n hx hb dX6_padded_25 rfl (lv_at hl 0 rfl) ?_
    refine lv_iconst (v := 1) hx hb dX6_padded_26 (by decide) ?_
    refine M_calli (As := [.int (1 : Int32)]) (rest := []) 1 C h (k_X6_refuse l g σ (1 : Int32)) (lw_V q1723 q1725 qs71 q152 q1726) rfl rfl (by decide +kernel) ⟨Nat.le_of_ble_eq_true rfl, Nat.le_of_ble_eq_true rfl⟩ rfl hl.1 rfl (Nat.le_of_ble_eq_true rfl) ⟨Nat.le_of_ble_eq_true rfl, Nat.le_of_ble_eq_true rfl⟩ dX6_padded_27 (fun r27 σ27 H locs eσ27 er27 hE27 h => ?_)
    clear hE27
    have hNEW : (0 ≤ (ga σ27 0 (0 : Int32)).toInt ∧ (ga σ27 0 (0 : Int32)).toInt ≤ 6) ∧ (0 ≤ (ga σ27 0 (2 : Int32)).toInt ∧ (ga σ27 0 (2 : Int32)).toInt ≤ 16) ∧ ((ga σ27 0 (0 : Int32)).toInt = (ga σ 0 (0 : Int32)).toInt) ∧ ((ga σ27 0 (2 : Int32)).toInt = (ga σ 0 (2 : Int32)).toInt) := ⟨(by rw [eσ27, refuse_s] <;> exact hp), (by rw [eσ27, refuse_s] <;> exact hd), (by rw [eσ27, refuse_s] <;> exact hpq), (by rw [eσ27, refuse_s] <;> exact hdq)⟩
    obtain ⟨hp, hd, hpq, hdq⟩ := hNEW
    have he : f_X6_padded σ p1 = (σ27, r27) := (by subst er6; subst eσ27; subst er27; exact ((if_pos c9).trans rfl))
    exact M_reti C h hr hlocks (congrArg Prod.fst he) (congrArg Prod.snd he) ⟨hpq, hdq⟩ dX6_padded_30
  · have i9 := c_ne c9
    have okr6 := isFrom_ok er6 c9
    refine lv_aload_n hx hb dX6_padded_12 rfl (lv_at hl 0 rfl) ?_
    refine lv_iload_n hx hb dX6_padded_13 rfl (lv_at hl 1 rfl) ?_
    refine lv_aload_n hx hb dX6_padded_14 rfl (lv_at hl 0 rfl) ?_
    refine M_calli (As := []) (rest := [.int p1, .ref (g.2.1 99)]) 0 C h (k_X6_bill l g σ (by first | assumption | omega)) (lw_V q1838 q1840 qs97 q152 q1841) rfl rfl (by decide +kernel) ⟨Nat.le_of_ble_eq_true rfl, Nat.le_of_ble_eq_true rfl⟩ rfl hl.1 rfl (Nat.le_of_ble_eq_true rfl) ⟨Nat.le_of_ble_eq_true rfl, Nat.le_of_ble_eq_true rfl⟩ dX6_padded_15 (fun r15 σ15 H locs eσ15 er15 hE15 h => ?_)
    rw [eσ15] at h
    clear hE15
    clear eσ15
    refine lv_isub hx hb dX6_padded_18 ?_
    refine M_calli (As := [.int (p1 - r15)]) (rest := []) 1 C h (k_X6_gives l g σ (p1 - r15)) (lw_V q1806 q1808 qs91 q152 q1809) rfl rfl (by decide +kernel) ⟨Nat.le_of_ble_eq_true rfl, Nat.le_of_ble_eq_true rfl⟩ rfl hl.1 rfl (Nat.le_of_ble_eq_true rfl) ⟨Nat.le_of_ble_eq_true rfl, Nat.le_of_ble_eq_true rfl⟩ dX6_padded_19 (fun r19 σ19 H locs eσ19 er19 hE19 h => ?_)
    clear hE19
    have hNEW : (0 ≤ (ga σ19 0 (0 : Int32)).toInt ∧ (ga σ19 0 (0 : Int32)).toInt ≤ 6) ∧ (0 ≤ (ga σ19 0 (2 : Int32)).toInt ∧ (ga σ19 0 (2 : Int32)).toInt ≤ 16) ∧ ((ga σ19 0 (0 : Int32)).toInt = (ga σ 0 (0 : Int32)).toInt) ∧ ((ga σ19 0 (2 : Int32)).toInt = (ga σ 0 (2 : Int32)).toInt) := ⟨(by rw [eσ19, gives_s] <;> exact hp), (by rw [eσ19, gives_s] <;> exact hd), (by rw [eσ19, gives_s] <;> exact hpq), (by rw [eσ19, gives_s] <;> exact hdq)⟩
    obtain ⟨hp, hd, hpq, hdq⟩ := hNEW
    refine lv_goto (tgt := 30) hx hb dX6_padded_22 (by decide) ?_
    have he : f_X6_padded σ p1 = (σ19, r19) := (by subst er6; subst er15; subst eσ19; subst er19; exact ((if_neg c9).trans rfl))
    exact M_reti C h hr hlocks (congrArg Prod.fst he) (congrArg Prod.snd he) ⟨hpq, hdq⟩ dX6_padded_30
def f_X6_areTwo (σ : MS) (p1 : Int32) (p2 : Int32) : Int32 := (let r2 := (f_X6_isPerson σ p1); if r2 = (0 : Int32) then ((0 : Int32)) else ((let r10 := (f_X6_isPerson σ p2); if r10 = (0 : Int32) then ((0 : Int32)) else (if p1 = p2 then ((0 : Int32)) else ((1 : Int32))))))
set_option maxHeartbeats 4000000 in
set_option maxRecDepth 100000 in
theorem k_X6_areTwo (l : Launch) (g : GE) (σ : MS) (p1 : Int32) (p2 : Int32) : Met l yX6_areTwo (ws_ yX6_areTwo cX6_areTwo 3 (some .boolean)) ({ frames := 1, cells := 0, slots := 0, locals := 21 } : Room) (mPc g σ [.int p1, .int p2]) (mQz g σ (f_X6_areTwo σ p1 p2) (fun u r => True)) 0 0 (mA g) := by
  refine met_M (by decide) rfl (Nat.le_of_ble_eq_true rfl) ?_
  intro p e s m args below meth c C hr hlocks h ls hl
  have hx := C.1.1
  have hb := C.1.2.1
  have hml := C.1.2.2.1
  have hown := C.1.2.2.2.1
  have hts := C.1.2.2.2.2
  have hl : lv_has ls 3 [(0, .ref (g.2.1 99)), (1, .int p1), (2, .int p2)] := hl
  have zl0 : (0 : Int32).toInt = 0 := rfl
  have zl1 : (1 : Int32).toInt = 1 := rfl
  refine lv_aload_n hx hb dX6_areTwo_0 rfl (lv_at hl 0 rfl) ?_
  refine lv_iload_n hx hb dX6_areTwo_1 rfl (lv_at hl 1 rfl) ?_
  refine M_callz (As := [.int p1]) (rest := []) 1 C h (k_X6_isPerson l g σ p1) (lw_V q1864 q1866 qs101 q152 q1867) rfl rfl (by decide +kernel) ⟨Nat.le_of_ble_eq_true rfl, Nat.le_of_ble_eq_true rfl⟩ rfl hl.1 rfl (Nat.le_of_ble_eq_true rfl) ⟨Nat.le_of_ble_eq_true rfl, Nat.le_of_ble_eq_true rfl⟩ dX6_areTwo_2 (fun r2 σ2 H locs eσ2 er2 br2 hE2 h => ?_)
  rw [eσ2] at h
  clear hE2
  clear eσ2
  refine lv_if_eq (tgt := 25) hx hb dX6_areTwo_5 (by decide) (fun c5 => ?_) (fun c5 => ?_)
  · have i5 := c_eq c5
    refine lv_iconst (v := 0) hx hb dX6_areTwo_25 (by decide) ?_
    have he : f_X6_areTwo σ p1 p2 = (0 : Int32) := (by subst er2; exact ((if_pos c5).trans rfl))
    exact M_retz C h hr hlocks rfl he (Or.inl rfl) trivial dX6_areTwo_26
  · have i5 := c_ne c5
    have okr2 := isPerson_ok er2 c5
    refine lv_aload_n hx hb dX6_areTwo_8 rfl (lv_at hl 0 rfl) ?_
    refine lv_iload_n hx hb dX6_areTwo_9 rfl (lv_at hl 2 rfl) ?_
    refine M_callz (As := [.int p2]) (rest := []) 1 C h (k_X6_isPerson l g σ p2) (lw_V q1864 q1866 qs101 q152 q1867) rfl rfl (by decide +kernel) ⟨Nat.le_of_ble_eq_true rfl, Nat.le_of_ble_eq_true rfl⟩ rfl hl.1 rfl (Nat.le_of_ble_eq_true rfl) ⟨Nat.le_of_ble_eq_true rfl, Nat.le_of_ble_eq_true rfl⟩ dX6_areTwo_10 (fun r10 σ10 H locs eσ10 er10 br10 hE10 h => ?_)
    rw [eσ10] at h
    clear hE10
    clear eσ10
    refine lv_if_eq (tgt := 25) hx hb dX6_areTwo_13 (by decide) (fun c13 => ?_) (fun c13 => ?_)
    · have i13 := c_eq c13
      refine lv_iconst (v := 0) hx hb dX6_areTwo_25 (by decide) ?_
      have he : f_X6_areTwo σ p1 p2 = (0 : Int32) := (by subst er2; subst er10; exact ((if_neg c5).trans ((if_pos c13).trans rfl)))
      exact M_retz C h hr hlocks rfl he (Or.inl rfl) trivial dX6_areTwo_26
    · have i13 := c_ne c13
      have okr10 := isPerson_ok er10 c13
      refine lv_iload_n hx hb dX6_areTwo_16 rfl (lv_at hl 1 rfl) ?_
      refine lv_iload_n hx hb dX6_areTwo_17 rfl (lv_at hl 2 rfl) ?_
      refine lv_icmp_eq (tgt := 25) hx hb dX6_areTwo_18 (by decide) (fun c18 => ?_) (fun c18 => ?_)
      · have i18 := c_eq c18
        refine lv_iconst (v := 0) hx hb dX6_areTwo_25 (by decide) ?_
        have he : f_X6_areTwo σ p1 p2 = (0 : Int32) := (by subst er2; subst er10; exact ((if_neg c5).trans ((if_neg c13).trans ((if_pos c18).trans rfl))))
        exact M_retz C h hr hlocks rfl he (Or.inl rfl) trivial dX6_areTwo_26
      · have i18 := c_ne c18
        refine lv_iconst (v := 1) hx hb dX6_areTwo_21 (by decide) ?_
        refine lv_goto (tgt := 26) hx hb dX6_areTwo_22 (by decide) ?_
        have he : f_X6_areTwo σ p1 p2 = (1 : Int32) := (by subst er2; subst er10; exact ((if_neg c5).trans ((if_neg c13).trans ((if_neg c18).trans rfl))))
        exact M_retz C h hr hlocks rfl he (Or.inr rfl) trivial dX6_areTwo_26
theorem areTwo_ok {σ : MS} {a b r : Int32} (h : r = f_X6_areTwo σ a b) (hr : ¬ r = 0) : (0 ≤ a.toInt ∧ a.toInt < (ga σ 0 (0 : Int32)).toInt) ∧ (0 ≤ b.toInt ∧ b.toInt < (ga σ 0 (0 : Int32)).toInt) ∧ ¬ a = b := by
  unfold f_X6_areTwo at h
  dsimp only at h
  split at h
  · exact absurd h hr
  · rename_i h1
    split at h
    · exact absurd h hr
    · rename_i h2
      split at h
      · exact absurd h hr
      · rename_i h3
        exact ⟨isPerson_ok rfl h1, isPerson_ok rfl h2, h3⟩
def f_X6_pays_L55 (y1_55 : Int32) : Nat → Int32 → MS → Int32 × MS
  | 0, x2_55, σL55 => (x2_55, σL55)
  | n + 1, x2_55, σL55 => if (ga σL55 0 (0 : Int32)) ≤ x2_55 then ((x2_55, σL55)) else (if x2_55 = y1_55 then (f_X6_pays_L55 y1_55 n (x2_55 + (1 : Int32)) σL55) else ((let r76 := (f_X6_debtRow x2_55 y1_55); let r89 := (f_X6_dueBy σL55 x2_55 (ga σL55 0 (3 : Int32))); let σ93 := sa σL55 0 r76 ((ga σL55 0 r76) + r89); f_X6_pays_L55 y1_55 n (x2_55 + (1 : Int32)) σ93)))
def f_X6_pays_L2 (σ : MS) (y1_2 : Int32) : Nat → Int32 → MS × Int32
  | 0, x2_2 => (m00, 0)
  | n + 1, x2_2 => if (ga σ 0 (0 : Int32)) ≤ x2_2 then ((let zL55 := f_X6_pays_L55 y1_2 (7) (0 : Int32) σ; let x2_55e := zL55.1; let σL55e := zL55.2; (let r105 := (f_X6_personRow y1_2); let σ114 := sa σL55e 0 (r105 + (5 : Int32)) ((ga σL55e 0 (r105 + (5 : Int32))) + (1 : Int32)); (σ114, (1 : Int32))))) else (if x2_2 = y1_2 then (f_X6_pays_L2 σ y1_2 n (x2_2 + (1 : Int32))) else ((let r23 := (f_X6_debtRow x2_2 y1_2); let r35 := (f_X6_dueBy σ x2_2 (ga σ 0 (3 : Int32))); if ((ga σ 0 r23) + r35) ≤ (999999 : Int32) then (f_X6_pays_L2 σ y1_2 n (x2_2 + (1 : Int32))) else ((σ, (0 : Int32))))))
def f_X6_pays (σ : MS) (p1 : Int32) : MS × Int32 := f_X6_pays_L2 σ p1 (7) (0 : Int32)
set_option maxHeartbeats 4000000 in
set_option maxRecDepth 100000 in
theorem k_X6_pays (l : Launch) (g : GE) (σ : MS) (p1 : Int32) (hp : 0 ≤ (ga σ 0 (0 : Int32)).toInt ∧ (ga σ 0 (0 : Int32)).toInt ≤ 6) (hd : 0 ≤ (ga σ 0 (2 : Int32)).toInt ∧ (ga σ 0 (2 : Int32)).toInt ≤ 16) (h1r : 0 ≤ p1.toInt ∧ p1.toInt ≤ 5) : Met l yX6_pays (ws_ yX6_pays cX6_pays 3 (some .boolean)) ({ frames := 4, cells := 0, slots := 0, locals := 92 } : Room) (mPc g σ [.int p1]) (mQz g (f_X6_pays σ p1).1 (f_X6_pays σ p1).2 (fun u r => ((ga u 0 (0 : Int32)).toInt = (ga σ 0 (0 : Int32)).toInt) ∧ ((ga u 0 (2 : Int32)).toInt = (ga σ 0 (2 : Int32)).toInt) ∧ (∀ j : Int32, 130 ≤ j.toInt → ga u 0 j = ga σ 0 j) ∧ ((gi u 29).toInt = (gi σ 29).toInt) ∧ ((ga u 0 (9 : Int32)).toInt = (ga σ 0 (9 : Int32)).toInt) ∧ (∀ x : Int32, (0 ≤ x.toInt ∧ x.toInt ≤ 5) → ga u 0 ((f_X6_personRow x) + (1 : Int32)) = ga σ 0 ((f_X6_personRow x) + (1 : Int32))) ∧ ((gi u 28).toInt = (gi σ 28).toInt) ∧ (MFr σ u))) 0 0 (mA g) := by
  refine met_M (by decide) rfl (Nat.le_of_ble_eq_true rfl) ?_
  intro p e s m args below meth c C hr hlocks h ls hl
  have hx := C.1.1
  have hb := C.1.2.1
  have hml := C.1.2.2.1
  have hown := C.1.2.2.2.1
  have hts := C.1.2.2.2.2
  have hl : lv_has ls 3 [(0, .ref (g.2.1 99)), (1, .int p1)] := hl
  have hpq : (ga σ 0 (0 : Int32)).toInt = (ga σ 0 (0 : Int32)).toInt := rfl
  have hdq : (ga σ 0 (2 : Int32)).toInt = (ga σ 0 (2 : Int32)).toInt := rfl
  have hY : ∀ j : Int32, 130 ≤ j.toInt → ga σ 0 j = ga σ 0 j := fun _ _ => rfl
  have hrq : (gi σ 29).toInt = (gi σ 29).toInt := rfl
  have hsq : (ga σ 0 (9 : Int32)).toInt = (ga σ 0 (9 : Int32)).toInt := rfl
  have hQq : ∀ x : Int32, (0 ≤ x.toInt ∧ x.toInt ≤ 5) → ga σ 0 ((f_X6_personRow x) + (1 : Int32)) = ga σ 0 ((f_X6_personRow x) + (1 : Int32)) := fun _ _ => rfl
  have hdq28 : (gi σ 28).toInt = (gi σ 28).toInt := rfl
  have hLF : MFr σ σ := Fr.rf
  have zl0 : (0 : Int32).toInt = 0 := rfl
  have zl1 : (1 : Int32).toInt = 1 := rfl
  have zl2 : (2 : Int32).toInt = 2 := rfl
  have zl3 : (3 : Int32).toInt = 3 := rfl
  have zl5 : (5 : Int32).toInt = 5 := rfl
  have zl6 : (6 : Int32).toInt = 6 := rfl
  have zl8 : (8 : Int32).toInt = 8 := rfl
  have zl9 : (9 : Int32).toInt = 9 := rfl
  have zl12 : (12 : Int32).toInt = 12 := rfl
  have zl92 : (92 : Int32).toInt = 92 := rfl
  have zl999999 : (999999 : Int32).toInt = 999999 := rfl
  refine lv_iconst (v := 0) hx hb dX6_pays_0 (by decide) ?_
  refine lv_istore_n (lv' := [(2, .int (0 : Int32)), (0, .ref (g.2.1 99)), (1, .int p1)]) hx hb dX6_pays_1 rfl hl (by decide) rfl (fun ls hl => ?_)
  have hL2 : ∀ (n : Nat) (x2_2 : Int32) (H : Heap) (locs : List Loc) (ls : Array Slot), (0 ≤ x2_2.toInt ∧ x2_2.toInt ≤ (ga σ 0 (0 : Int32)).toInt) → ((ga σ 0 (0 : Int32)).toInt - x2_2.toInt).toNat < n → f_X6_pays σ p1 = f_X6_pays_L2 σ p1 n x2_2 → MH g σ s H locs → lv_has ls 3 [(0, .ref (g.2.1 99)), (1, .int p1), (2, .int x2_2)] → W p l e ({ frames := 4, cells := 0, slots := 0, locals := 92 } : Room) s m args below meth c H locs 0 0 (MQ below (mQz g (f_X6_pays σ p1).1 (f_X6_pays σ p1).2 (fun u r => ((ga u 0 (0 : Int32)).toInt = (ga σ 0 (0 : Int32)).toInt) ∧ ((ga u 0 (2 : Int32)).toInt = (ga σ 0 (2 : Int32)).toInt) ∧ (∀ j : Int32, 130 ≤ j.toInt → ga u 0 j = ga σ 0 j) ∧ ((gi u 29).toInt = (gi σ 29).toInt) ∧ ((ga u 0 (9 : Int32)).toInt = (ga σ 0 (9 : Int32)).toInt) ∧ (∀ x : Int32, (0 ≤ x.toInt ∧ x.toInt ≤ 5) → ga u 0 ((f_X6_personRow x) + (1 : Int32)) = ga σ 0 ((f_X6_personRow x) + (1 : Int32))) ∧ ((gi u 28).toInt = (gi σ 28).toInt) ∧ (MFr σ u))) args s 0 0 (mA g)) (F0 m 2 ls []) := by
    intro n
    induction n with
    | zero =>
      intro x2_2 H locs ls _ hm; exact absurd hm (Nat.not_lt_zero _)
    | succ n ih =>
      intro x2_2 H locs ls hI2 hm hf2 h hl
      refine lv_iload_n hx hb dX6_pays_2 rfl (lv_at hl 2 rfl) ?_
      refine lv_aload_n hx hb dX6_pays_3 rfl (lv_at hl 0 rfl) ?_
      refine Mg_0 C h dX6_pays_4 ?_
      refine lv_iconst (v := 0) hx hb dX6_pays_7 (by decide) ?_
      refine Ml_0 C h (ix_of zl0 (by omega)) dX6_pays_8 ?_
      refine lv_icmp_ge (tgt := 53) hx hb dX6_pays_9 (by decide) (fun c9 => ?_) (fun c9 => ?_)
      · have i9 := c_le c9
        refine lv_iconst (v := 0) hx hb dX6_pays_53 (by decide) ?_
        refine lv_istore_n (lv' := [(2, .int (0 : Int32)), (0, .ref (g.2.1 99)), (1, .int p1)]) hx hb dX6_pays_54 rfl hl (by decide) rfl (fun ls hl => ?_)
        have hL55 : ∀ (n : Nat) (x2_55 : Int32) (σL55 : MS) (H : Heap) (locs : List Loc) (ls : Array Slot), (0 ≤ (ga σL55 0 (0 : Int32)).toInt ∧ (ga σL55 0 (0 : Int32)).toInt ≤ 6) → (0 ≤ (ga σL55 0 (2 : Int32)).toInt ∧ (ga σL55 0 (2 : Int32)).toInt ≤ 16) → ((ga σL55 0 (0 : Int32)).toInt = (ga σ 0 (0 : Int32)).toInt) → ((ga σL55 0 (2 : Int32)).toInt = (ga σ 0 (2 : Int32)).toInt) → (∀ j : Int32, 130 ≤ j.toInt → ga σL55 0 j = ga σ 0 j) → ((gi σL55 29).toInt = (gi σ 29).toInt) → ((ga σL55 0 (9 : Int32)).toInt = (ga σ 0 (9 : Int32)).toInt) → (∀ x : Int32, (0 ≤ x.toInt ∧ x.toInt ≤ 5) → ga σL55 0 ((f_X6_personRow x) + (1 : Int32)) = ga σ 0 ((f_X6_personRow x) + (1 : Int32))) → ((gi σL55 28).toInt = (gi σ 28).toInt) → (MFr σ σL55) → (0 ≤ x2_55.toInt ∧ x2_55.toInt ≤ (ga σL55 0 (0 : Int32)).toInt) → ((ga σL55 0 (0 : Int32)).toInt - x2_55.toInt).toNat < n → MH g σL55 s H locs → lv_has ls 3 [(0, .ref (g.2.1 99)), (1, .int p1), (2, .int x2_55)] → (∀ (x2_55' : Int32) (σL55' : MS) (H : Heap) (locs : List Loc) (ls : Array Slot), f_X6_pays_L55 p1 n x2_55 σL55 = (x2_55', σL55') → (0 ≤ (ga σL55' 0 (0 : Int32)).toInt ∧ (ga σL55' 0 (0 : Int32)).toInt ≤ 6) → (0 ≤ (ga σL55' 0 (2 : Int32)).toInt ∧ (ga σL55' 0 (2 : Int32)).toInt ≤ 16) → ((ga σL55' 0 (0 : Int32)).toInt = (ga σ 0 (0 : Int32)).toInt) → ((ga σL55' 0 (2 : Int32)).toInt = (ga σ 0 (2 : Int32)).toInt) → (∀ j : Int32, 130 ≤ j.toInt → ga σL55' 0 j = ga σ 0 j) → ((gi σL55' 29).toInt = (gi σ 29).toInt) → ((ga σL55' 0 (9 : Int32)).toInt = (ga σ 0 (9 : Int32)).toInt) → (∀ x : Int32, (0 ≤ x.toInt ∧ x.toInt ≤ 5) → ga σL55' 0 ((f_X6_personRow x) + (1 : Int32)) = ga σ 0 ((f_X6_personRow x) + (1 : Int32))) → ((gi σL55' 28).toInt = (gi σ 28).toInt) → (MFr σ σL55') → (0 ≤ x2_55'.toInt ∧ x2_55'.toInt ≤ (ga σL55' 0 (0 : Int32)).toInt) → MH g σL55' s H locs → lv_has ls 3 [(0, .ref (g.2.1 99)), (1, .int p1)] → W p l e ({ frames := 4, cells := 0, slots := 0, locals := 92 } : Room) s m args below meth c H locs 0 0 (MQ below (mQz g (f_X6_pays σ p1).1 (f_X6_pays σ p1).2 (fun u r => ((ga u 0 (0 : Int32)).toInt = (ga σ 0 (0 : Int32)).toInt) ∧ ((ga u 0 (2 : Int32)).toInt = (ga σ 0 (2 : Int32)).toInt) ∧ (∀ j : Int32, 130 ≤ j.toInt → ga u 0 j = ga σ 0 j) ∧ ((gi u 29).toInt = (gi σ 29).toInt) ∧ ((ga u 0 (9 : Int32)).toInt = (ga σ 0 (9 : Int32)).toInt) ∧ (∀ x : Int32, (0 ≤ x.toInt ∧ x.toInt ≤ 5) → ga u 0 ((f_X6_personRow x) + (1 : Int32)) = ga σ 0 ((f_X6_personRow x) + (1 : Int32))) ∧ ((gi u 28).toInt = (gi σ 28).toInt) ∧ (MFr σ u))) args s 0 0 (mA g)) (F0 m 100 ls [])) → W p l e ({ frames := 4, cells := 0, slots := 0, locals := 92 } : Room) s m args below meth c H locs 0 0 (MQ below (mQz g (f_X6_pays σ p1).1 (f_X6_pays σ p1).2 (fun u r => ((ga u 0 (0 : Int32)).toInt = (ga σ 0 (0 : Int32)).toInt) ∧ ((ga u 0 (2 : Int32)).toInt = (ga σ 0 (2 : Int32)).toInt) ∧ (∀ j : Int32, 130 ≤ j.toInt → ga u 0 j = ga σ 0 j) ∧ ((gi u 29).toInt = (gi σ 29).toInt) ∧ ((ga u 0 (9 : Int32)).toInt = (ga σ 0 (9 : Int32)).toInt) ∧ (∀ x : Int32, (0 ≤ x.toInt ∧ x.toInt ≤ 5) → ga u 0 ((f_X6_personRow x) + (1 : Int32)) = ga σ 0 ((f_X6_personRow x) + (1 : Int32))) ∧ ((gi u 28).toInt = (gi σ 28).toInt) ∧ (MFr σ u))) args s 0 0 (mA g)) (F0 m 55 ls []) := by
          intro n
          induction n with
          | zero =>
            intro x2_55 σL55 H locs ls hp hd hpq hdq hY hrq hsq hQq hdq28 hLF _ hm; exact absurd hm (Nat.not_lt_zero _)
          | succ n ih =>
            intro x2_55 σL55 H locs ls hp hd hpq hdq hY hrq hsq hQq hdq28 hLF hI55 hm h hl kk
            refine lv_iload_n hx hb dX6_pays_55 rfl (lv_at hl 2 rfl) ?_
            refine lv_aload_n hx hb dX6_pays_56 rfl (lv_at hl 0 rfl) ?_
            refine Mg_0 C h dX6_pays_57 ?_
            refine lv_iconst (v := 0) hx hb dX6_pays_60 (by decide) ?_
            refine Ml_0 C h (ix_of zl0 (by omega)) dX6_pays_61 ?_
            refine lv_icmp_ge (tgt := 100) hx hb dX6_pays_62 (by decide) (fun c62 => ?_) (fun c62 => ?_)
            · have i62 := c_le c62
              exact kk x2_55 σL55 _ _ _ (show f_X6_pays_L55 p1 (n + 1) x2_55 σL55 = (x2_55, σL55) from (by exact ((if_pos c62).trans rfl))) hp hd hpq hdq hY hrq hsq hQq hdq28 hLF (by first | assumption | omega) h (lv_sub hl [0, 1] rfl)
            · have i62 := c_nle c62
              refine lv_iload_n hx hb dX6_pays_65 rfl (lv_at hl 2 rfl) ?_
              refine lv_iload_n hx hb dX6_pays_66 rfl (lv_at hl 1 rfl) ?_
              refine lv_icmp_eq (tgt := 94) hx hb dX6_pays_67 (by decide) (fun c67 => ?_) (fun c67 => ?_)
              · have i67 := c_eq c67
                refine lv_iinc (v := (x2_55 + (1 : Int32))) (lv' := [(2, .int (x2_55 + (1 : Int32))), (0, .ref (g.2.1 99)), (1, .int p1)]) hx hb dX6_pays_94 hl (k := 2) rfl rfl (by decide) rfl (fun ls hl => ?_)
                refine lv_goto (tgt := 55) hx hb dX6_pays_97 (by decide) ?_
                have tt2 : (x2_55 + (1 : Int32)).toInt = (x2_55.toInt + (1)) := (i_add (rfl : x2_55.toInt = x2_55.toInt) zl1 (by omega))
                exact ih (x2_55 + (1 : Int32)) σL55 _ _ _ hp hd hpq hdq hY hrq hsq hQq hdq28 hLF (by first | assumption | omega) (by omega) h (lv_sub hl [1, 2, 0] rfl) (fun x2_55' σL55' H locs ls en hp hd hpq hdq hY hrq hsq hQq hdq28 hLF hI h hl => kk x2_55' σL55' H locs ls ((show f_X6_pays_L55 p1 (n + 1) x2_55 σL55 = f_X6_pays_L55 p1 n (x2_55 + (1 : Int32)) σL55 from (by exact ((if_neg c62).trans ((if_pos c67).trans rfl)))).trans en) hp hd hpq hdq hY hrq hsq hQq hdq28 hLF hI h hl)
              · have i67 := c_ne c67
                refine lv_aload_n hx hb dX6_pays_70 rfl (lv_at hl 0 rfl) ?_
                refine Mg_0 C h dX6_pays_71 ?_
                refine lv_iload_n hx hb dX6_pays_74 rfl (lv_at hl 2 rfl) ?_
                refine lv_iload_n hx hb dX6_pays_75 rfl (lv_at hl 1 rfl) ?_
                refine s_calli (As := [.int x2_55, .int p1]) (rest := [.ref (g.2.1 0)]) 2 C.1 (k_X6_debtRow l x2_55 p1) (lw_S q1970 q1971 q152 q1972) rfl rfl (by decide +kernel) ⟨Nat.le_of_ble_eq_true rfl, Nat.le_of_ble_eq_true rfl⟩ rfl hl.1 rfl (Nat.le_of_ble_eq_true rfl) ⟨Nat.le_of_ble_eq_true rfl, Nat.le_of_ble_eq_true rfl⟩ dX6_pays_76 h.2.2 (fun r76 H locs er76 hz1 hk1 hS1 => ?_)
                have h := h.same hk1 hS1
                clear hz1 hk1 hS1
                have tr76 : r76.toInt = (((92) + ((6) * x2_55.toInt)) + p1.toInt) := by rw [er76]; exact (i_add (i_add zl92 (i_mul zl6 (rfl : x2_55.toInt = x2_55.toInt) (by omega)) (by omega)) (rfl : p1.toInt = p1.toInt) (by omega))
                refine lv_dup2_11 hx hb dX6_pays_79 rfl rfl ?_
                refine Ml_0 C h (ix_of tr76 (by omega)) dX6_pays_80 ?_
                refine lv_aload_n hx hb dX6_pays_81 rfl (lv_at hl 0 rfl) ?_
                refine lv_iload_n hx hb dX6_pays_82 rfl (lv_at hl 2 rfl) ?_
                refine lv_aload_n hx hb dX6_pays_83 rfl (lv_at hl 0 rfl) ?_
                refine Mg_0 C h dX6_pays_84 ?_
                refine lv_iconst (v := 3) hx hb dX6_pays_87 (by decide) ?_
                refine Ml_0 C h (ix_of zl3 (by omega)) dX6_pays_88 ?_
                refine M_calli (As := [.int x2_55, .int (ga σL55 0 (3 : Int32))]) (rest := [.int (ga σL55 0 r76), .int r76, .ref (g.2.1 0)]) 2 C h (k_X6_dueBy l g σL55 x2_55 (ga σL55 0 (3 : Int32)) (by first | assumption | omega) (by first | assumption | omega) (by first | assumption | omega)) (lw_V q1898 q1900 qs105 q152 q1901) rfl rfl (by decide +kernel) ⟨Nat.le_of_ble_eq_true rfl, Nat.le_of_ble_eq_true rfl⟩ rfl hl.1 rfl (Nat.le_of_ble_eq_true rfl) ⟨Nat.le_of_ble_eq_true rfl, Nat.le_of_ble_eq_true rfl⟩ dX6_pays_89 (fun r89 σ89 H locs eσ89 er89 hE89 h => ?_)
                rw [eσ89] at h
                clear hE89
                clear eσ89
                refine lv_iadd hx hb dX6_pays_92 ?_
                refine Ms_0 C h (ix_of tr76 (by omega)) dX6_pays_93 (fun σ93 H locs eσ93 h => ?_)
                have hNEW : (0 ≤ (ga σ93 0 (0 : Int32)).toInt ∧ (ga σ93 0 (0 : Int32)).toInt ≤ 6) ∧ (0 ≤ (ga σ93 0 (2 : Int32)).toInt ∧ (ga σ93 0 (2 : Int32)).toInt ≤ 16) ∧ ((ga σ93 0 (0 : Int32)).toInt = (ga σ 0 (0 : Int32)).toInt) ∧ ((ga σ93 0 (2 : Int32)).toInt = (ga σ 0 (2 : Int32)).toInt) ∧ (∀ j : Int32, 130 ≤ j.toInt → ga σ93 0 j = ga σ 0 j) ∧ ((gi σ93 29).toInt = (gi σ 29).toInt) ∧ ((ga σ93 0 (9 : Int32)).toInt = (ga σ 0 (9 : Int32)).toInt) ∧ (∀ x : Int32, (0 ≤ x.toInt ∧ x.toInt ≤ 5) → ga σ93 0 ((f_X6_personRow x) + (1 : Int32)) = ga σ 0 ((f_X6_personRow x) + (1 : Int32))) ∧ ((gi σ93 28).toInt = (gi σ 28).toInt) ∧ (MFr σ σ93) := ⟨(by rw [eσ93, ga_sa_ne (j := (0 : Int32)) tr76 zl0 (by omega)] <;> exact hp), (by rw [eσ93, ga_sa_ne (j := (2 : Int32)) tr76 zl2 (by omega)] <;> exact hd), (by rw [eσ93, ga_sa_ne (j := (0 : Int32)) tr76 zl0 (by omega)] <;> exact hpq), (by rw [eσ93, ga_sa_ne (j := (2 : Int32)) tr76 zl2 (by omega)] <;> exact hdq), (by rw [eσ93]; exact hY_sa tr76 (by omega) hY), (by rw [eσ93, ] <;> exact hrq), (by rw [eσ93, ga_sa_ne (j := (9 : Int32)) tr76 zl9 (by omega)] <;> exact hsq), (by rw [eσ93]; exact hQ_sa tr76 (by omega) hQq), (by rw [eσ93, ] <;> exact hdq28), (by rw [eσ93]; exact (Fr_sa tr76 (by first | omega | (dsimp only; omega)) (by omega) hLF))⟩
                obtain ⟨hp, hd, hpq, hdq, hY, hrq, hsq, hQq, hdq28, hLF⟩ := hNEW
                refine lv_iinc (v := (x2_55 + (1 : Int32))) (lv' := [(2, .int (x2_55 + (1 : Int32))), (0, .ref (g.2.1 99)), (1, .int p1)]) hx hb dX6_pays_94 hl (k := 2) rfl rfl (by decide) rfl (fun ls hl => ?_)
                refine lv_goto (tgt := 55) hx hb dX6_pays_97 (by decide) ?_
                have tt2 : (x2_55 + (1 : Int32)).toInt = (x2_55.toInt + (1)) := (i_add (rfl : x2_55.toInt = x2_55.toInt) zl1 (by omega))
                exact ih (x2_55 + (1 : Int32)) σ93 _ _ _ hp hd hpq hdq hY hrq hsq hQq hdq28 hLF (by first | assumption | omega) (by omega) h (lv_sub hl [1, 2, 0] rfl) (fun x2_55' σL55' H locs ls en hp hd hpq hdq hY hrq hsq hQq hdq28 hLF hI h hl => kk x2_55' σL55' H locs ls ((show f_X6_pays_L55 p1 (n + 1) x2_55 σL55 = f_X6_pays_L55 p1 n (x2_55 + (1 : Int32)) σ93 from (by subst er76; subst er89; subst eσ93; exact ((if_neg c62).trans ((if_neg c67).trans rfl)))).trans en) hp hd hpq hdq hY hrq hsq hQq hdq28 hLF hI h hl)
        refine hL55 (7) (0 : Int32) σ _ _ _ hp hd hpq hdq hY hrq hsq hQq hdq28 hLF (by first | assumption | omega) (by omega) h (lv_sub hl [1, 2, 0] rfl) (fun x2_55e σL55e H locs ls eL55 hp hd hpq hdq hY hrq hsq hQq hdq28 hLF hI55 h hl => ?_)
        have ex2_55e : x2_55e = (f_X6_pays_L55 p1 (7) (0 : Int32) σ).1 := by rw [eL55]
        have eσL55e : σL55e = (f_X6_pays_L55 p1 (7) (0 : Int32) σ).2 := by rw [eL55]
        refine lv_aload_n hx hb dX6_pays_100 rfl (lv_at hl 0 rfl) ?_
        refine Mg_0 C h dX6_pays_101 ?_
        refine lv_iload_n hx hb dX6_pays_104 rfl (lv_at hl 1 rfl) ?_
        refine s_calli (As := [.int p1]) (rest := [.ref (g.2.1 0)]) 1 C.1 (k_X6_personRow l p1) (lw_S q1857 q1858 q152 q1859) rfl rfl (by decide +kernel) ⟨Nat.le_of_ble_eq_true rfl, Nat.le_of_ble_eq_true rfl⟩ rfl hl.1 rfl (Nat.le_of_ble_eq_true rfl) ⟨Nat.le_of_ble_eq_true rfl, Nat.le_of_ble_eq_true rfl⟩ dX6_pays_105 h.2.2 (fun r105 H locs er105 hz1 hk1 hS1 => ?_)
        have h := h.same hk1 hS1
        clear hz1 hk1 hS1
        have tr105 : r105.toInt = ((12) + ((8) * p1.toInt)) := by rw [er105]; exact (i_add zl12 (i_mul zl8 (rfl : p1.toInt = p1.toInt) (by omega)) (by omega))
        refine lv_iconst (v := 5) hx hb dX6_pays_108 (by decide) ?_
        refine lv_iadd hx hb dX6_pays_109 ?_
        refine lv_dup2_11 hx hb dX6_pays_110 rfl rfl ?_
        refine Ml_0 C h (ix_of (i_add tr105 zl5 (by omega)) (by omega)) dX6_pays_111 ?_
        refine lv_iconst (v := 1) hx hb dX6_pays_112 (by decide) ?_
        refine lv_iadd hx hb dX6_pays_113 ?_
        refine Ms_0 C h (ix_of (i_add tr105 zl5 (by omega)) (by omega)) dX6_pays_114 (fun σ114 H locs eσ114 h => ?_)
        have hNEW : (0 ≤ (ga σ114 0 (0 : Int32)).toInt ∧ (ga σ114 0 (0 : Int32)).toInt ≤ 6) ∧ (0 ≤ (ga σ114 0 (2 : Int32)).toInt ∧ (ga σ114 0 (2 : Int32)).toInt ≤ 16) ∧ ((ga σ114 0 (0 : Int32)).toInt = (ga σ 0 (0 : Int32)).toInt) ∧ ((ga σ114 0 (2 : Int32)).toInt = (ga σ 0 (2 : Int32)).toInt) ∧ (∀ j : Int32, 130 ≤ j.toInt → ga σ114 0 j = ga σ 0 j) ∧ ((gi σ114 29).toInt = (gi σ 29).toInt) ∧ ((ga σ114 0 (9 : Int32)).toInt = (ga σ 0 (9 : Int32)).toInt) ∧ (∀ x : Int32, (0 ≤ x.toInt ∧ x.toInt ≤ 5) → ga σ114 0 ((f_X6_personRow x) + (1 : Int32)) = ga σ 0 ((f_X6_personRow x) + (1 : Int32))) ∧ ((gi σ114 28).toInt = (gi σ 28).toInt) ∧ (MFr σ σ114) := ⟨(by rw [eσ114, ga_sa_ne (j := (0 : Int32)) (i_add tr105 zl5 (by omega)) zl0 (by omega)] <;> exact hp), (by rw [eσ114, ga_sa_ne (j := (2 : Int32)) (i_add tr105 zl5 (by omega)) zl2 (by omega)] <;> exact hd), (by rw [eσ114, ga_sa_ne (j := (0 : Int32)) (i_add tr105 zl5 (by omega)) zl0 (by omega)] <;> exact hpq), (by rw [eσ114, ga_sa_ne (j := (2 : Int32)) (i_add tr105 zl5 (by omega)) zl2 (by omega)] <;> exact hdq), (by rw [eσ114]; exact hY_sa (i_add tr105 zl5 (by omega)) (by omega) hY), (by rw [eσ114, ] <;> exact hrq), (by rw [eσ114, ga_sa_ne (j := (9 : Int32)) (i_add tr105 zl5 (by omega)) zl9 (by omega)] <;> exact hsq), (by rw [eσ114]; exact hQ_sa (i_add tr105 zl5 (by omega)) (by omega) hQq), (by rw [eσ114, ] <;> exact hdq28), (by rw [eσ114]; exact (Fr_sa (i_add tr105 zl5 (by omega)) (by first | omega | (dsimp only; omega)) (by omega) hLF))⟩
        obtain ⟨hp, hd, hpq, hdq, hY, hrq, hsq, hQq, hdq28, hLF⟩ := hNEW
        refine lv_iconst (v := 1) hx hb dX6_pays_115 (by decide) ?_
        have he : f_X6_pays σ p1 = (σ114, (1 : Int32)) := (by subst ex2_55e; subst eσL55e; subst er105; subst eσ114; exact (hf2.trans ((if_pos c9).trans rfl)))
        exact M_retz C h hr hlocks (congrArg Prod.fst he) (congrArg Prod.snd he) (Or.inr rfl) ⟨hpq, hdq, hY, hrq, hsq, hQq, hdq28, hLF⟩ dX6_pays_116
      · have i9 := c_nle c9
        refine lv_iload_n hx hb dX6_pays_12 rfl (lv_at hl 2 rfl) ?_
        refine lv_iload_n hx hb dX6_pays_13 rfl (lv_at hl 1 rfl) ?_
        refine lv_icmp_eq (tgt := 47) hx hb dX6_pays_14 (by decide) (fun c14 => ?_) (fun c14 => ?_)
        · have i14 := c_eq c14
          refine lv_iinc (v := (x2_2 + (1 : Int32))) (lv' := [(2, .int (x2_2 + (1 : Int32))), (0, .ref (g.2.1 99)), (1, .int p1)]) hx hb dX6_pays_47 hl (k := 2) rfl rfl (by decide) rfl (fun ls hl => ?_)
          refine lv_goto (tgt := 2) hx hb dX6_pays_50 (by decide) ?_
          have tt2 : (x2_2 + (1 : Int32)).toInt = (x2_2.toInt + (1)) := (i_add (rfl : x2_2.toInt = x2_2.toInt) zl1 (by omega))
          exact ih (x2_2 + (1 : Int32)) _ _ _  (by first | assumption | omega) (by omega) (by exact (hf2.trans ((if_neg c9).trans ((if_pos c14).trans rfl)))) h (lv_sub hl [1, 2, 0] rfl)
        · have i14 := c_ne c14
          refine lv_aload_n hx hb dX6_pays_17 rfl (lv_at hl 0 rfl) ?_
          refine Mg_0 C h dX6_pays_18 ?_
          refine lv_iload_n hx hb dX6_pays_21 rfl (lv_at hl 2 rfl) ?_
          refine lv_iload_n hx hb dX6_pays_22 rfl (lv_at hl 1 rfl) ?_
          refine s_calli (As := [.int x2_2, .int p1]) (rest := [.ref (g.2.1 0)]) 2 C.1 (k_X6_debtRow l x2_2 p1) (lw_S q1970 q1971 q152 q1972) rfl rfl (by decide +kernel) ⟨Nat.le_of_ble_eq_true rfl, Nat.le_of_ble_eq_true rfl⟩ rfl hl.1 rfl (Nat.le_of_ble_eq_true rfl) ⟨Nat.le_of_ble_eq_true rfl, Nat.le_of_ble_eq_true rfl⟩ dX6_pays_23 h.2.2 (fun r23 H locs er23 hz1 hk1 hS1 => ?_)
          have h := h.same hk1 hS1
          clear hz1 hk1 hS1
          have tr23 : r23.toInt = (((92) + ((6) * x2_2.toInt)) + p1.toInt) := by rw [er23]; exact (i_add (i_add zl92 (i_mul zl6 (rfl : x2_2.toInt = x2_2.toInt) (by omega)) (by omega)) (rfl : p1.toInt = p1.toInt) (by omega))
          refine Ml_0 C h (ix_of tr23 (by omega)) dX6_pays_26 ?_
          refine lv_aload_n hx hb dX6_pays_27 rfl (lv_at hl 0 rfl) ?_
          refine lv_iload_n hx hb dX6_pays_28 rfl (lv_at hl 2 rfl) ?_
          refine lv_aload_n hx hb dX6_pays_29 rfl (lv_at hl 0 rfl) ?_
          refine Mg_0 C h dX6_pays_30 ?_
          refine lv_iconst (v := 3) hx hb dX6_pays_33 (by decide) ?_
          refine Ml_0 C h (ix_of zl3 (by omega)) dX6_pays_34 ?_
          refine M_calli (As := [.int x2_2, .int (ga σ 0 (3 : Int32))]) (rest := [.int (ga σ 0 r23)]) 2 C h (k_X6_dueBy l g σ x2_2 (ga σ 0 (3 : Int32)) (by first | assumption | omega) (by first | assumption | omega) (by first | assumption | omega)) (lw_V q1898 q1900 qs105 q152 q1901) rfl rfl (by decide +kernel) ⟨Nat.le_of_ble_eq_true rfl, Nat.le_of_ble_eq_true rfl⟩ rfl hl.1 rfl (Nat.le_of_ble_eq_true rfl) ⟨Nat.le_of_ble_eq_true rfl, Nat.le_of_ble_eq_true rfl⟩ dX6_pays_35 (fun r35 σ35 H locs eσ35 er35 hE35 h => ?_)
          rw [eσ35] at h
          clear hE35
          clear eσ35
          refine lv_iadd hx hb dX6_pays_38 ?_
          refine lv_ldcw hx hb hown (hts _ q1973) dX6_pays_39 ?_
          refine lv_icmp_le (tgt := 47) hx hb dX6_pays_42 (by decide) (fun c42 => ?_) (fun c42 => ?_)
          · have i42 := c_le c42
            refine lv_iinc (v := (x2_2 + (1 : Int32))) (lv' := [(2, .int (x2_2 + (1 : Int32))), (0, .ref (g.2.1 99)), (1, .int p1)]) hx hb dX6_pays_47 hl (k := 2) rfl rfl (by decide) rfl (fun ls hl => ?_)
            refine lv_goto (tgt := 2) hx hb dX6_pays_50 (by decide) ?_
            have tt2 : (x2_2 + (1 : Int32)).toInt = (x2_2.toInt + (1)) := (i_add (rfl : x2_2.toInt = x2_2.toInt) zl1 (by omega))
            exact ih (x2_2 + (1 : Int32)) _ _ _  (by first | assumption | omega) (by omega) (by subst er23; subst er35; exact (hf2.trans ((if_neg c9).trans ((if_neg c14).trans ((if_pos c42).trans rfl))))) h (lv_sub hl [1, 2, 0] rfl)
          · have i42 := c_nle c42
            refine lv_iconst (v := 0) hx hb dX6_pays_45 (by decide) ?_
            have he : f_X6_pays σ p1 = (σ, (0 : Int32)) := (by subst er23; subst er35; exact (hf2.trans ((if_neg c9).trans ((if_neg c14).trans ((if_neg c42).trans rfl)))))
            exact M_retz C h hr hlocks (congrArg Prod.fst he) (congrArg Prod.snd he) (Or.inl rfl) ⟨hpq, hdq, hY, hrq, hsq, hQq, hdq28, hLF⟩ dX6_pays_46
  exact hL2 (7) (0 : Int32) _ _ _  (by first | assumption | omega) (by omega) (by exact rfl) h (lv_sub hl [1, 2, 0] rfl)
def f_X6_pay (σ : MS) (p1 : Int32) : MS × Int32 := (let r2 := (f_X6_isPerson σ p1); if r2 = (0 : Int32) then ((let z10 := (f_X6_refuse σ (1 : Int32)); let σ10 := z10.1; let r10 := z10.2; (σ10, r10))) else ((let z16 := (f_X6_pays σ p1); let σ16 := z16.1; let r16 := z16.2; if r16 = (0 : Int32) then ((let z43 := (f_X6_refuse σ16 (7 : Int32)); let σ43 := z43.1; let r43 := z43.2; (σ43, r43))) else ((let r28 := (f_X6_personRow p1); let z34 := (f_X6_gives σ16 (ga σ16 0 (r28 + (5 : Int32)))); let σ34 := z34.1; let r34 := z34.2; (σ34, r34))))))
set_option maxHeartbeats 4000000 in
set_option maxRecDepth 100000 in
theorem k_X6_pay (l : Launch) (g : GE) (σ : MS) (p1 : Int32) (hp : 0 ≤ (ga σ 0 (0 : Int32)).toInt ∧ (ga σ 0 (0 : Int32)).toInt ≤ 6) (hd : 0 ≤ (ga σ 0 (2 : Int32)).toInt ∧ (ga σ 0 (2 : Int32)).toInt ≤ 16) : Met l yX6_pay (ws_ yX6_pay cX6_pay 2 (some .int)) ({ frames := 5, cells := 0, slots := 0, locals := 114 } : Room) (mPc g σ [.int p1]) (mQi g (f_X6_pay σ p1).1 (f_X6_pay σ p1).2 (fun u r => ((ga u 0 (0 : Int32)).toInt = (ga σ 0 (0 : Int32)).toInt) ∧ ((ga u 0 (2 : Int32)).toInt = (ga σ 0 (2 : Int32)).toInt) ∧ (MFr σ u))) 0 0 (mA g) := by
  refine met_M (by decide) rfl (Nat.le_of_ble_eq_true rfl) ?_
  intro p e s m args below meth c C hr hlocks h ls hl
  have hx := C.1.1
  have hb := C.1.2.1
  have hml := C.1.2.2.1
  have hown := C.1.2.2.2.1
  have hts := C.1.2.2.2.2
  have hl : lv_has ls 2 [(0, .ref (g.2.1 99)), (1, .int p1)] := hl
  have hpq : (ga σ 0 (0 : Int32)).toInt = (ga σ 0 (0 : Int32)).toInt := rfl
  have hdq : (ga σ 0 (2 : Int32)).toInt = (ga σ 0 (2 : Int32)).toInt := rfl
  have hLF : MFr σ σ := Fr.rf
  have zl0 : (0 : Int32).toInt = 0 := rfl
  have zl1 : (1 : Int32).toInt = 1 := rfl
  have zl5 : (5 : Int32).toInt = 5 := rfl
  have zl7 : (7 : Int32).toInt = 7 := rfl
  have zl8 : (8 : Int32).toInt = 8 := rfl
  have zl12 : (12 : Int32).toInt = 12 := rfl
  refine lv_aload_n hx hb dX6_pay_0 rfl (lv_at hl 0 rfl) ?_
  refine lv_iload_n hx hb dX6_pay_1 rfl (lv_at hl 1 rfl) ?_
  refine M_callz (As := [.int p1]) (rest := []) 1 C h (k_X6_isPerson l g σ p1) (lw_V q1864 q1866 qs101 q152 q1867) rfl rfl (by decide +kernel) ⟨Nat.le_of_ble_eq_true rfl, Nat.le_of_ble_eq_true rfl⟩ rfl hl.1 rfl (Nat.le_of_ble_eq_true rfl) ⟨Nat.le_of_ble_eq_true rfl, Nat.le_of_ble_eq_true rfl⟩ dX6_pay_2 (fun r2 σ2 H locs eσ2 er2 br2 hE2 h => ?_)
  rw [eσ2] at h
  clear hE2
  clear eσ2
  refine lv_if_ne (tgt := 14) hx hb dX6_pay_5 (by decide) (fun c5 => ?_) (fun c5 => ?_)
  · have i5 := c_ne c5
    have okr2 := isPerson_ok er2 c5
    refine lv_aload_n hx hb dX6_pay_14 rfl (lv_at hl 0 rfl) ?_
    refine lv_iload_n hx hb dX6_pay_15 rfl (lv_at hl 1 rfl) ?_
    refine M_callz (As := [.int p1]) (rest := []) 1 C h (k_X6_pays l g σ p1 (by first | assumption | omega) (by first | assumption | omega) (by first | assumption | omega)) (lw_V q1966 q1968 qs109 q152 q1969) rfl rfl (by decide +kernel) ⟨Nat.le_of_ble_eq_true rfl, Nat.le_of_ble_eq_true rfl⟩ rfl hl.1 rfl (Nat.le_of_ble_eq_true rfl) ⟨Nat.le_of_ble_eq_true rfl, Nat.le_of_ble_eq_true rfl⟩ dX6_pay_16 (fun r16 σ16 H locs eσ16 er16 br16 hE16 h => ?_)
    have hE16 : ((ga σ16 0 (0 : Int32)).toInt = (ga σ 0 (0 : Int32)).toInt) ∧ ((ga σ16 0 (2 : Int32)).toInt = (ga σ 0 (2 : Int32)).toInt) ∧ (∀ j : Int32, 130 ≤ j.toInt → ga σ16 0 j = ga σ 0 j) ∧ ((gi σ16 29).toInt = (gi σ 29).toInt) ∧ ((ga σ16 0 (9 : Int32)).toInt = (ga σ 0 (9 : Int32)).toInt) ∧ (∀ x : Int32, (0 ≤ x.toInt ∧ x.toInt ≤ 5) → ga σ16 0 ((f_X6_personRow x) + (1 : Int32)) = ga σ 0 ((f_X6_personRow x) + (1 : Int32))) ∧ ((gi σ16 28).toInt = (gi σ 28).toInt) ∧ (MFr σ σ16) := hE16
    obtain ⟨hpq_16, hdq_16, hY_16, hrq_16, hsq_16, hQq_16, hdq28_16, hLF_16⟩ := hE16
    have hNEW : (0 ≤ (ga σ16 0 (0 : Int32)).toInt ∧ (ga σ16 0 (0 : Int32)).toInt ≤ 6) ∧ (0 ≤ (ga σ16 0 (2 : Int32)).toInt ∧ (ga σ16 0 (2 : Int32)).toInt ≤ 16) ∧ ((ga σ16 0 (0 : Int32)).toInt = (ga σ 0 (0 : Int32)).toInt) ∧ ((ga σ16 0 (2 : Int32)).toInt = (ga σ 0 (2 : Int32)).toInt) ∧ (MFr σ σ16) := ⟨(by first | assumption | omega), (by first | assumption | omega), (by first | assumption | omega), (by first | assumption | omega), (Fr.tr hLF hLF_16)⟩
    obtain ⟨hp, hd, hpq, hdq, hLF⟩ := hNEW
    refine lv_if_eq (tgt := 40) hx hb dX6_pay_19 (by decide) (fun c19 => ?_) (fun c19 => ?_)
    · have i19 := c_eq c19
      refine lv_aload_n hx hb dX6_pay_40 rfl (lv_at hl 0 rfl) ?_
      refine lv_bipush (v := 7) hx hb dX6_pay_41 (by decide) ?_
      refine M_calli (As := [.int (7 : Int32)]) (rest := []) 1 C h (k_X6_refuse l g σ16 (7 : Int32)) (lw_V q1723 q1725 qs71 q152 q1726) rfl rfl (by decide +kernel) ⟨Nat.le_of_ble_eq_true rfl, Nat.le_of_ble_eq_true rfl⟩ rfl hl.1 rfl (Nat.le_of_ble_eq_true rfl) ⟨Nat.le_of_ble_eq_true rfl, Nat.le_of_ble_eq_true rfl⟩ dX6_pay_43 (fun r43 σ43 H locs eσ43 er43 hE43 h => ?_)
      clear hE43
      have hNEW : (0 ≤ (ga σ43 0 (0 : Int32)).toInt ∧ (ga σ43 0 (0 : Int32)).toInt ≤ 6) ∧ (0 ≤ (ga σ43 0 (2 : Int32)).toInt ∧ (ga σ43 0 (2 : Int32)).toInt ≤ 16) ∧ ((ga σ43 0 (0 : Int32)).toInt = (ga σ 0 (0 : Int32)).toInt) ∧ ((ga σ43 0 (2 : Int32)).toInt = (ga σ 0 (2 : Int32)).toInt) ∧ (MFr σ σ43) := ⟨(by rw [eσ43, refuse_s] <;> exact hp), (by rw [eσ43, refuse_s] <;> exact hd), (by rw [eσ43, refuse_s] <;> exact hpq), (by rw [eσ43, refuse_s] <;> exact hdq), (by rw [eσ43, refuse_s]; exact Fr_si (by decide) hLF)⟩
      clear hp hd hpq hdq hLF
      obtain ⟨hp, hd, hpq, hdq, hLF⟩ := hNEW
      have he : f_X6_pay σ p1 = (σ43, r43) := (by subst er2; subst eσ16; subst er16; subst eσ43; subst er43; exact ((if_neg c5).trans ((if_pos c19).trans rfl)))
      exact M_reti C h hr hlocks (congrArg Prod.fst he) (congrArg Prod.snd he) ⟨hpq, hdq, hLF⟩ dX6_pay_46
    · have i19 := c_ne c19
      refine lv_aload_n hx hb dX6_pay_22 rfl (lv_at hl 0 rfl) ?_
      refine lv_aload_n hx hb dX6_pay_23 rfl (lv_at hl 0 rfl) ?_
      refine Mg_0 C h dX6_pay_24 ?_
      refine lv_iload_n hx hb dX6_pay_27 rfl (lv_at hl 1 rfl) ?_
      refine s_calli (As := [.int p1]) (rest := [.ref (g.2.1 0), .ref (g.2.1 99)]) 1 C.1 (k_X6_personRow l p1) (lw_S q1857 q1858 q152 q1859) rfl rfl (by decide +kernel) ⟨Nat.le_of_ble_eq_true rfl, Nat.le_of_ble_eq_true rfl⟩ rfl hl.1 rfl (Nat.le_of_ble_eq_true rfl) ⟨Nat.le_of_ble_eq_true rfl, Nat.le_of_ble_eq_true rfl⟩ dX6_pay_28 h.2.2 (fun r28 H locs er28 hz1 hk1 hS1 => ?_)
      have h := h.same hk1 hS1
      clear hz1 hk1 hS1
      have tr28 : r28.toInt = ((12) + ((8) * p1.toInt)) := by rw [er28]; exact (i_add zl12 (i_mul zl8 (rfl : p1.toInt = p1.toInt) (by omega)) (by omega))
      refine lv_iconst (v := 5) hx hb dX6_pay_31 (by decide) ?_
      refine lv_iadd hx hb dX6_pay_32 ?_
      refine Ml_0 C h (ix_of (i_add tr28 zl5 (by omega)) (by omega)) dX6_pay_33 ?_
      refine M_calli (As := [.int (ga σ16 0 (r28 + (5 : Int32)))]) (rest := []) 1 C h (k_X6_gives l g σ16 (ga σ16 0 (r28 + (5 : Int32)))) (lw_V q1806 q1808 qs91 q152 q1809) rfl rfl (by decide +kernel) ⟨Nat.le_of_ble_eq_true rfl, Nat.le_of_ble_eq_true rfl⟩ rfl hl.1 rfl (Nat.le_of_ble_eq_true rfl) ⟨Nat.le_of_ble_eq_true rfl, Nat.le_of_ble_eq_true rfl⟩ dX6_pay_34 (fun r34 σ34 H locs eσ34 er34 hE34 h => ?_)
      clear hE34
      have hNEW : (0 ≤ (ga σ34 0 (0 : Int32)).toInt ∧ (ga σ34 0 (0 : Int32)).toInt ≤ 6) ∧ (0 ≤ (ga σ34 0 (2 : Int32)).toInt ∧ (ga σ34 0 (2 : Int32)).toInt ≤ 16) ∧ ((ga σ34 0 (0 : Int32)).toInt = (ga σ 0 (0 : Int32)).toInt) ∧ ((ga σ34 0 (2 : Int32)).toInt = (ga σ 0 (2 : Int32)).toInt) ∧ (MFr σ σ34) := ⟨(by rw [eσ34, gives_s] <;> exact hp), (by rw [eσ34, gives_s] <;> exact hd), (by rw [eσ34, gives_s] <;> exact hpq), (by rw [eσ34, gives_s] <;> exact hdq), (by rw [eσ34, gives_s]; exact Fr_si (by decide) hLF)⟩
      clear hp hd hpq hdq hLF
      obtain ⟨hp, hd, hpq, hdq, hLF⟩ := hNEW
      refine lv_goto (tgt := 46) hx hb dX6_pay_37 (by decide) ?_
      have he : f_X6_pay σ p1 = (σ34, r34) := (by subst er2; subst eσ16; subst er16; subst er28; subst eσ34; subst er34; exact ((if_neg c5).trans ((if_neg c19).trans rfl)))
      exact M_reti C h hr hlocks (congrArg Prod.fst he) (congrArg Prod.snd he) ⟨hpq, hdq, hLF⟩ dX6_pay_46
  · have i5 := c_eq c5
    refine lv_aload_n hx hb dX6_pay_8 rfl (lv_at hl 0 rfl) ?_
    refine lv_iconst (v := 1) hx hb dX6_pay_9 (by decide) ?_
    refine M_calli (As := [.int (1 : Int32)]) (rest := []) 1 C h (k_X6_refuse l g σ (1 : Int32)) (lw_V q1723 q1725 qs71 q152 q1726) rfl rfl (by decide +kernel) ⟨Nat.le_of_ble_eq_true rfl, Nat.le_of_ble_eq_true rfl⟩ rfl hl.1 rfl (Nat.le_of_ble_eq_true rfl) ⟨Nat.le_of_ble_eq_true rfl, Nat.le_of_ble_eq_true rfl⟩ dX6_pay_10 (fun r10 σ10 H locs eσ10 er10 hE10 h => ?_)
    clear hE10
    have hNEW : (0 ≤ (ga σ10 0 (0 : Int32)).toInt ∧ (ga σ10 0 (0 : Int32)).toInt ≤ 6) ∧ (0 ≤ (ga σ10 0 (2 : Int32)).toInt ∧ (ga σ10 0 (2 : Int32)).toInt ≤ 16) ∧ ((ga σ10 0 (0 : Int32)).toInt = (ga σ 0 (0 : Int32)).toInt) ∧ ((ga σ10 0 (2 : Int32)).toInt = (ga σ 0 (2 : Int32)).toInt) ∧ (MFr σ σ10) := ⟨(by rw [eσ10, refuse_s] <;> exact hp), (by rw [eσ10, refuse_s] <;> exact hd), (by rw [eσ10, refuse_s] <;> exact hpq), (by rw [eσ10, refuse_s] <;> exact hdq), (by rw [eσ10, refuse_s]; exact Fr_si (by decide) hLF)⟩
    obtain ⟨hp, hd, hpq, hdq, hLF⟩ := hNEW
    have he : f_X6_pay σ p1 = (σ10, r10) := (by subst er2; subst eσ10; subst er10; exact ((if_pos c5).trans rfl))
    exact M_reti C h hr hlocks (congrArg Prod.fst he) (congrArg Prod.snd he) ⟨hpq, hdq, hLF⟩ dX6_pay_13
def f_X6_balanceOf_L4 (σ : MS) (y1_4 : Int32) : Nat → Int32 → Int32 → Int32 × Int32
  | 0, x2_4, x3_4 => (x2_4, x3_4)
  | n + 1, x2_4, x3_4 => if (ga σ 0 (0 : Int32)) ≤ x3_4 then ((x2_4, x3_4)) else ((let r21 := (f_X6_debtRow x3_4 y1_4); let r31 := (f_X6_debtRow y1_4 x3_4); let v37 := (x2_4 + ((ga σ 0 r21) - (ga σ 0 r31))); f_X6_balanceOf_L4 σ y1_4 n v37 (x3_4 + (1 : Int32))))
def f_X6_balanceOf (σ : MS) (p1 : Int32) : Int32 := (let zL4 := f_X6_balanceOf_L4 σ p1 (7) (0 : Int32) (0 : Int32); let x2_4e := zL4.1; let x3_4e := zL4.2; x2_4e)
set_option maxHeartbeats 4000000 in
set_option maxRecDepth 100000 in
theorem k_X6_balanceOf (l : Launch) (g : GE) (σ : MS) (p1 : Int32) (hp : 0 ≤ (ga σ 0 (0 : Int32)).toInt ∧ (ga σ 0 (0 : Int32)).toInt ≤ 6) (h1r : 0 ≤ p1.toInt ∧ p1.toInt ≤ 5) : Met l yX6_balanceOf (ws_ yX6_balanceOf cX6_balanceOf 4 (some .int)) ({ frames := 1, cells := 0, slots := 0, locals := 21 } : Room) (mPc g σ [.int p1]) (mQi g σ (f_X6_balanceOf σ p1) (fun u r => True)) 0 0 (mA g) := by
  refine met_M (by decide) rfl (Nat.le_of_ble_eq_true rfl) ?_
  intro p e s m args below meth c C hr hlocks h ls hl
  have hx := C.1.1
  have hb := C.1.2.1
  have hml := C.1.2.2.1
  have hown := C.1.2.2.2.1
  have hts := C.1.2.2.2.2
  have hl : lv_has ls 4 [(0, .ref (g.2.1 99)), (1, .int p1)] := hl
  have zl0 : (0 : Int32).toInt = 0 := rfl
  have zl1 : (1 : Int32).toInt = 1 := rfl
  have zl6 : (6 : Int32).toInt = 6 := rfl
  have zl92 : (92 : Int32).toInt = 92 := rfl
  refine lv_iconst (v := 0) hx hb dX6_balanceOf_0 (by decide) ?_
  refine lv_istore_n (lv' := [(2, .int (0 : Int32)), (0, .ref (g.2.1 99)), (1, .int p1)]) hx hb dX6_balanceOf_1 rfl hl (by decide) rfl (fun ls hl => ?_)
  refine lv_iconst (v := 0) hx hb dX6_balanceOf_2 (by decide) ?_
  refine lv_istore_n (lv' := [(3, .int (0 : Int32)), (2, .int (0 : Int32)), (0, .ref (g.2.1 99)), (1, .int p1)]) hx hb dX6_balanceOf_3 rfl hl (by decide) rfl (fun ls hl => ?_)
  have hL4 : ∀ (n : Nat) (x2_4 : Int32) (x3_4 : Int32) (H : Heap) (locs : List Loc) (ls : Array Slot), (0 ≤ x3_4.toInt ∧ x3_4.toInt ≤ (ga σ 0 (0 : Int32)).toInt) → ((ga σ 0 (0 : Int32)).toInt - x3_4.toInt).toNat < n → MH g σ s H locs → lv_has ls 4 [(0, .ref (g.2.1 99)), (1, .int p1), (2, .int x2_4), (3, .int x3_4)] → (∀ (x2_4' : Int32) (x3_4' : Int32) (H : Heap) (locs : List Loc) (ls : Array Slot), f_X6_balanceOf_L4 σ p1 n x2_4 x3_4 = (x2_4', x3_4') → (0 ≤ x3_4'.toInt ∧ x3_4'.toInt ≤ (ga σ 0 (0 : Int32)).toInt) → MH g σ s H locs → lv_has ls 4 [(2, .int x2_4')] → W p l e ({ frames := 1, cells := 0, slots := 0, locals := 21 } : Room) s m args below meth c H locs 0 0 (MQ below (mQi g σ (f_X6_balanceOf σ p1) (fun u r => True)) args s 0 0 (mA g)) (F0 m 44 ls [])) → W p l e ({ frames := 1, cells := 0, slots := 0, locals := 21 } : Room) s m args below meth c H locs 0 0 (MQ below (mQi g σ (f_X6_balanceOf σ p1) (fun u r => True)) args s 0 0 (mA g)) (F0 m 4 ls []) := by
    intro n
    induction n with
    | zero =>
      intro x2_4 x3_4 H locs ls _ hm; exact absurd hm (Nat.not_lt_zero _)
    | succ n ih =>
      intro x2_4 x3_4 H locs ls hI4 hm h hl kk
      refine lv_iload_n hx hb dX6_balanceOf_4 rfl (lv_at hl 3 rfl) ?_
      refine lv_aload_n hx hb dX6_balanceOf_5 rfl (lv_at hl 0 rfl) ?_
      refine Mg_0 C h dX6_balanceOf_6 ?_
      refine lv_iconst (v := 0) hx hb dX6_balanceOf_9 (by decide) ?_
      refine Ml_0 C h (ix_of zl0 (by omega)) dX6_balanceOf_10 ?_
      refine lv_icmp_ge (tgt := 44) hx hb dX6_balanceOf_11 (by decide) (fun c11 => ?_) (fun c11 => ?_)
      · have i11 := c_le c11
        exact kk x2_4 x3_4 _ _ _ (show f_X6_balanceOf_L4 σ p1 (n + 1) x2_4 x3_4 = (x2_4, x3_4) from (by exact ((if_pos c11).trans rfl)))  (by first | assumption | omega) h (lv_sub hl [2] rfl)
      · have i11 := c_nle c11
        refine lv_iload_n hx hb dX6_balanceOf_14 rfl (lv_at hl 2 rfl) ?_
        refine lv_aload_n hx hb dX6_balanceOf_15 rfl (lv_at hl 0 rfl) ?_
        refine Mg_0 C h dX6_balanceOf_16 ?_
        refine lv_iload_n hx hb dX6_balanceOf_19 rfl (lv_at hl 3 rfl) ?_
        refine lv_iload_n hx hb dX6_balanceOf_20 rfl (lv_at hl 1 rfl) ?_
        refine s_calli (As := [.int x3_4, .int p1]) (rest := [.ref (g.2.1 0), .int x2_4]) 2 C.1 (k_X6_debtRow l x3_4 p1) (lw_S q1970 q1971 q152 q1972) rfl rfl (by decide +kernel) ⟨Nat.le_of_ble_eq_true rfl, Nat.le_of_ble_eq_true rfl⟩ rfl hl.1 rfl (Nat.le_of_ble_eq_true rfl) ⟨Nat.le_of_ble_eq_true rfl, Nat.le_of_ble_eq_true rfl⟩ dX6_balanceOf_21 h.2.2 (fun r21 H locs er21 hz1 hk1 hS1 => ?_)
        have h := h.same hk1 hS1
        clear hz1 hk1 hS1
        have tr21 : r21.toInt = (((92) + ((6) * x3_4.toInt)) + p1.toInt) := by rw [er21]; exact (i_add (i_add zl92 (i_mul zl6 (rfl : x3_4.toInt = x3_4.toInt) (by omega)) (by omega)) (rfl : p1.toInt = p1.toInt) (by omega))
        refine Ml_0 C h (ix_of tr21 (by omega)) dX6_balanceOf_24 ?_
        refine lv_aload_n hx hb dX6_balanceOf_25 rfl (lv_at hl 0 rfl) ?_
        refine Mg_0 C h dX6_balanceOf_26 ?_
        refine lv_iload_n hx hb dX6_balanceOf_29 rfl (lv_at hl 1 rfl) ?_
        refine lv_iload_n hx hb dX6_balanceOf_30 rfl (lv_at hl 3 rfl) ?_
        refine s_calli (As := [.int p1, .int x3_4]) (rest := [.ref (g.2.1 0), .int (ga σ 0 r21), .int x2_4]) 2 C.1 (k_X6_debtRow l p1 x3_4) (lw_S q1970 q1971 q152 q1972) rfl rfl (by decide +kernel) ⟨Nat.le_of_ble_eq_true rfl, Nat.le_of_ble_eq_true rfl⟩ rfl hl.1 rfl (Nat.le_of_ble_eq_true rfl) ⟨Nat.le_of_ble_eq_true rfl, Nat.le_of_ble_eq_true rfl⟩ dX6_balanceOf_31 h.2.2 (fun r31 H locs er31 hz1 hk1 hS1 => ?_)
        have h := h.same hk1 hS1
        clear hz1 hk1 hS1
        have tr31 : r31.toInt = (((92) + ((6) * p1.toInt)) + x3_4.toInt) := by rw [er31]; exact (i_add (i_add zl92 (i_mul zl6 (rfl : p1.toInt = p1.toInt) (by omega)) (by omega)) (rfl : x3_4.toInt = x3_4.toInt) (by omega))
        refine Ml_0 C h (ix_of tr31 (by omega)) dX6_balanceOf_34 ?_
        refine lv_isub hx hb dX6_balanceOf_35 ?_
        refine lv_iadd hx hb dX6_balanceOf_36 ?_
        refine lv_topi (fun v37 ev37 => ?_)
        refine lv_istore_n (lv' := [(2, .int v37), (0, .ref (g.2.1 99)), (1, .int p1), (3, .int x3_4)]) hx hb dX6_balanceOf_37 rfl hl (by decide) rfl (fun ls hl => ?_)
        refine lv_iinc (v := (x3_4 + (1 : Int32))) (lv' := [(3, .int (x3_4 + (1 : Int32))), (2, .int v37), (0, .ref (g.2.1 99)), (1, .int p1)]) hx hb dX6_balanceOf_38 hl (k := 3) rfl rfl (by decide) rfl (fun ls hl => ?_)
        refine lv_goto (tgt := 4) hx hb dX6_balanceOf_41 (by decide) ?_
        have tt3 : (x3_4 + (1 : Int32)).toInt = (x3_4.toInt + (1)) := (i_add (rfl : x3_4.toInt = x3_4.toInt) zl1 (by omega))
        exact ih v37 (x3_4 + (1 : Int32)) _ _ _  (by first | assumption | omega) (by omega) h (lv_sub hl [2, 3, 1, 0] rfl) (fun x2_4' x3_4' H locs ls en hI h hl => kk x2_4' x3_4' H locs ls ((show f_X6_balanceOf_L4 σ p1 (n + 1) x2_4 x3_4 = f_X6_balanceOf_L4 σ p1 n v37 (x3_4 + (1 : Int32)) from (by subst er21; subst er31; subst ev37; exact ((if_neg c11).trans rfl))).trans en) hI h hl)
  refine hL4 (7) (0 : Int32) (0 : Int32) _ _ _  (by first | assumption | omega) (by omega) h (lv_sub hl [2, 3, 1, 0] rfl) (fun x2_4e x3_4e H locs ls eL4 hI4 h hl => ?_)
  have ex2_4e : x2_4e = (f_X6_balanceOf_L4 σ p1 (7) (0 : Int32) (0 : Int32)).1 := by rw [eL4]
  have ex3_4e : x3_4e = (f_X6_balanceOf_L4 σ p1 (7) (0 : Int32) (0 : Int32)).2 := by rw [eL4]
  refine lv_iload_n hx hb dX6_balanceOf_44 rfl (lv_at hl 0 rfl) ?_
  have he : f_X6_balanceOf σ p1 = x2_4e := (by subst ex2_4e; subst ex3_4e; exact rfl)
  exact M_reti C h hr hlocks rfl he trivial dX6_balanceOf_45
theorem balanceOf_A {σ u : MS} (hA : ∀ j : Int32, ga u 0 j = ga σ 0 j) : ∀ (n : Nat) (y a b : Int32), f_X6_balanceOf_L4 u y n a b = f_X6_balanceOf_L4 σ y n a b
  | 0, _, _, _ => rfl
  | n + 1, y, a, b => by simp only [f_X6_balanceOf_L4, hA, balanceOf_A hA n]
theorem balanceOf_A0 {σ u : MS} (hA : ∀ j : Int32, ga u 0 j = ga σ 0 j) (y : Int32) : f_X6_balanceOf u y = f_X6_balanceOf σ y := by
  simp only [f_X6_balanceOf, balanceOf_A hA]
def f_X6_balance (σ : MS) (p1 : Int32) : MS × Int32 := (let r2 := (f_X6_isPerson σ p1); if r2 = (0 : Int32) then ((let z22 := (f_X6_refuse σ (1 : Int32)); let σ22 := z22.1; let r22 := z22.2; (σ22, r22))) else ((let r11 := (f_X6_balanceOf σ p1); let z14 := (f_X6_gives σ r11); let σ14 := z14.1; let r14 := z14.2; (σ14, r14))))
set_option maxHeartbeats 4000000 in
set_option maxRecDepth 100000 in
theorem k_X6_balance (l : Launch) (g : GE) (σ : MS) (p1 : Int32) (hp : 0 ≤ (ga σ 0 (0 : Int32)).toInt ∧ (ga σ 0 (0 : Int32)).toInt ≤ 6) : Met l yX6_balance (ws_ yX6_balance cX6_balance 2 (some .int)) ({ frames := 2, cells := 0, slots := 0, locals := 44 } : Room) (mPc g σ [.int p1]) (mQi g (f_X6_balance σ p1).1 (f_X6_balance σ p1).2 (fun u r => ((ga u 0 (0 : Int32)).toInt = (ga σ 0 (0 : Int32)).toInt))) 0 0 (mA g) := by
  refine met_M (by decide) rfl (Nat.le_of_ble_eq_true rfl) ?_
  intro p e s m args below meth c C hr hlocks h ls hl
  have hx := C.1.1
  have hb := C.1.2.1
  have hml := C.1.2.2.1
  have hown := C.1.2.2.2.1
  have hts := C.1.2.2.2.2
  have hl : lv_has ls 2 [(0, .ref (g.2.1 99)), (1, .int p1)] := hl
  have hpq : (ga σ 0 (0 : Int32)).toInt = (ga σ 0 (0 : Int32)).toInt := rfl
  have zl0 : (0 : Int32).toInt = 0 := rfl
  have zl1 : (1 : Int32).toInt = 1 := rfl
  refine lv_aload_n hx hb dX6_balance_0 rfl (lv_at hl 0 rfl) ?_
  refine lv_iload_n hx hb dX6_balance_1 rfl (lv_at hl 1 rfl) ?_
  refine M_callz (As := [.int p1]) (rest := []) 1 C h (k_X6_isPerson l g σ p1) (lw_V q1864 q1866 qs101 q152 q1867) rfl rfl (by decide +kernel) ⟨Nat.le_of_ble_eq_true rfl, Nat.le_of_ble_eq_true rfl⟩ rfl hl.1 rfl (Nat.le_of_ble_eq_true rfl) ⟨Nat.le_of_ble_eq_true rfl, Nat.le_of_ble_eq_true rfl⟩ dX6_balance_2 (fun r2 σ2 H locs eσ2 er2 br2 hE2 h => ?_)
  rw [eσ2] at h
  clear hE2
  clear eσ2
  refine lv_if_eq (tgt := 20) hx hb dX6_balance_5 (by decide) (fun c5 => ?_) (fun c5 => ?_)
  · have i5 := c_eq c5
    refine lv_aload_n hx hb dX6_balance_20 rfl (lv_at hl 0 rfl) ?_
    refine lv_iconst (v := 1) hx hb dX6_balance_21 (by decide) ?_
    refine M_calli (As := [.int (1 : Int32)]) (rest := []) 1 C h (k_X6_refuse l g σ (1 : Int32)) (lw_V q1723 q1725 qs71 q152 q1726) rfl rfl (by decide +kernel) ⟨Nat.le_of_ble_eq_true rfl, Nat.le_of_ble_eq_true rfl⟩ rfl hl.1 rfl (Nat.le_of_ble_eq_true rfl) ⟨Nat.le_of_ble_eq_true rfl, Nat.le_of_ble_eq_true rfl⟩ dX6_balance_22 (fun r22 σ22 H locs eσ22 er22 hE22 h => ?_)
    clear hE22
    have hNEW : (0 ≤ (ga σ22 0 (0 : Int32)).toInt ∧ (ga σ22 0 (0 : Int32)).toInt ≤ 6) ∧ ((ga σ22 0 (0 : Int32)).toInt = (ga σ 0 (0 : Int32)).toInt) := ⟨(by rw [eσ22, refuse_s] <;> exact hp), (by rw [eσ22, refuse_s] <;> exact hpq)⟩
    obtain ⟨hp, hpq⟩ := hNEW
    have he : f_X6_balance σ p1 = (σ22, r22) := (by subst er2; subst eσ22; subst er22; exact ((if_pos c5).trans rfl))
    exact M_reti C h hr hlocks (congrArg Prod.fst he) (congrArg Prod.snd he) hpq dX6_balance_25
  · have i5 := c_ne c5
    have okr2 := isPerson_ok er2 c5
    refine lv_aload_n hx hb dX6_balance_8 rfl (lv_at hl 0 rfl) ?_
    refine lv_aload_n hx hb dX6_balance_9 rfl (lv_at hl 0 rfl) ?_
    refine lv_iload_n hx hb dX6_balance_10 rfl (lv_at hl 1 rfl) ?_
    refine M_calli (As := [.int p1]) (rest := [.ref (g.2.1 99)]) 1 C h (k_X6_balanceOf l g σ p1 (by first | assumption | omega) (by first | assumption | omega)) (lw_V q1986 q1988 qs112 q152 q1989) rfl rfl (by decide +kernel) ⟨Nat.le_of_ble_eq_true rfl, Nat.le_of_ble_eq_true rfl⟩ rfl hl.1 rfl (Nat.le_of_ble_eq_true rfl) ⟨Nat.le_of_ble_eq_true rfl, Nat.le_of_ble_eq_true rfl⟩ dX6_balance_11 (fun r11 σ11 H locs eσ11 er11 hE11 h => ?_)
    rw [eσ11] at h
    clear hE11
    clear eσ11
    refine M_calli (As := [.int r11]) (rest := []) 1 C h (k_X6_gives l g σ r11) (lw_V q1806 q1808 qs91 q152 q1809) rfl rfl (by decide +kernel) ⟨Nat.le_of_ble_eq_true rfl, Nat.le_of_ble_eq_true rfl⟩ rfl hl.1 rfl (Nat.le_of_ble_eq_true rfl) ⟨Nat.le_of_ble_eq_true rfl, Nat.le_of_ble_eq_true rfl⟩ dX6_balance_14 (fun r14 σ14 H locs eσ14 er14 hE14 h => ?_)
    clear hE14
    have hNEW : (0 ≤ (ga σ14 0 (0 : Int32)).toInt ∧ (ga σ14 0 (0 : Int32)).toInt ≤ 6) ∧ ((ga σ14 0 (0 : Int32)).toInt = (ga σ 0 (0 : Int32)).toInt) := ⟨(by rw [eσ14, gives_s] <;> exact hp), (by rw [eσ14, gives_s] <;> exact hpq)⟩
    obtain ⟨hp, hpq⟩ := hNEW
    refine lv_goto (tgt := 25) hx hb dX6_balance_17 (by decide) ?_
    have he : f_X6_balance σ p1 = (σ14, r14) := (by subst er2; subst er11; subst eσ14; subst er14; exact ((if_neg c5).trans rfl))
    exact M_reti C h hr hlocks (congrArg Prod.fst he) (congrArg Prod.snd he) hpq dX6_balance_25
def f_X6_waits (σ : MS) (p1 : Int32) (p2 : Int32) : Int32 := if p2 = (0 : Int32) then ((let r9 := (f_X6_personRow p1); (ga σ 0 (r9 + (5 : Int32))))) else (if p2 = (1 : Int32) then ((let r25 := (f_X6_balanceOf σ p1); r25)) else (if p2 = (2 : Int32) then ((let r41 := (f_X6_personRow p1); (-(ga σ 0 (r41 + (1 : Int32)))))) else ((let r56 := (f_X6_personRow p1); (-(ga σ 0 r56))))))
set_option maxHeartbeats 4000000 in
set_option maxRecDepth 100000 in
theorem k_X6_waits (l : Launch) (g : GE) (σ : MS) (p1 : Int32) (p2 : Int32) (hp : 0 ≤ (ga σ 0 (0 : Int32)).toInt ∧ (ga σ 0 (0 : Int32)).toInt ≤ 6) (h1r : 0 ≤ p1.toInt ∧ p1.toInt ≤ 5) : Met l yX6_waits (ws_ yX6_waits cX6_waits 3 (some .int)) ({ frames := 2, cells := 0, slots := 0, locals := 44 } : Room) (mPc g σ [.int p1, .int p2]) (mQi g σ (f_X6_waits σ p1 p2) (fun u r => True)) 0 0 (mA g) := by
  refine met_M (by decide) rfl (Nat.le_of_ble_eq_true rfl) ?_
  intro p e s m args below meth c C hr hlocks h ls hl
  have hx := C.1.1
  have hb := C.1.2.1
  have hml := C.1.2.2.1
  have hown := C.1.2.2.2.1
  have hts := C.1.2.2.2.2
  have hl : lv_has ls 3 [(0, .ref (g.2.1 99)), (1, .int p1), (2, .int p2)] := hl
  have zl0 : (0 : Int32).toInt = 0 := rfl
  have zl1 : (1 : Int32).toInt = 1 := rfl
  have zl2 : (2 : Int32).toInt = 2 := rfl
  have zl5 : (5 : Int32).toInt = 5 := rfl
  have zl8 : (8 : Int32).toInt = 8 := rfl
  have zl12 : (12 : Int32).toInt = 12 := rfl
  refine lv_iload_n hx hb dX6_waits_0 rfl (lv_at hl 2 rfl) ?_
  refine lv_if_ne (tgt := 18) hx hb dX6_waits_1 (by decide) (fun c1 => ?_) (fun c1 => ?_)
  · have i1 := c_ne c1
    refine lv_iload_n hx hb dX6_waits_18 rfl (lv_at hl 2 rfl) ?_
    refine lv_iconst (v := 1) hx hb dX6_waits_19 (by decide) ?_
    refine lv_icmp_ne (tgt := 31) hx hb dX6_waits_20 (by decide) (fun c20 => ?_) (fun c20 => ?_)
    · have i20 := c_ne c20
      refine lv_iload_n hx hb dX6_waits_31 rfl (lv_at hl 2 rfl) ?_
      refine lv_iconst (v := 2) hx hb dX6_waits_32 (by decide) ?_
      refine lv_icmp_ne (tgt := 51) hx hb dX6_waits_33 (by decide) (fun c33 => ?_) (fun c33 => ?_)
      · have i33 := c_ne c33
        refine lv_aload_n hx hb dX6_waits_51 rfl (lv_at hl 0 rfl) ?_
        refine Mg_0 C h dX6_waits_52 ?_
        refine lv_iload_n hx hb dX6_waits_55 rfl (lv_at hl 1 rfl) ?_
        refine s_calli (As := [.int p1]) (rest := [.ref (g.2.1 0)]) 1 C.1 (k_X6_personRow l p1) (lw_S q1857 q1858 q152 q1859) rfl rfl (by decide +kernel) ⟨Nat.le_of_ble_eq_true rfl, Nat.le_of_ble_eq_true rfl⟩ rfl hl.1 rfl (Nat.le_of_ble_eq_true rfl) ⟨Nat.le_of_ble_eq_true rfl, Nat.le_of_ble_eq_true rfl⟩ dX6_waits_56 h.2.2 (fun r56 H locs er56 hz1 hk1 hS1 => ?_)
        have h := h.same hk1 hS1
        clear hz1 hk1 hS1
        have tr56 : r56.toInt = ((12) + ((8) * p1.toInt)) := by rw [er56]; exact (i_add zl12 (i_mul zl8 (rfl : p1.toInt = p1.toInt) (by omega)) (by omega))
        refine Ml_0 C h (ix_of tr56 (by omega)) dX6_waits_59 ?_
        refine lv_ineg hx hb dX6_waits_60 ?_
        have he : f_X6_waits σ p1 p2 = (-(ga σ 0 r56)) := (by subst er56; exact ((if_neg c1).trans ((if_neg c20).trans ((if_neg c33).trans rfl))))
        exact M_reti C h hr hlocks rfl he trivial dX6_waits_61
      · have i33 := c_eq c33
        refine lv_aload_n hx hb dX6_waits_36 rfl (lv_at hl 0 rfl) ?_
        refine Mg_0 C h dX6_waits_37 ?_
        refine lv_iload_n hx hb dX6_waits_40 rfl (lv_at hl 1 rfl) ?_
        refine s_calli (As := [.int p1]) (rest := [.ref (g.2.1 0)]) 1 C.1 (k_X6_personRow l p1) (lw_S q1857 q1858 q152 q1859) rfl rfl (by decide +kernel) ⟨Nat.le_of_ble_eq_true rfl, Nat.le_of_ble_eq_true rfl⟩ rfl hl.1 rfl (Nat.le_of_ble_eq_true rfl) ⟨Nat.le_of_ble_eq_true rfl, Nat.le_of_ble_eq_true rfl⟩ dX6_waits_41 h.2.2 (fun r41 H locs er41 hz1 hk1 hS1 => ?_)
        have h := h.same hk1 hS1
        clear hz1 hk1 hS1
        have tr41 : r41.toInt = ((12) + ((8) * p1.toInt)) := by rw [er41]; exact (i_add zl12 (i_mul zl8 (rfl : p1.toInt = p1.toInt) (by omega)) (by omega))
        refine lv_iconst (v := 1) hx hb dX6_waits_44 (by decide) ?_
        refine lv_iadd hx hb dX6_waits_45 ?_
        refine Ml_0 C h (ix_of (i_add tr41 zl1 (by omega)) (by omega)) dX6_waits_46 ?_
        refine lv_ineg hx hb dX6_waits_47 ?_
        refine lv_goto (tgt := 61) hx hb dX6_waits_48 (by decide) ?_
        have he : f_X6_waits σ p1 p2 = (-(ga σ 0 (r41 + (1 : Int32)))) := (by subst er41; exact ((if_neg c1).trans ((if_neg c20).trans ((if_pos c33).trans rfl))))
        exact M_reti C h hr hlocks rfl he trivial dX6_waits_61
    · have i20 := c_eq c20
      refine lv_aload_n hx hb dX6_waits_23 rfl (lv_at hl 0 rfl) ?_
      refine lv_iload_n hx hb dX6_waits_24 rfl (lv_at hl 1 rfl) ?_
      refine M_calli (As := [.int p1]) (rest := []) 1 C h (k_X6_balanceOf l g σ p1 (by first | assumption | omega) (by first | assumption | omega)) (lw_V q1986 q1988 qs112 q152 q1989) rfl rfl (by decide +kernel) ⟨Nat.le_of_ble_eq_true rfl, Nat.le_of_ble_eq_true rfl⟩ rfl hl.1 rfl (Nat.le_of_ble_eq_true rfl) ⟨Nat.le_of_ble_eq_true rfl, Nat.le_of_ble_eq_true rfl⟩ dX6_waits_25 (fun r25 σ25 H locs eσ25 er25 hE25 h => ?_)
      rw [eσ25] at h
      clear hE25
      clear eσ25
      refine lv_goto (tgt := 61) hx hb dX6_waits_28 (by decide) ?_
      have he : f_X6_waits σ p1 p2 = r25 := (by subst er25; exact ((if_neg c1).trans ((if_pos c20).trans rfl)))
      exact M_reti C h hr hlocks rfl he trivial dX6_waits_61
  · have i1 := c_eq c1
    refine lv_aload_n hx hb dX6_waits_4 rfl (lv_at hl 0 rfl) ?_
    refine Mg_0 C h dX6_waits_5 ?_
    refine lv_iload_n hx hb dX6_waits_8 rfl (lv_at hl 1 rfl) ?_
    refine s_calli (As := [.int p1]) (rest := [.ref (g.2.1 0)]) 1 C.1 (k_X6_personRow l p1) (lw_S q1857 q1858 q152 q1859) rfl rfl (by decide +kernel) ⟨Nat.le_of_ble_eq_true rfl, Nat.le_of_ble_eq_true rfl⟩ rfl hl.1 rfl (Nat.le_of_ble_eq_true rfl) ⟨Nat.le_of_ble_eq_true rfl, Nat.le_of_ble_eq_true rfl⟩ dX6_waits_9 h.2.2 (fun r9 H locs er9 hz1 hk1 hS1 => ?_)
    have h := h.same hk1 hS1
    clear hz1 hk1 hS1
    have tr9 : r9.toInt = ((12) + ((8) * p1.toInt)) := by rw [er9]; exact (i_add zl12 (i_mul zl8 (rfl : p1.toInt = p1.toInt) (by omega)) (by omega))
    refine lv_iconst (v := 5) hx hb dX6_waits_12 (by decide) ?_
    refine lv_iadd hx hb dX6_waits_13 ?_
    refine Ml_0 C h (ix_of (i_add tr9 zl5 (by omega)) (by omega)) dX6_waits_14 ?_
    refine lv_goto (tgt := 61) hx hb dX6_waits_15 (by decide) ?_
    have he : f_X6_waits σ p1 p2 = (ga σ 0 (r9 + (5 : Int32))) := (by subst er9; exact ((if_pos c1).trans rfl))
    exact M_reti C h hr hlocks rfl he trivial dX6_waits_61
def f_X6_turnOf_L4 (σ : MS) (y1_4 : Int32) : Nat → Int32 → Int32 → Int32 × Int32
  | 0, x2_4, x3_4 => (x2_4, x3_4)
  | n + 1, x2_4, x3_4 => if (ga σ 0 (0 : Int32)) ≤ x3_4 then ((x2_4, x3_4)) else ((let r16 := (f_X6_heads σ); let r20 := (f_X6_isIn σ r16 x3_4); if r20 = (0 : Int32) then (f_X6_turnOf_L4 σ y1_4 n x2_4 (x3_4 + (1 : Int32))) else (if x2_4 = (-1 : Int32) then (f_X6_turnOf_L4 σ y1_4 n x3_4 (x3_4 + (1 : Int32))) else ((let r34 := (f_X6_waits σ x3_4 y1_4); let r40 := (f_X6_waits σ x2_4 y1_4); if r40 ≤ r34 then (f_X6_turnOf_L4 σ y1_4 n x2_4 (x3_4 + (1 : Int32))) else (f_X6_turnOf_L4 σ y1_4 n x3_4 (x3_4 + (1 : Int32))))))))
def f_X6_turnOf (σ : MS) (p1 : Int32) : Int32 := (let zL4 := f_X6_turnOf_L4 σ p1 (7) (-1 : Int32) (0 : Int32); let x2_4e := zL4.1; let x3_4e := zL4.2; x2_4e)
set_option maxHeartbeats 4000000 in
set_option maxRecDepth 100000 in
theorem k_X6_turnOf (l : Launch) (g : GE) (σ : MS) (p1 : Int32) (hp : 0 ≤ (ga σ 0 (0 : Int32)).toInt ∧ (ga σ 0 (0 : Int32)).toInt ≤ 6) : Met l yX6_turnOf (ws_ yX6_turnOf cX6_turnOf 4 (some .int)) ({ frames := 3, cells := 0, slots := 0, locals := 66 } : Room) (mPc g σ [.int p1]) (mQi g σ (f_X6_turnOf σ p1) (fun u r => True)) 0 0 (mA g) := by
  refine met_M (by decide) rfl (Nat.le_of_ble_eq_true rfl) ?_
  intro p e s m args below meth c C hr hlocks h ls hl
  have hx := C.1.1
  have hb := C.1.2.1
  have hml := C.1.2.2.1
  have hown := C.1.2.2.2.1
  have hts := C.1.2.2.2.2
  have hl : lv_has ls 4 [(0, .ref (g.2.1 99)), (1, .int p1)] := hl
  have zlm1 : (-1 : Int32).toInt = -1 := rfl
  have zl0 : (0 : Int32).toInt = 0 := rfl
  have zl1 : (1 : Int32).toInt = 1 := rfl
  refine lv_iconst (v := -1) hx hb dX6_turnOf_0 (by decide) ?_
  refine lv_istore_n (lv' := [(2, .int (-1 : Int32)), (0, .ref (g.2.1 99)), (1, .int p1)]) hx hb dX6_turnOf_1 rfl hl (by decide) rfl (fun ls hl => ?_)
  refine lv_iconst (v := 0) hx hb dX6_turnOf_2 (by decide) ?_
  refine lv_istore_n (lv' := [(3, .int (0 : Int32)), (2, .int (-1 : Int32)), (0, .ref (g.2.1 99)), (1, .int p1)]) hx hb dX6_turnOf_3 rfl hl (by decide) rfl (fun ls hl => ?_)
  have hL4 : ∀ (n : Nat) (x2_4 : Int32) (x3_4 : Int32) (H : Heap) (locs : List Loc) (ls : Array Slot), (0 ≤ x3_4.toInt ∧ x3_4.toInt ≤ (ga σ 0 (0 : Int32)).toInt ∧ -1 ≤ x2_4.toInt ∧ x2_4.toInt < x3_4.toInt) → ((ga σ 0 (0 : Int32)).toInt - x3_4.toInt).toNat < n → MH g σ s H locs → lv_has ls 4 [(0, .ref (g.2.1 99)), (1, .int p1), (2, .int x2_4), (3, .int x3_4)] → (∀ (x2_4' : Int32) (x3_4' : Int32) (H : Heap) (locs : List Loc) (ls : Array Slot), f_X6_turnOf_L4 σ p1 n x2_4 x3_4 = (x2_4', x3_4') → (0 ≤ x3_4'.toInt ∧ x3_4'.toInt ≤ (ga σ 0 (0 : Int32)).toInt ∧ -1 ≤ x2_4'.toInt ∧ x2_4'.toInt < x3_4'.toInt) → MH g σ s H locs → lv_has ls 4 [(2, .int x2_4')] → W p l e ({ frames := 3, cells := 0, slots := 0, locals := 66 } : Room) s m args below meth c H locs 0 0 (MQ below (mQi g σ (f_X6_turnOf σ p1) (fun u r => True)) args s 0 0 (mA g)) (F0 m 54 ls [])) → W p l e ({ frames := 3, cells := 0, slots := 0, locals := 66 } : Room) s m args below meth c H locs 0 0 (MQ below (mQi g σ (f_X6_turnOf σ p1) (fun u r => True)) args s 0 0 (mA g)) (F0 m 4 ls []) := by
    intro n
    induction n with
    | zero =>
      intro x2_4 x3_4 H locs ls _ hm; exact absurd hm (Nat.not_lt_zero _)
    | succ n ih =>
      intro x2_4 x3_4 H locs ls hI4 hm h hl kk
      refine lv_iload_n hx hb dX6_turnOf_4 rfl (lv_at hl 3 rfl) ?_
      refine lv_aload_n hx hb dX6_turnOf_5 rfl (lv_at hl 0 rfl) ?_
      refine Mg_0 C h dX6_turnOf_6 ?_
      refine lv_iconst (v := 0) hx hb dX6_turnOf_9 (by decide) ?_
      refine Ml_0 C h (ix_of zl0 (by omega)) dX6_turnOf_10 ?_
      refine lv_icmp_ge (tgt := 54) hx hb dX6_turnOf_11 (by decide) (fun c11 => ?_) (fun c11 => ?_)
      · have i11 := c_le c11
        exact kk x2_4 x3_4 _ _ _ (show f_X6_turnOf_L4 σ p1 (n + 1) x2_4 x3_4 = (x2_4, x3_4) from (by exact ((if_pos c11).trans rfl)))  (by first | assumption | omega) h (lv_sub hl [2] rfl)
      · have i11 := c_nle c11
        refine lv_aload_n hx hb dX6_turnOf_14 rfl (lv_at hl 0 rfl) ?_
        refine lv_aload_n hx hb dX6_turnOf_15 rfl (lv_at hl 0 rfl) ?_
        refine M_calli (As := []) (rest := [.ref (g.2.1 99)]) 0 C h (k_X6_heads l g σ) (lw_V q1842 q1844 qs98 q152 q1845) rfl rfl (by decide +kernel) ⟨Nat.le_of_ble_eq_true rfl, Nat.le_of_ble_eq_true rfl⟩ rfl hl.1 rfl (Nat.le_of_ble_eq_true rfl) ⟨Nat.le_of_ble_eq_true rfl, Nat.le_of_ble_eq_true rfl⟩ dX6_turnOf_16 (fun r16 σ16 H locs eσ16 er16 hE16 h => ?_)
        rw [eσ16] at h
        clear hE16
        clear eσ16
        have rgr16 := heads_rng hp er16
        refine lv_iload_n hx hb dX6_turnOf_19 rfl (lv_at hl 3 rfl) ?_
        refine M_callz (As := [.int r16, .int x3_4]) (rest := []) 2 C h (k_X6_isIn l g σ r16 x3_4) (lw_V q1906 q1908 qs107 q152 q1909) rfl rfl (by decide +kernel) ⟨Nat.le_of_ble_eq_true rfl, Nat.le_of_ble_eq_true rfl⟩ rfl hl.1 rfl (Nat.le_of_ble_eq_true rfl) ⟨Nat.le_of_ble_eq_true rfl, Nat.le_of_ble_eq_true rfl⟩ dX6_turnOf_20 (fun r20 σ20 H locs eσ20 er20 br20 hE20 h => ?_)
        rw [eσ20] at h
        clear hE20
        clear eσ20
        refine lv_if_eq (tgt := 48) hx hb dX6_turnOf_23 (by decide) (fun c23 => ?_) (fun c23 => ?_)
        · have i23 := c_eq c23
          refine lv_iinc (v := (x3_4 + (1 : Int32))) (lv' := [(3, .int (x3_4 + (1 : Int32))), (0, .ref (g.2.1 99)), (1, .int p1), (2, .int x2_4)]) hx hb dX6_turnOf_48 hl (k := 3) rfl rfl (by decide) rfl (fun ls hl => ?_)
          refine lv_goto (tgt := 4) hx hb dX6_turnOf_51 (by decide) ?_
          have tt3 : (x3_4 + (1 : Int32)).toInt = (x3_4.toInt + (1)) := (i_add (rfl : x3_4.toInt = x3_4.toInt) zl1 (by omega))
          exact ih x2_4 (x3_4 + (1 : Int32)) _ _ _  (by first | assumption | omega) (by omega) h (lv_sub hl [1, 2, 3, 0] rfl) (fun x2_4' x3_4' H locs ls en hI h hl => kk x2_4' x3_4' H locs ls ((show f_X6_turnOf_L4 σ p1 (n + 1) x2_4 x3_4 = f_X6_turnOf_L4 σ p1 n x2_4 (x3_4 + (1 : Int32)) from (by subst er16; subst er20; exact ((if_neg c11).trans ((if_pos c23).trans rfl)))).trans en) hI h hl)
        · have i23 := c_ne c23
          have okr20 := isIn_ok er20 c23
          refine lv_iload_n hx hb dX6_turnOf_26 rfl (lv_at hl 2 rfl) ?_
          refine lv_iconst (v := -1) hx hb dX6_turnOf_27 (by decide) ?_
          refine lv_icmp_eq (tgt := 46) hx hb dX6_turnOf_28 (by decide) (fun c28 => ?_) (fun c28 => ?_)
          · have i28 := c_eq c28
            refine lv_iload_n hx hb dX6_turnOf_46 rfl (lv_at hl 3 rfl) ?_
            refine lv_istore_n (lv' := [(2, .int x3_4), (0, .ref (g.2.1 99)), (1, .int p1), (3, .int x3_4)]) hx hb dX6_turnOf_47 rfl hl (by decide) rfl (fun ls hl => ?_)
            refine lv_iinc (v := (x3_4 + (1 : Int32))) (lv' := [(3, .int (x3_4 + (1 : Int32))), (2, .int x3_4), (0, .ref (g.2.1 99)), (1, .int p1)]) hx hb dX6_turnOf_48 hl (k := 3) rfl rfl (by decide) rfl (fun ls hl => ?_)
            refine lv_goto (tgt := 4) hx hb dX6_turnOf_51 (by decide) ?_
            have tt3 : (x3_4 + (1 : Int32)).toInt = (x3_4.toInt + (1)) := (i_add (rfl : x3_4.toInt = x3_4.toInt) zl1 (by omega))
            exact ih x3_4 (x3_4 + (1 : Int32)) _ _ _  (by first | assumption | omega) (by omega) h (lv_sub hl [2, 3, 1, 0] rfl) (fun x2_4' x3_4' H locs ls en hI h hl => kk x2_4' x3_4' H locs ls ((show f_X6_turnOf_L4 σ p1 (n + 1) x2_4 x3_4 = f_X6_turnOf_L4 σ p1 n x3_4 (x3_4 + (1 : Int32)) from (by subst er16; subst er20; exact ((if_neg c11).trans ((if_neg c23).trans ((if_pos c28).trans rfl))))).trans en) hI h hl)
          · have i28 := c_ne c28
            refine lv_aload_n hx hb dX6_turnOf_31 rfl (lv_at hl 0 rfl) ?_
            refine lv_iload_n hx hb dX6_turnOf_32 rfl (lv_at hl 3 rfl) ?_
            refine lv_iload_n hx hb dX6_turnOf_33 rfl (lv_at hl 1 rfl) ?_
            refine M_calli (As := [.int x3_4, .int p1]) (rest := []) 2 C h (k_X6_waits l g σ x3_4 p1 (by first | assumption | omega) (by first | assumption | omega)) (lw_V q1982 q1984 qs111 q152 q1985) rfl rfl (by decide +kernel) ⟨Nat.le_of_ble_eq_true rfl, Nat.le_of_ble_eq_true rfl⟩ rfl hl.1 rfl (Nat.le_of_ble_eq_true rfl) ⟨Nat.le_of_ble_eq_true rfl, Nat.le_of_ble_eq_true rfl⟩ dX6_turnOf_34 (fun r34 σ34 H locs eσ34 er34 hE34 h => ?_)
            rw [eσ34] at h
            clear hE34
            clear eσ34
            refine lv_aload_n hx hb dX6_turnOf_37 rfl (lv_at hl 0 rfl) ?_
            refine lv_iload_n hx hb dX6_turnOf_38 rfl (lv_at hl 2 rfl) ?_
            refine lv_iload_n hx hb dX6_turnOf_39 rfl (lv_at hl 1 rfl) ?_
            refine M_calli (As := [.int x2_4, .int p1]) (rest := [.int r34]) 2 C h (k_X6_waits l g σ x2_4 p1 (by first | assumption | omega) (by first | assumption | omega)) (lw_V q1982 q1984 qs111 q152 q1985) rfl rfl (by decide +kernel) ⟨Nat.le_of_ble_eq_true rfl, Nat.le_of_ble_eq_true rfl⟩ rfl hl.1 rfl (Nat.le_of_ble_eq_true rfl) ⟨Nat.le_of_ble_eq_true rfl, Nat.le_of_ble_eq_true rfl⟩ dX6_turnOf_40 (fun r40 σ40 H locs eσ40 er40 hE40 h => ?_)
            rw [eσ40] at h
            clear hE40
            clear eσ40
            refine lv_icmp_ge (tgt := 48) hx hb dX6_turnOf_43 (by decide) (fun c43 => ?_) (fun c43 => ?_)
            · have i43 := c_le c43
              refine lv_iinc (v := (x3_4 + (1 : Int32))) (lv' := [(3, .int (x3_4 + (1 : Int32))), (0, .ref (g.2.1 99)), (1, .int p1), (2, .int x2_4)]) hx hb dX6_turnOf_48 hl (k := 3) rfl rfl (by decide) rfl (fun ls hl => ?_)
              refine lv_goto (tgt := 4) hx hb dX6_turnOf_51 (by decide) ?_
              have tt3 : (x3_4 + (1 : Int32)).toInt = (x3_4.toInt + (1)) := (i_add (rfl : x3_4.toInt = x3_4.toInt) zl1 (by omega))
              exact ih x2_4 (x3_4 + (1 : Int32)) _ _ _  (by first | assumption | omega) (by omega) h (lv_sub hl [1, 2, 3, 0] rfl) (fun x2_4' x3_4' H locs ls en hI h hl => kk x2_4' x3_4' H locs ls ((show f_X6_turnOf_L4 σ p1 (n + 1) x2_4 x3_4 = f_X6_turnOf_L4 σ p1 n x2_4 (x3_4 + (1 : Int32)) from (by subst er16; subst er20; subst er34; subst er40; exact ((if_neg c11).trans ((if_neg c23).trans ((if_neg c28).trans ((if_pos c43).trans rfl)))))).trans en) hI h hl)
            · have i43 := c_nle c43
              refine lv_iload_n hx hb dX6_turnOf_46 rfl (lv_at hl 3 rfl) ?_
              refine lv_istore_n (lv' := [(2, .int x3_4), (0, .ref (g.2.1 99)), (1, .int p1), (3, .int x3_4)]) hx hb dX6_turnOf_47 rfl hl (by decide) rfl (fun ls hl => ?_)
              refine lv_iinc (v := (x3_4 + (1 : Int32))) (lv' := [(3, .int (x3_4 + (1 : Int32))), (2, .int x3_4), (0, .ref (g.2.1 99)), (1, .int p1)]) hx hb dX6_turnOf_48 hl (k := 3) rfl rfl (by decide) rfl (fun ls hl => ?_)
              refine lv_goto (tgt := 4) hx hb dX6_turnOf_51 (by decide) ?_
              have tt3 : (x3_4 + (1 : Int32)).toInt = (x3_4.toInt + (1)) := (i_add (rfl : x3_4.toInt = x3_4.toInt) zl1 (by omega))
              exact ih x3_4 (x3_4 + (1 : Int32)) _ _ _  (by first | assumption | omega) (by omega) h (lv_sub hl [2, 3, 1, 0] rfl) (fun x2_4' x3_4' H locs ls en hI h hl => kk x2_4' x3_4' H locs ls ((show f_X6_turnOf_L4 σ p1 (n + 1) x2_4 x3_4 = f_X6_turnOf_L4 σ p1 n x3_4 (x3_4 + (1 : Int32)) from (by subst er16; subst er20; subst er34; subst er40; exact ((if_neg c11).trans ((if_neg c23).trans ((if_neg c28).trans ((if_neg c43).trans rfl)))))).trans en) hI h hl)
  refine hL4 (7) (-1 : Int32) (0 : Int32) _ _ _  (by first | assumption | omega) (by omega) h (lv_sub hl [2, 3, 1, 0] rfl) (fun x2_4e x3_4e H locs ls eL4 hI4 h hl => ?_)
  have ex2_4e : x2_4e = (f_X6_turnOf_L4 σ p1 (7) (-1 : Int32) (0 : Int32)).1 := by rw [eL4]
  have ex3_4e : x3_4e = (f_X6_turnOf_L4 σ p1 (7) (-1 : Int32) (0 : Int32)).2 := by rw [eL4]
  refine lv_iload_n hx hb dX6_turnOf_54 rfl (lv_at hl 0 rfl) ?_
  have he : f_X6_turnOf σ p1 = x2_4e := (by subst ex2_4e; subst ex3_4e; exact rfl)
  exact M_reti C h hr hlocks rfl he trivial dX6_turnOf_55
def f_X6_turn (σ : MS) : MS × Int32 := (let r8 := (f_X6_turnOf σ (ga σ 0 (4 : Int32))); let z11 := (f_X6_orNone σ r8); let σ11 := z11.1; let r11 := z11.2; (σ11, r11))
set_option maxHeartbeats 4000000 in
set_option maxRecDepth 100000 in
theorem k_X6_turn (l : Launch) (g : GE) (σ : MS) (hp : 0 ≤ (ga σ 0 (0 : Int32)).toInt ∧ (ga σ 0 (0 : Int32)).toInt ≤ 6) : Met l yX6_turn (ws_ yX6_turn cX6_turn 1 (some .int)) ({ frames := 4, cells := 0, slots := 0, locals := 89 } : Room) (mPc g σ []) (mQi g (f_X6_turn σ).1 (f_X6_turn σ).2 (fun u r => ((ga u 0 (0 : Int32)).toInt = (ga σ 0 (0 : Int32)).toInt))) 0 0 (mA g) := by
  refine met_M (by decide) rfl (Nat.le_of_ble_eq_true rfl) ?_
  intro p e s m args below meth c C hr hlocks h ls hl
  have hx := C.1.1
  have hb := C.1.2.1
  have hml := C.1.2.2.1
  have hown := C.1.2.2.2.1
  have hts := C.1.2.2.2.2
  have hl : lv_has ls 1 [(0, .ref (g.2.1 99))] := hl
  have hpq : (ga σ 0 (0 : Int32)).toInt = (ga σ 0 (0 : Int32)).toInt := rfl
  have zl4 : (4 : Int32).toInt = 4 := rfl
  refine lv_aload_n hx hb dX6_turn_0 rfl (lv_at hl 0 rfl) ?_
  refine lv_aload_n hx hb dX6_turn_1 rfl (lv_at hl 0 rfl) ?_
  refine lv_aload_n hx hb dX6_turn_2 rfl (lv_at hl 0 rfl) ?_
  refine Mg_0 C h dX6_turn_3 ?_
  refine lv_iconst (v := 4) hx hb dX6_turn_6 (by decide) ?_
  refine Ml_0 C h (ix_of zl4 (by omega)) dX6_turn_7 ?_
  refine M_calli (As := [.int (ga σ 0 (4 : Int32))]) (rest := [.ref (g.2.1 99)]) 1 C h (k_X6_turnOf l g σ (ga σ 0 (4 : Int32)) (by first | assumption | omega)) (lw_V q1978 q1980 qs110 q152 q1981) rfl rfl (by decide +kernel) ⟨Nat.le_of_ble_eq_true rfl, Nat.le_of_ble_eq_true rfl⟩ rfl hl.1 rfl (Nat.le_of_ble_eq_true rfl) ⟨Nat.le_of_ble_eq_true rfl, Nat.le_of_ble_eq_true rfl⟩ dX6_turn_8 (fun r8 σ8 H locs eσ8 er8 hE8 h => ?_)
  rw [eσ8] at h
  clear hE8
  clear eσ8
  refine M_calli (As := [.int r8]) (rest := []) 1 C h (k_X6_orNone l g σ r8) (lw_V q1868 q1870 qs102 q152 q1871) rfl rfl (by decide +kernel) ⟨Nat.le_of_ble_eq_true rfl, Nat.le_of_ble_eq_true rfl⟩ rfl hl.1 rfl (Nat.le_of_ble_eq_true rfl) ⟨Nat.le_of_ble_eq_true rfl, Nat.le_of_ble_eq_true rfl⟩ dX6_turn_11 (fun r11 σ11 H locs eσ11 er11 hE11 h => ?_)
  clear hE11
  have hNEW : (0 ≤ (ga σ11 0 (0 : Int32)).toInt ∧ (ga σ11 0 (0 : Int32)).toInt ≤ 6) ∧ ((ga σ11 0 (0 : Int32)).toInt = (ga σ 0 (0 : Int32)).toInt) := ⟨(by rw [eσ11, orNone_s] <;> exact hp), (by rw [eσ11, orNone_s] <;> exact hpq)⟩
  obtain ⟨hp, hpq⟩ := hNEW
  have he : f_X6_turn σ = (σ11, r11) := (by subst er8; subst eσ11; subst er11; exact rfl)
  exact M_reti C h hr hlocks (congrArg Prod.fst he) (congrArg Prod.snd he) hpq dX6_turn_14
def f_X6_turnBy (σ : MS) (p1 : Int32) : MS × Int32 := (let r6 := (f_X6_isFrom p1.toInt64 (0 : Int64) (3 : Int64)); if r6 = (0 : Int32) then ((let z26 := (f_X6_refuse σ (1 : Int32)); let σ26 := z26.1; let r26 := z26.2; (σ26, r26))) else ((let r15 := (f_X6_turnOf σ p1); let z18 := (f_X6_orNone σ r15); let σ18 := z18.1; let r18 := z18.2; (σ18, r18))))
set_option maxHeartbeats 4000000 in
set_option maxRecDepth 100000 in
theorem k_X6_turnBy (l : Launch) (g : GE) (σ : MS) (p1 : Int32) (hp : 0 ≤ (ga σ 0 (0 : Int32)).toInt ∧ (ga σ 0 (0 : Int32)).toInt ≤ 6) : Met l yX6_turnBy (ws_ yX6_turnBy cX6_turnBy 2 (some .int)) ({ frames := 4, cells := 0, slots := 0, locals := 89 } : Room) (mPc g σ [.int p1]) (mQi g (f_X6_turnBy σ p1).1 (f_X6_turnBy σ p1).2 (fun u r => ((ga u 0 (0 : Int32)).toInt = (ga σ 0 (0 : Int32)).toInt))) 0 0 (mA g) := by
  refine met_M (by decide) rfl (Nat.le_of_ble_eq_true rfl) ?_
  intro p e s m args below meth c C hr hlocks h ls hl
  have hx := C.1.1
  have hb := C.1.2.1
  have hml := C.1.2.2.1
  have hown := C.1.2.2.2.1
  have hts := C.1.2.2.2.2
  have hl : lv_has ls 2 [(0, .ref (g.2.1 99)), (1, .int p1)] := hl
  have hpq : (ga σ 0 (0 : Int32)).toInt = (ga σ 0 (0 : Int32)).toInt := rfl
  have zl0 : (0 : Int32).toInt = 0 := rfl
  have zl1 : (1 : Int32).toInt = 1 := rfl
  refine lv_iload_n hx hb dX6_turnBy_0 rfl (lv_at hl 1 rfl) ?_
  refine lv_i2l (v := p1.toInt64) hx hb dX6_turnBy_1 rfl ?_
  refine lv_lconst (v := 0) hx hb dX6_turnBy_2 (by decide) ?_
  refine lv_ldc2 hx hb hown (hts _ q1951) dX6_turnBy_3 ?_
  refine s_callz (As := [.long p1.toInt64, .long (0 : Int64), .long (3 : Int64)]) (rest := []) 3 C.1 (k_X6_isFrom l p1.toInt64 (0 : Int64) (3 : Int64)) (lw_S q1936 q1937 q152 q1938) rfl rfl (by decide +kernel) ⟨Nat.le_of_ble_eq_true rfl, Nat.le_of_ble_eq_true rfl⟩ rfl hl.1 rfl (Nat.le_of_ble_eq_true rfl) ⟨Nat.le_of_ble_eq_true rfl, Nat.le_of_ble_eq_true rfl⟩ dX6_turnBy_6 h.2.2 (fun r6 H locs er6 br6 hz1 hk1 hS1 => ?_)
  have h := h.same hk1 hS1
  clear hz1 hk1 hS1
  refine lv_if_eq (tgt := 24) hx hb dX6_turnBy_9 (by decide) (fun c9 => ?_) (fun c9 => ?_)
  · have i9 := c_eq c9
    refine lv_aload_n hx hb dX6_turnBy_24 rfl (lv_at hl 0 rfl) ?_
    refine lv_iconst (v := 1) hx hb dX6_turnBy_25 (by decide) ?_
    refine M_calli (As := [.int (1 : Int32)]) (rest := []) 1 C h (k_X6_refuse l g σ (1 : Int32)) (lw_V q1723 q1725 qs71 q152 q1726) rfl rfl (by decide +kernel) ⟨Nat.le_of_ble_eq_true rfl, Nat.le_of_ble_eq_true rfl⟩ rfl hl.1 rfl (Nat.le_of_ble_eq_true rfl) ⟨Nat.le_of_ble_eq_true rfl, Nat.le_of_ble_eq_true rfl⟩ dX6_turnBy_26 (fun r26 σ26 H locs eσ26 er26 hE26 h => ?_)
    clear hE26
    have hNEW : (0 ≤ (ga σ26 0 (0 : Int32)).toInt ∧ (ga σ26 0 (0 : Int32)).toInt ≤ 6) ∧ ((ga σ26 0 (0 : Int32)).toInt = (ga σ 0 (0 : Int32)).toInt) := ⟨(by rw [eσ26, refuse_s] <;> exact hp), (by rw [eσ26, refuse_s] <;> exact hpq)⟩
    obtain ⟨hp, hpq⟩ := hNEW
    have he : f_X6_turnBy σ p1 = (σ26, r26) := (by subst er6; subst eσ26; subst er26; exact ((if_pos c9).trans rfl))
    exact M_reti C h hr hlocks (congrArg Prod.fst he) (congrArg Prod.snd he) hpq dX6_turnBy_29
  · have i9 := c_ne c9
    have okr6 := isFrom_ok er6 c9
    refine lv_aload_n hx hb dX6_turnBy_12 rfl (lv_at hl 0 rfl) ?_
    refine lv_aload_n hx hb dX6_turnBy_13 rfl (lv_at hl 0 rfl) ?_
    refine lv_iload_n hx hb dX6_turnBy_14 rfl (lv_at hl 1 rfl) ?_
    refine M_calli (As := [.int p1]) (rest := [.ref (g.2.1 99)]) 1 C h (k_X6_turnOf l g σ p1 (by first | assumption | omega)) (lw_V q1978 q1980 qs110 q152 q1981) rfl rfl (by decide +kernel) ⟨Nat.le_of_ble_eq_true rfl, Nat.le_of_ble_eq_true rfl⟩ rfl hl.1 rfl (Nat.le_of_ble_eq_true rfl) ⟨Nat.le_of_ble_eq_true rfl, Nat.le_of_ble_eq_true rfl⟩ dX6_turnBy_15 (fun r15 σ15 H locs eσ15 er15 hE15 h => ?_)
    rw [eσ15] at h
    clear hE15
    clear eσ15
    refine M_calli (As := [.int r15]) (rest := []) 1 C h (k_X6_orNone l g σ r15) (lw_V q1868 q1870 qs102 q152 q1871) rfl rfl (by decide +kernel) ⟨Nat.le_of_ble_eq_true rfl, Nat.le_of_ble_eq_true rfl⟩ rfl hl.1 rfl (Nat.le_of_ble_eq_true rfl) ⟨Nat.le_of_ble_eq_true rfl, Nat.le_of_ble_eq_true rfl⟩ dX6_turnBy_18 (fun r18 σ18 H locs eσ18 er18 hE18 h => ?_)
    clear hE18
    have hNEW : (0 ≤ (ga σ18 0 (0 : Int32)).toInt ∧ (ga σ18 0 (0 : Int32)).toInt ≤ 6) ∧ ((ga σ18 0 (0 : Int32)).toInt = (ga σ 0 (0 : Int32)).toInt) := ⟨(by rw [eσ18, orNone_s] <;> exact hp), (by rw [eσ18, orNone_s] <;> exact hpq)⟩
    obtain ⟨hp, hpq⟩ := hNEW
    refine lv_goto (tgt := 29) hx hb dX6_turnBy_21 (by decide) ?_
    have he : f_X6_turnBy σ p1 = (σ18, r18) := (by subst er6; subst er15; subst eσ18; subst er18; exact ((if_neg c9).trans rfl))
    exact M_reti C h hr hlocks (congrArg Prod.fst he) (congrArg Prod.snd he) hpq dX6_turnBy_29
def f_X6_insists (σ : MS) (p1 : Int32) : Int32 := (let r5 := (f_X6_personRow p1); (ga σ 0 r5))
set_option maxHeartbeats 4000000 in
set_option maxRecDepth 100000 in
theorem k_X6_insists (l : Launch) (g : GE) (σ : MS) (p1 : Int32) (h1r : 0 ≤ p1.toInt ∧ p1.toInt ≤ 5) : Met l yX6_insists (ws_ yX6_insists cX6_insists 2 (some .int)) ({ frames := 1, cells := 0, slots := 0, locals := 20 } : Room) (mPc g σ [.int p1]) (mQi g σ (f_X6_insists σ p1) (fun u r => True)) 0 0 (mA g) := by
  refine met_M (by decide) rfl (Nat.le_of_ble_eq_true rfl) ?_
  intro p e s m args below meth c C hr hlocks h ls hl
  have hx := C.1.1
  have hb := C.1.2.1
  have hml := C.1.2.2.1
  have hown := C.1.2.2.2.1
  have hts := C.1.2.2.2.2
  have hl : lv_has ls 2 [(0, .ref (g.2.1 99)), (1, .int p1)] := hl
  have zl8 : (8 : Int32).toInt = 8 := rfl
  have zl12 : (12 : Int32).toInt = 12 := rfl
  refine lv_aload_n hx hb dX6_insists_0 rfl (lv_at hl 0 rfl) ?_
  refine Mg_0 C h dX6_insists_1 ?_
  refine lv_iload_n hx hb dX6_insists_4 rfl (lv_at hl 1 rfl) ?_
  refine s_calli (As := [.int p1]) (rest := [.ref (g.2.1 0)]) 1 C.1 (k_X6_personRow l p1) (lw_S q1857 q1858 q152 q1859) rfl rfl (by decide +kernel) ⟨Nat.le_of_ble_eq_true rfl, Nat.le_of_ble_eq_true rfl⟩ rfl hl.1 rfl (Nat.le_of_ble_eq_true rfl) ⟨Nat.le_of_ble_eq_true rfl, Nat.le_of_ble_eq_true rfl⟩ dX6_insists_5 h.2.2 (fun r5 H locs er5 hz1 hk1 hS1 => ?_)
  have h := h.same hk1 hS1
  clear hz1 hk1 hS1
  have tr5 : r5.toInt = ((12) + ((8) * p1.toInt)) := by rw [er5]; exact (i_add zl12 (i_mul zl8 (rfl : p1.toInt = p1.toInt) (by omega)) (by omega))
  refine Ml_0 C h (ix_of tr5 (by omega)) dX6_insists_8 ?_
  have he : f_X6_insists σ p1 = (ga σ 0 r5) := (by subst er5; exact rfl)
  exact M_reti C h hr hlocks rfl he trivial dX6_insists_9
theorem insists_rng {σ : MS} {p r : Int32} (hi : ∀ x : Int32, (0 ≤ x.toInt ∧ x.toInt < (ga σ 0 (0 : Int32)).toInt) → 0 ≤ (ga σ 0 (f_X6_personRow x)).toInt ∧ (ga σ 0 (f_X6_personRow x)).toInt ≤ 16) (hp : 0 ≤ p.toInt ∧ p.toInt < (ga σ 0 (0 : Int32)).toInt) (h : r = f_X6_insists σ p) : 0 ≤ r.toInt ∧ r.toInt ≤ 16 := by
  rw [h]; exact hi p hp
def f_X6_isEndless (σ : MS) (p1 : Int32) (p2 : Int32) : Int32 := (let r2 := (f_X6_insists σ p1); if r2 = (16 : Int32) then ((let r12 := (f_X6_insists σ p2); if r12 = (16 : Int32) then ((1 : Int32)) else ((0 : Int32)))) else ((0 : Int32)))
set_option maxHeartbeats 4000000 in
set_option maxRecDepth 100000 in
theorem k_X6_isEndless (l : Launch) (g : GE) (σ : MS) (p1 : Int32) (p2 : Int32) (h1r : 0 ≤ p1.toInt ∧ p1.toInt ≤ 5) (h2r : 0 ≤ p2.toInt ∧ p2.toInt ≤ 5) : Met l yX6_isEndless (ws_ yX6_isEndless cX6_isEndless 3 (some .boolean)) ({ frames := 2, cells := 0, slots := 0, locals := 41 } : Room) (mPc g σ [.int p1, .int p2]) (mQz g σ (f_X6_isEndless σ p1 p2) (fun u r => True)) 0 0 (mA g) := by
  refine met_M (by decide) rfl (Nat.le_of_ble_eq_true rfl) ?_
  intro p e s m args below meth c C hr hlocks h ls hl
  have hx := C.1.1
  have hb := C.1.2.1
  have hml := C.1.2.2.1
  have hown := C.1.2.2.2.1
  have hts := C.1.2.2.2.2
  have hl : lv_has ls 3 [(0, .ref (g.2.1 99)), (1, .int p1), (2, .int p2)] := hl
  have zl0 : (0 : Int32).toInt = 0 := rfl
  have zl1 : (1 : Int32).toInt = 1 := rfl
  have zl16 : (16 : Int32).toInt = 16 := rfl
  refine lv_aload_n hx hb dX6_isEndless_0 rfl (lv_at hl 0 rfl) ?_
  refine lv_iload_n hx hb dX6_isEndless_1 rfl (lv_at hl 1 rfl) ?_
  refine M_calli (As := [.int p1]) (rest := []) 1 C h (k_X6_insists l g σ p1 (by first | assumption | omega)) (lw_V q2006 q2008 qs115 q152 q2009) rfl rfl (by decide +kernel) ⟨Nat.le_of_ble_eq_true rfl, Nat.le_of_ble_eq_true rfl⟩ rfl hl.1 rfl (Nat.le_of_ble_eq_true rfl) ⟨Nat.le_of_ble_eq_true rfl, Nat.le_of_ble_eq_true rfl⟩ dX6_isEndless_2 (fun r2 σ2 H locs eσ2 er2 hE2 h => ?_)
  rw [eσ2] at h
  clear hE2
  clear eσ2
  refine lv_bipush (v := 16) hx hb dX6_isEndless_5 (by decide) ?_
  refine lv_icmp_ne (tgt := 24) hx hb dX6_isEndless_7 (by decide) (fun c7 => ?_) (fun c7 => ?_)
  · have i7 := c_ne c7
    refine lv_iconst (v := 0) hx hb dX6_isEndless_24 (by decide) ?_
    have he : f_X6_isEndless σ p1 p2 = (0 : Int32) := (by subst er2; exact ((if_neg c7).trans rfl))
    exact M_retz C h hr hlocks rfl he (Or.inl rfl) trivial dX6_isEndless_25
  · have i7 := c_eq c7
    refine lv_aload_n hx hb dX6_isEndless_10 rfl (lv_at hl 0 rfl) ?_
    refine lv_iload_n hx hb dX6_isEndless_11 rfl (lv_at hl 2 rfl) ?_
    refine M_calli (As := [.int p2]) (rest := []) 1 C h (k_X6_insists l g σ p2 (by first | assumption | omega)) (lw_V q2006 q2008 qs115 q152 q2009) rfl rfl (by decide +kernel) ⟨Nat.le_of_ble_eq_true rfl, Nat.le_of_ble_eq_true rfl⟩ rfl hl.1 rfl (Nat.le_of_ble_eq_true rfl) ⟨Nat.le_of_ble_eq_true rfl, Nat.le_of_ble_eq_true rfl⟩ dX6_isEndless_12 (fun r12 σ12 H locs eσ12 er12 hE12 h => ?_)
    rw [eσ12] at h
    clear hE12
    clear eσ12
    refine lv_bipush (v := 16) hx hb dX6_isEndless_15 (by decide) ?_
    refine lv_icmp_ne (tgt := 24) hx hb dX6_isEndless_17 (by decide) (fun c17 => ?_) (fun c17 => ?_)
    · have i17 := c_ne c17
      refine lv_iconst (v := 0) hx hb dX6_isEndless_24 (by decide) ?_
      have he : f_X6_isEndless σ p1 p2 = (0 : Int32) := (by subst er2; subst er12; exact ((if_pos c7).trans ((if_neg c17).trans rfl)))
      exact M_retz C h hr hlocks rfl he (Or.inl rfl) trivial dX6_isEndless_25
    · have i17 := c_eq c17
      refine lv_iconst (v := 1) hx hb dX6_isEndless_20 (by decide) ?_
      refine lv_goto (tgt := 25) hx hb dX6_isEndless_21 (by decide) ?_
      have he : f_X6_isEndless σ p1 p2 = (1 : Int32) := (by subst er2; subst er12; exact ((if_pos c7).trans ((if_pos c17).trans rfl)))
      exact M_retz C h hr hlocks rfl he (Or.inr rfl) trivial dX6_isEndless_25
def f_X6_first (σ : MS) (p1 : Int32) (p2 : Int32) : Int32 := (let r2 := (f_X6_insists σ p1); let r9 := (f_X6_insists σ p2); (r2 * ((16 : Int32) - r9)))
set_option maxHeartbeats 4000000 in
set_option maxRecDepth 100000 in
theorem k_X6_first (l : Launch) (g : GE) (σ : MS) (p1 : Int32) (p2 : Int32) (h1r : 0 ≤ p1.toInt ∧ p1.toInt ≤ 5) (h2r : 0 ≤ p2.toInt ∧ p2.toInt ≤ 5) : Met l yX6_first (ws_ yX6_first cX6_first 3 (some .int)) ({ frames := 2, cells := 0, slots := 0, locals := 41 } : Room) (mPc g σ [.int p1, .int p2]) (mQi g σ (f_X6_first σ p1 p2) (fun u r => True)) 0 0 (mA g) := by
  refine met_M (by decide) rfl (Nat.le_of_ble_eq_true rfl) ?_
  intro p e s m args below meth c C hr hlocks h ls hl
  have hx := C.1.1
  have hb := C.1.2.1
  have hml := C.1.2.2.1
  have hown := C.1.2.2.2.1
  have hts := C.1.2.2.2.2
  have hl : lv_has ls 3 [(0, .ref (g.2.1 99)), (1, .int p1), (2, .int p2)] := hl
  have zl16 : (16 : Int32).toInt = 16 := rfl
  refine lv_aload_n hx hb dX6_first_0 rfl (lv_at hl 0 rfl) ?_
  refine lv_iload_n hx hb dX6_first_1 rfl (lv_at hl 1 rfl) ?_
  refine M_calli (As := [.int p1]) (rest := []) 1 C h (k_X6_insists l g σ p1 (by first | assumption | omega)) (lw_V q2006 q2008 qs115 q152 q2009) rfl rfl (by decide +kernel) ⟨Nat.le_of_ble_eq_true rfl, Nat.le_of_ble_eq_true rfl⟩ rfl hl.1 rfl (Nat.le_of_ble_eq_true rfl) ⟨Nat.le_of_ble_eq_true rfl, Nat.le_of_ble_eq_true rfl⟩ dX6_first_2 (fun r2 σ2 H locs eσ2 er2 hE2 h => ?_)
  rw [eσ2] at h
  clear hE2
  clear eσ2
  refine lv_bipush (v := 16) hx hb dX6_first_5 (by decide) ?_
  refine lv_aload_n hx hb dX6_first_7 rfl (lv_at hl 0 rfl) ?_
  refine lv_iload_n hx hb dX6_first_8 rfl (lv_at hl 2 rfl) ?_
  refine M_calli (As := [.int p2]) (rest := [.int (16 : Int32), .int r2]) 1 C h (k_X6_insists l g σ p2 (by first | assumption | omega)) (lw_V q2006 q2008 qs115 q152 q2009) rfl rfl (by decide +kernel) ⟨Nat.le_of_ble_eq_true rfl, Nat.le_of_ble_eq_true rfl⟩ rfl hl.1 rfl (Nat.le_of_ble_eq_true rfl) ⟨Nat.le_of_ble_eq_true rfl, Nat.le_of_ble_eq_true rfl⟩ dX6_first_9 (fun r9 σ9 H locs eσ9 er9 hE9 h => ?_)
  rw [eσ9] at h
  clear hE9
  clear eσ9
  refine lv_isub hx hb dX6_first_12 ?_
  refine lv_imul hx hb dX6_first_13 ?_
  have he : f_X6_first σ p1 p2 = (r2 * ((16 : Int32) - r9)) := (by subst er2; subst er9; exact rfl)
  exact M_reti C h hr hlocks rfl he trivial dX6_first_14
theorem behind_k : ∀ x, x < 17 → ∀ y, y < 17 → ¬ (nI x = 16 ∧ nI y = 16) → 1 ≤ ((256 : Int32) - (nI x * nI y)).toInt ∧ ((256 : Int32) - (nI x * nI y)).toInt ≤ 256 := by decide +kernel
theorem i2l_ne {x : Int32} (h : ¬ x = 0) : ¬ x.toInt64 = 0 := by
  intro q
  have z := congrArg Int64.toInt q
  rw [Int32.toInt_toInt64] at z
  exact h (Int32.toInt_inj.mp z)
theorem lmul_rng {a b : Int64} {M N : Int} (ha : 1 ≤ a.toInt ∧ a.toInt ≤ M) (hb : 1 ≤ b.toInt ∧ b.toInt ≤ N) (h : M * N < 9223372036854775808) : 1 ≤ (a * b).toInt ∧ (a * b).toInt ≤ M * N := by
  have h1 : 1 * 1 ≤ a.toInt * b.toInt := Int.mul_le_mul ha.1 hb.1 (by omega) (by omega)
  have h2 : a.toInt * b.toInt ≤ M * N := Int.mul_le_mul ha.2 hb.2 (by omega) (by omega)
  rw [Int64.toInt_mul]
  have e : (a.toInt * b.toInt).bmod (2 ^ 64) = a.toInt * b.toInt := l_bm (by omega)
  rw [e]
  omega
theorem i2l_rng {x : Int32} {M : Int} (h : 1 ≤ x.toInt ∧ x.toInt ≤ M) : 1 ≤ x.toInt64.toInt ∧ x.toInt64.toInt ≤ M := by rw [Int32.toInt_toInt64]; exact h
theorem l_pos_ne {x : Int64} {M : Int} (h : 1 ≤ x.toInt ∧ x.toInt ≤ M) : ¬ x = 0 := by
  intro q; rw [q] at h; exact absurd h.1 (by decide)
theorem xy_k : ∀ x, x < 17 → ∀ y, y < 17 → ¬ (nI x = 16 ∧ nI y = 16) → 0 ≤ (nI x * nI y).toInt ∧ (nI x * nI y).toInt ≤ 240 := by decide +kernel
theorem whole_k {a : Int32} (ha : 0 ≤ a.toInt ∧ a.toInt ≤ 240) (z : Nat) (hz : z < 17) : 1 ≤ ((4096 : Int64) - (a * nI z).toInt64).toInt ∧ ((4096 : Int64) - (a * nI z).toInt64).toInt ≤ 4096 := by
  have ez : (nI z).toInt = (z : Int) := nI_toInt (by omega)
  have h1 : 0 ≤ a.toInt * (z : Int) := Int.mul_nonneg ha.1 (by omega)
  have h2 : a.toInt * (z : Int) ≤ 240 * 16 := Int.mul_le_mul ha.2 (by omega) (by omega) (by omega)
  have e : (a * nI z).toInt = a.toInt * (z : Int) := i_mul rfl ez (by omega)
  have e2 : ((4096 : Int64) - (a * nI z).toInt64).toInt = 4096 - a.toInt * (z : Int) := by
    rw [Int64.toInt_sub, Int32.toInt_toInt64, e, show (4096 : Int64).toInt = 4096 from rfl]
    exact l_bm (by omega)
  rw [e2]; omega
def f_X6_behind (σ : MS) (p1 : Int32) (p2 : Int32) : Int32 := (let r5 := (f_X6_insists σ p1); let r10 := (f_X6_insists σ p2); ((256 : Int32) - (r5 * r10)))
set_option maxHeartbeats 4000000 in
set_option maxRecDepth 100000 in
theorem k_X6_behind (l : Launch) (g : GE) (σ : MS) (p1 : Int32) (p2 : Int32) (h1r : 0 ≤ p1.toInt ∧ p1.toInt ≤ 5) (h2r : 0 ≤ p2.toInt ∧ p2.toInt ≤ 5) : Met l yX6_behind (ws_ yX6_behind cX6_behind 3 (some .int)) ({ frames := 2, cells := 0, slots := 0, locals := 41 } : Room) (mPc g σ [.int p1, .int p2]) (mQi g σ (f_X6_behind σ p1 p2) (fun u r => True)) 0 0 (mA g) := by
  refine met_M (by decide) rfl (Nat.le_of_ble_eq_true rfl) ?_
  intro p e s m args below meth c C hr hlocks h ls hl
  have hx := C.1.1
  have hb := C.1.2.1
  have hml := C.1.2.2.1
  have hown := C.1.2.2.2.1
  have hts := C.1.2.2.2.2
  have hl : lv_has ls 3 [(0, .ref (g.2.1 99)), (1, .int p1), (2, .int p2)] := hl
  have zl256 : (256 : Int32).toInt = 256 := rfl
  refine lv_sipush (v := 256) hx hb dX6_behind_0 (by decide) ?_
  refine lv_aload_n hx hb dX6_behind_3 rfl (lv_at hl 0 rfl) ?_
  refine lv_iload_n hx hb dX6_behind_4 rfl (lv_at hl 1 rfl) ?_
  refine M_calli (As := [.int p1]) (rest := [.int (256 : Int32)]) 1 C h (k_X6_insists l g σ p1 (by first | assumption | omega)) (lw_V q2006 q2008 qs115 q152 q2009) rfl rfl (by decide +kernel) ⟨Nat.le_of_ble_eq_true rfl, Nat.le_of_ble_eq_true rfl⟩ rfl hl.1 rfl (Nat.le_of_ble_eq_true rfl) ⟨Nat.le_of_ble_eq_true rfl, Nat.le_of_ble_eq_true rfl⟩ dX6_behind_5 (fun r5 σ5 H locs eσ5 er5 hE5 h => ?_)
  rw [eσ5] at h
  clear hE5
  clear eσ5
  refine lv_aload_n hx hb dX6_behind_8 rfl (lv_at hl 0 rfl) ?_
  refine lv_iload_n hx hb dX6_behind_9 rfl (lv_at hl 2 rfl) ?_
  refine M_calli (As := [.int p2]) (rest := [.int r5, .int (256 : Int32)]) 1 C h (k_X6_insists l g σ p2 (by first | assumption | omega)) (lw_V q2006 q2008 qs115 q152 q2009) rfl rfl (by decide +kernel) ⟨Nat.le_of_ble_eq_true rfl, Nat.le_of_ble_eq_true rfl⟩ rfl hl.1 rfl (Nat.le_of_ble_eq_true rfl) ⟨Nat.le_of_ble_eq_true rfl, Nat.le_of_ble_eq_true rfl⟩ dX6_behind_10 (fun r10 σ10 H locs eσ10 er10 hE10 h => ?_)
  rw [eσ10] at h
  clear hE10
  clear eσ10
  refine lv_imul hx hb dX6_behind_13 ?_
  refine lv_isub hx hb dX6_behind_14 ?_
  have he : f_X6_behind σ p1 p2 = ((256 : Int32) - (r5 * r10)) := (by subst er5; subst er10; exact rfl)
  exact M_reti C h hr hlocks rfl he trivial dX6_behind_15
theorem behind_pos {σ : MS} {a b : Int32} (ha : 0 ≤ (f_X6_insists σ a).toInt ∧ (f_X6_insists σ a).toInt ≤ 16) (hb : 0 ≤ (f_X6_insists σ b).toInt ∧ (f_X6_insists σ b).toInt ≤ 16) (h : f_X6_isEndless σ a b = 0) : 1 ≤ (f_X6_behind σ a b).toInt ∧ (f_X6_behind σ a b).toInt ≤ 256 := by
  have hn : ¬ (f_X6_insists σ a = 16 ∧ f_X6_insists σ b = 16) := by
    rintro ⟨h1, h2⟩
    unfold f_X6_isEndless at h
    dsimp only at h
    rw [if_pos h1, if_pos h2] at h
    exact absurd h (by decide)
  unfold f_X6_behind
  dsimp only
  obtain ⟨x, hx, ex⟩ := small_nI (n := 16) ha
  obtain ⟨y, hy, ey⟩ := small_nI (n := 16) hb
  rw [ex, ey] at hn ⊢
  exact behind_k x (by omega) y (by omega) hn
theorem behind_posS {σ : MS} {a b : Int32} (ha : 0 ≤ (f_X6_insists σ a).toInt ∧ (f_X6_insists σ a).toInt ≤ 16) (hb : 0 ≤ (f_X6_insists σ b).toInt ∧ (f_X6_insists σ b).toInt ≤ 16) (h : f_X6_isEndless σ b a = 0) : 1 ≤ (f_X6_behind σ a b).toInt ∧ (f_X6_behind σ a b).toInt ≤ 256 := by
  have e : f_X6_behind σ a b = f_X6_behind σ b a := by
    unfold f_X6_behind
    dsimp only
    rw [Int32.mul_comm]
  rw [e]; exact behind_pos hb ha h
def f_X6_tellsBy_L6 (σ : MS) (y1_6 : Int64) (y3_6 : Int64) : Nat → Int64 → Int64 → Int64 × Int64
  | 0, x5_6, x7_6 => (x5_6, x7_6)
  | n + 1, x5_6, x7_6 => if (lg_cmp x7_6 (0 : Int64)) = (0 : Int32) then ((x5_6, x7_6)) else ((let v18 := (x5_6 - ((x5_6 / x7_6) * x7_6)); f_X6_tellsBy_L6 σ y1_6 y3_6 n x7_6 v18))
def f_X6_tellsBy (σ : MS) (p1 : Int64) (p3 : Int64) : MS × Int32 := (let zL6 := f_X6_tellsBy_L6 σ p1 p3 (p3.toInt.natAbs + 1) p1 p3; let x5_6e := zL6.1; let x7_6e := zL6.2; (let σ36 := sl σ 3 (p1 / x5_6e); let σ44 := sl σ36 4 (p3 / x5_6e); let z49 := (f_X6_is σ44 (0 : Int32)); let σ49 := z49.1; let r49 := z49.2; (σ49, r49)))
set_option maxHeartbeats 4000000 in
set_option maxRecDepth 100000 in
theorem k_X6_tellsBy (l : Launch) (g : GE) (σ : MS) (p1 : Int64) (p3 : Int64) (hne : ¬ p3 = 0) : Met l yX6_tellsBy (ws_ yX6_tellsBy cX6_tellsBy 11 (some .boolean)) ({ frames := 1, cells := 0, slots := 0, locals := 21 } : Room) (mPc g σ [.long p1, .long p3]) (mQz g (f_X6_tellsBy σ p1 p3).1 (f_X6_tellsBy σ p1 p3).2 (fun u r => True)) 0 0 (mA g) := by
  refine met_M (by decide) rfl (Nat.le_of_ble_eq_true rfl) ?_
  intro p e s m args below meth c C hr hlocks h ls hl
  have hx := C.1.1
  have hb := C.1.2.1
  have hml := C.1.2.2.1
  have hown := C.1.2.2.2.1
  have hts := C.1.2.2.2.2
  have hl : lv_has ls 11 [(0, .ref (g.2.1 99)), (1, .long p1), (3, .long p3)] := hl
  have zl0 : (0 : Int32).toInt = 0 := rfl
  refine lv_lload_n hx hb dX6_tellsBy_0 rfl (lv_at hl 1 rfl) ?_
  refine lv_lstore (lv' := [(5, .long p1), (0, .ref (g.2.1 99)), (1, .long p1), (3, .long p3)]) hx hb dX6_tellsBy_1 hl (by decide) rfl (fun ls hl => ?_)
  refine lv_lload_n hx hb dX6_tellsBy_3 rfl (lv_at hl 3 rfl) ?_
  refine lv_lstore (lv' := [(7, .long p3), (5, .long p1), (0, .ref (g.2.1 99)), (1, .long p1), (3, .long p3)]) hx hb dX6_tellsBy_4 hl (by decide) rfl (fun ls hl => ?_)
  have hL6 : ∀ (n : Nat) (x5_6 : Int64) (x7_6 : Int64) (H : Heap) (locs : List Loc) (ls : Array Slot), (¬ x5_6 = 0 ∨ ¬ x7_6 = 0) → x7_6.toInt.natAbs < n → MH g σ s H locs → lv_has ls 11 [(0, .ref (g.2.1 99)), (1, .long p1), (3, .long p3), (5, .long x5_6), (7, .long x7_6)] → (∀ (x5_6' : Int64) (x7_6' : Int64) (H : Heap) (locs : List Loc) (ls : Array Slot), f_X6_tellsBy_L6 σ p1 p3 n x5_6 x7_6 = (x5_6', x7_6') → (¬ x5_6' = 0) → MH g σ s H locs → lv_has ls 11 [(0, .ref (g.2.1 99)), (1, .long p1), (3, .long p3), (5, .long x5_6')] → W p l e ({ frames := 1, cells := 0, slots := 0, locals := 21 } : Room) s m args below meth c H locs 0 0 (MQ below (mQz g (f_X6_tellsBy σ p1 p3).1 (f_X6_tellsBy σ p1 p3).2 (fun u r => True)) args s 0 0 (mA g)) (F0 m 31 ls [])) → W p l e ({ frames := 1, cells := 0, slots := 0, locals := 21 } : Room) s m args below meth c H locs 0 0 (MQ below (mQz g (f_X6_tellsBy σ p1 p3).1 (f_X6_tellsBy σ p1 p3).2 (fun u r => True)) args s 0 0 (mA g)) (F0 m 6 ls []) := by
    intro n
    induction n with
    | zero =>
      intro x5_6 x7_6 H locs ls _ hm; exact absurd hm (Nat.not_lt_zero _)
    | succ n ih =>
      intro x5_6 x7_6 H locs ls hI6 hm h hl kk
      refine lv_lload hx hb dX6_tellsBy_6 (lv_at hl 4 rfl) ?_
      refine lv_lconst (v := 0) hx hb dX6_tellsBy_8 (by decide) ?_
      refine W.lcmp hx hb dX6_tellsBy_9 ?_
      refine lv_if_eq (tgt := 31) hx hb dX6_tellsBy_10 (by decide) (fun c10 => ?_) (fun c10 => ?_)
      · have i10 := c_eq c10
        exact kk x5_6 x7_6 _ _ _ (show f_X6_tellsBy_L6 σ p1 p3 (n + 1) x5_6 x7_6 = (x5_6, x7_6) from (by exact ((if_pos c10).trans rfl)))  (hI6.elim (fun q => q) (fun q => absurd (leq c10) q)) h (lv_sub hl [0, 1, 2, 3] rfl)
      · have i10 := c_ne c10
        refine lv_lload hx hb dX6_tellsBy_13 (lv_at hl 3 rfl) ?_
        refine lv_lload hx hb dX6_tellsBy_15 (lv_at hl 4 rfl) ?_
        refine lv_lrem hx hb dX6_tellsBy_17 (lne c10) ?_
        refine lv_topl (fun v18 ev18 => ?_)
        refine lv_lstore (lv' := [(9, .long v18), (0, .ref (g.2.1 99)), (1, .long p1), (3, .long p3), (5, .long x5_6), (7, .long x7_6)]) hx hb dX6_tellsBy_18 hl (by decide) rfl (fun ls hl => ?_)
        refine lv_lload hx hb dX6_tellsBy_20 (lv_at hl 5 rfl) ?_
        refine lv_lstore (lv' := [(5, .long x7_6), (9, .long v18), (0, .ref (g.2.1 99)), (1, .long p1), (3, .long p3), (7, .long x7_6)]) hx hb dX6_tellsBy_22 hl (by decide) rfl (fun ls hl => ?_)
        refine lv_lload hx hb dX6_tellsBy_24 (lv_at hl 1 rfl) ?_
        refine lv_lstore (lv' := [(7, .long v18), (5, .long x7_6), (9, .long v18), (0, .ref (g.2.1 99)), (1, .long p1), (3, .long p3)]) hx hb dX6_tellsBy_26 hl (by decide) rfl (fun ls hl => ?_)
        refine lv_goto (tgt := 6) hx hb dX6_tellsBy_28 (by decide) ?_
        have hb6 := lrem_abs x5_6 x7_6 v18 ev18 (lne c10)
        exact ih x7_6 v18 _ _ _  (Or.inl (lne c10)) (by omega) h (lv_sub hl [3, 4, 5, 1, 0] rfl) (fun x5_6' x7_6' H locs ls en hI h hl => kk x5_6' x7_6' H locs ls ((show f_X6_tellsBy_L6 σ p1 p3 (n + 1) x5_6 x7_6 = f_X6_tellsBy_L6 σ p1 p3 n x7_6 v18 from (by subst ev18; exact ((if_neg c10).trans rfl))).trans en) hI h hl)
  refine hL6 (p3.toInt.natAbs + 1) p1 p3 _ _ _  (Or.inr hne) (by omega) h (lv_sub hl [2, 3, 4, 1, 0] rfl) (fun x5_6e x7_6e H locs ls eL6 hI6 h hl => ?_)
  have ex5_6e : x5_6e = (f_X6_tellsBy_L6 σ p1 p3 (p3.toInt.natAbs + 1) p1 p3).1 := by rw [eL6]
  have ex7_6e : x7_6e = (f_X6_tellsBy_L6 σ p1 p3 (p3.toInt.natAbs + 1) p1 p3).2 := by rw [eL6]
  refine lv_aload_n hx hb dX6_tellsBy_31 rfl (lv_at hl 0 rfl) ?_
  refine lv_lload_n hx hb dX6_tellsBy_32 rfl (lv_at hl 1 rfl) ?_
  refine lv_lload hx hb dX6_tellsBy_33 (lv_at hl 3 rfl) ?_
  refine lv_ldiv hx hb dX6_tellsBy_35 hI6 ?_
  refine Mp_3 C h dX6_tellsBy_36 (fun σ36 H locs eσ36 h => ?_)
  refine lv_aload_n hx hb dX6_tellsBy_39 rfl (lv_at hl 0 rfl) ?_
  refine lv_lload_n hx hb dX6_tellsBy_40 rfl (lv_at hl 2 rfl) ?_
  refine lv_lload hx hb dX6_tellsBy_41 (lv_at hl 3 rfl) ?_
  refine lv_ldiv hx hb dX6_tellsBy_43 hI6 ?_
  refine Mp_4 C h dX6_tellsBy_44 (fun σ44 H locs eσ44 h => ?_)
  refine lv_aload_n hx hb dX6_tellsBy_47 rfl (lv_at hl 0 rfl) ?_
  refine lv_iconst (v := 0) hx hb dX6_tellsBy_48 (by decide) ?_
  refine M_callz (As := [.int (0 : Int32)]) (rest := []) 1 C h (k_X6_is l g σ44 (0 : Int32)) (lw_V q1663 q1665 qs65 q152 q1666) rfl rfl (by decide +kernel) ⟨Nat.le_of_ble_eq_true rfl, Nat.le_of_ble_eq_true rfl⟩ rfl hl.1 rfl (Nat.le_of_ble_eq_true rfl) ⟨Nat.le_of_ble_eq_true rfl, Nat.le_of_ble_eq_true rfl⟩ dX6_tellsBy_49 (fun r49 σ49 H locs eσ49 er49 br49 hE49 h => ?_)
  clear hE49
  have he : f_X6_tellsBy σ p1 p3 = (σ49, r49) := (by subst ex5_6e; subst ex7_6e; subst eσ36; subst eσ44; subst eσ49; subst er49; exact rfl)
  exact M_retz C h hr hlocks (congrArg Prod.fst he) (congrArg Prod.snd he) br49 trivial dX6_tellsBy_52
theorem trio_whole {σ : MS} {a b c x y z : Int32} {w : Int64} (ha : 0 ≤ (f_X6_insists σ a).toInt ∧ (f_X6_insists σ a).toInt ≤ 16) (hb : 0 ≤ (f_X6_insists σ b).toInt ∧ (f_X6_insists σ b).toInt ≤ 16) (hc : 0 ≤ (f_X6_insists σ c).toInt ∧ (f_X6_insists σ c).toInt ≤ 16) (h : f_X6_isEndless σ a b = 0) (ex : x = f_X6_insists σ a) (ey : y = f_X6_insists σ b) (ez : z = f_X6_insists σ c) (ew : w = (4096 : Int64) - ((x * y) * z).toInt64) : 1 ≤ w.toInt ∧ w.toInt ≤ 4096 := by
  have hn : ¬ (f_X6_insists σ a = 16 ∧ f_X6_insists σ b = 16) := by
    rintro ⟨h1, h2⟩
    unfold f_X6_isEndless at h
    dsimp only at h
    rw [if_pos h1, if_pos h2] at h
    exact absurd h (by decide)
  obtain ⟨i, hi, e1⟩ := small_nI (n := 16) ha
  obtain ⟨j, hj, e2⟩ := small_nI (n := 16) hb
  obtain ⟨k, hk, e3⟩ := small_nI (n := 16) hc
  rw [ew, ex, ey, ez]
  rw [e1, e2] at hn
  rw [e1, e2, e3]
  exact whole_k (xy_k i (by omega) j (by omega) hn) k (by omega)
theorem tellsBy_ga {σ : MS} {a b : Int64} (k : Nat) (j : Int32) : ga (f_X6_tellsBy σ a b).1 k j = ga σ k j := by
  unfold f_X6_tellsBy; dsimp only; rw [is_s]; rfl
theorem tellsBy_gb {σ : MS} {a b : Int64} (k : Nat) (j : Int32) : gb (f_X6_tellsBy σ a b).1 k j = gb σ k j := by
  unfold f_X6_tellsBy; dsimp only; rw [is_s]; rfl
theorem tellsBy_gi {σ : MS} {a b : Int64} (k : Nat) (hk : k ≠ 2) : gi (f_X6_tellsBy σ a b).1 k = gi σ k := by
  unfold f_X6_tellsBy; dsimp only; rw [is_s]; show upd _ 2 _ k = _; simp [upd, hk]; rfl
def f_X6_owes (σ : MS) (p1 : Int32) (p2 : Int32) : MS × Int32 := (let r3 := (f_X6_areTwo σ p1 p2); if r3 = (0 : Int32) then ((let z28 := (f_X6_refuse σ (1 : Int32)); let σ28 := z28.1; let r28 := z28.2; (σ28, r28))) else ((let r16 := (f_X6_debtRow p1 p2); let z20 := (f_X6_gives σ (ga σ 0 r16)); let σ20 := z20.1; let r20 := z20.2; (σ20, r20))))
set_option maxHeartbeats 4000000 in
set_option maxRecDepth 100000 in
theorem k_X6_owes (l : Launch) (g : GE) (σ : MS) (p1 : Int32) (p2 : Int32) (hp : 0 ≤ (ga σ 0 (0 : Int32)).toInt ∧ (ga σ 0 (0 : Int32)).toInt ≤ 6) : Met l yX6_owes (ws_ yX6_owes cX6_owes 3 (some .int)) ({ frames := 2, cells := 0, slots := 0, locals := 43 } : Room) (mPc g σ [.int p1, .int p2]) (mQi g (f_X6_owes σ p1 p2).1 (f_X6_owes σ p1 p2).2 (fun u r => ((ga u 0 (0 : Int32)).toInt = (ga σ 0 (0 : Int32)).toInt))) 0 0 (mA g) := by
  refine met_M (by decide) rfl (Nat.le_of_ble_eq_true rfl) ?_
  intro p e s m args below meth c C hr hlocks h ls hl
  have hx := C.1.1
  have hb := C.1.2.1
  have hml := C.1.2.2.1
  have hown := C.1.2.2.2.1
  have hts := C.1.2.2.2.2
  have hl : lv_has ls 3 [(0, .ref (g.2.1 99)), (1, .int p1), (2, .int p2)] := hl
  have hpq : (ga σ 0 (0 : Int32)).toInt = (ga σ 0 (0 : Int32)).toInt := rfl
  have zl0 : (0 : Int32).toInt = 0 := rfl
  have zl1 : (1 : Int32).toInt = 1 := rfl
  have zl6 : (6 : Int32).toInt = 6 := rfl
  have zl92 : (92 : Int32).toInt = 92 := rfl
  refine lv_aload_n hx hb dX6_owes_0 rfl (lv_at hl 0 rfl) ?_
  refine lv_iload_n hx hb dX6_owes_1 rfl (lv_at hl 1 rfl) ?_
  refine lv_iload_n hx hb dX6_owes_2 rfl (lv_at hl 2 rfl) ?_
  refine M_callz (As := [.int p1, .int p2]) (rest := []) 2 C h (k_X6_areTwo l g σ p1 p2) (lw_V q1998 q2000 qs113 q152 q2001) rfl rfl (by decide +kernel) ⟨Nat.le_of_ble_eq_true rfl, Nat.le_of_ble_eq_true rfl⟩ rfl hl.1 rfl (Nat.le_of_ble_eq_true rfl) ⟨Nat.le_of_ble_eq_true rfl, Nat.le_of_ble_eq_true rfl⟩ dX6_owes_3 (fun r3 σ3 H locs eσ3 er3 br3 hE3 h => ?_)
  rw [eσ3] at h
  clear hE3
  clear eσ3
  refine lv_if_eq (tgt := 26) hx hb dX6_owes_6 (by decide) (fun c6 => ?_) (fun c6 => ?_)
  · have i6 := c_eq c6
    refine lv_aload_n hx hb dX6_owes_26 rfl (lv_at hl 0 rfl) ?_
    refine lv_iconst (v := 1) hx hb dX6_owes_27 (by decide) ?_
    refine M_calli (As := [.int (1 : Int32)]) (rest := []) 1 C h (k_X6_refuse l g σ (1 : Int32)) (lw_V q1723 q1725 qs71 q152 q1726) rfl rfl (by decide +kernel) ⟨Nat.le_of_ble_eq_true rfl, Nat.le_of_ble_eq_true rfl⟩ rfl hl.1 rfl (Nat.le_of_ble_eq_true rfl) ⟨Nat.le_of_ble_eq_true rfl, Nat.le_of_ble_eq_true rfl⟩ dX6_owes_28 (fun r28 σ28 H locs eσ28 er28 hE28 h => ?_)
    clear hE28
    have hNEW : (0 ≤ (ga σ28 0 (0 : Int32)).toInt ∧ (ga σ28 0 (0 : Int32)).toInt ≤ 6) ∧ ((ga σ28 0 (0 : Int32)).toInt = (ga σ 0 (0 : Int32)).toInt) := ⟨(by rw [eσ28, refuse_s] <;> exact hp), (by rw [eσ28, refuse_s] <;> exact hpq)⟩
    obtain ⟨hp, hpq⟩ := hNEW
    have he : f_X6_owes σ p1 p2 = (σ28, r28) := (by subst er3; subst eσ28; subst er28; exact ((if_pos c6).trans rfl))
    exact M_reti C h hr hlocks (congrArg Prod.fst he) (congrArg Prod.snd he) hpq dX6_owes_31
  · have i6 := c_ne c6
    have okr3 := areTwo_ok er3 c6
    refine lv_aload_n hx hb dX6_owes_9 rfl (lv_at hl 0 rfl) ?_
    refine lv_aload_n hx hb dX6_owes_10 rfl (lv_at hl 0 rfl) ?_
    refine Mg_0 C h dX6_owes_11 ?_
    refine lv_iload_n hx hb dX6_owes_14 rfl (lv_at hl 1 rfl) ?_
    refine lv_iload_n hx hb dX6_owes_15 rfl (lv_at hl 2 rfl) ?_
    refine s_calli (As := [.int p1, .int p2]) (rest := [.ref (g.2.1 0), .ref (g.2.1 99)]) 2 C.1 (k_X6_debtRow l p1 p2) (lw_S q1970 q1971 q152 q1972) rfl rfl (by decide +kernel) ⟨Nat.le_of_ble_eq_true rfl, Nat.le_of_ble_eq_true rfl⟩ rfl hl.1 rfl (Nat.le_of_ble_eq_true rfl) ⟨Nat.le_of_ble_eq_true rfl, Nat.le_of_ble_eq_true rfl⟩ dX6_owes_16 h.2.2 (fun r16 H locs er16 hz1 hk1 hS1 => ?_)
    have h := h.same hk1 hS1
    clear hz1 hk1 hS1
    have tr16 : r16.toInt = (((92) + ((6) * p1.toInt)) + p2.toInt) := by rw [er16]; exact (i_add (i_add zl92 (i_mul zl6 (rfl : p1.toInt = p1.toInt) (by omega)) (by omega)) (rfl : p2.toInt = p2.toInt) (by omega))
    refine Ml_0 C h (ix_of tr16 (by omega)) dX6_owes_19 ?_
    refine M_calli (As := [.int (ga σ 0 r16)]) (rest := []) 1 C h (k_X6_gives l g σ (ga σ 0 r16)) (lw_V q1806 q1808 qs91 q152 q1809) rfl rfl (by decide +kernel) ⟨Nat.le_of_ble_eq_true rfl, Nat.le_of_ble_eq_true rfl⟩ rfl hl.1 rfl (Nat.le_of_ble_eq_true rfl) ⟨Nat.le_of_ble_eq_true rfl, Nat.le_of_ble_eq_true rfl⟩ dX6_owes_20 (fun r20 σ20 H locs eσ20 er20 hE20 h => ?_)
    clear hE20
    have hNEW : (0 ≤ (ga σ20 0 (0 : Int32)).toInt ∧ (ga σ20 0 (0 : Int32)).toInt ≤ 6) ∧ ((ga σ20 0 (0 : Int32)).toInt = (ga σ 0 (0 : Int32)).toInt) := ⟨(by rw [eσ20, gives_s] <;> exact hp), (by rw [eσ20, gives_s] <;> exact hpq)⟩
    obtain ⟨hp, hpq⟩ := hNEW
    refine lv_goto (tgt := 31) hx hb dX6_owes_23 (by decide) ?_
    have he : f_X6_owes σ p1 p2 = (σ20, r20) := (by subst er3; subst er16; subst eσ20; subst er20; exact ((if_neg c6).trans rfl))
    exact M_reti C h hr hlocks (congrArg Prod.fst he) (congrArg Prod.snd he) hpq dX6_owes_31
