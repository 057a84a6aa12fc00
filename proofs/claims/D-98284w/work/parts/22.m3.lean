/-! walks of methods by contract, printed by gen/mkwalk.py -/
set_option maxRecDepth 100000
def f_X6_regretOf (σ : MS) (p1 : Int32) : Int32 := (let r5 := (f_X6_personRow p1); let r12 := (f_X6_paidByAll σ); let r20 := (f_X6_personRow p1); let r30 := (f_X6_balanceOf σ p1); (((ga σ 0 (r5 + (2 : Int32))) * (r12 - (ga σ 0 (r20 + (5 : Int32))))) - r30))
set_option maxHeartbeats 4000000 in
set_option maxRecDepth 100000 in
theorem k_X6_regretOf (l : Launch) (g : GE) (σ : MS) (p1 : Int32) (hp : 0 ≤ (ga σ 0 (0 : Int32)).toInt ∧ (ga σ 0 (0 : Int32)).toInt ≤ 6) (h1r : 0 ≤ p1.toInt ∧ p1.toInt ≤ 5) : Met l yX6_regretOf (ws_ yX6_regretOf cX6_regretOf 2 (some .int)) ({ frames := 2, cells := 0, slots := 0, locals := 44 } : Room) (mPc g σ [.int p1]) (mQi g σ (f_X6_regretOf σ p1) (fun u r => True)) 0 0 (mA g) := by
  refine met_M (by decide) rfl (Nat.le_of_ble_eq_true rfl) ?_
  intro p e s m args below meth c C hr hlocks h ls hl
  have hx := C.1.1
  have hb := C.1.2.1
  have hml := C.1.2.2.1
  have hown := C.1.2.2.2.1
  have hts := C.1.2.2.2.2
  have hl : lv_has ls 2 [(0, .ref (g.2.1 99)), (1, .int p1)] := hl
  have zl2 : (2 : Int32).toInt = 2 := rfl
  have zl5 : (5 : Int32).toInt = 5 := rfl
  have zl8 : (8 : Int32).toInt = 8 := rfl
  have zl12 : (12 : Int32).toInt = 12 := rfl
  refine lv_aload_n hx hb dX6_regretOf_0 rfl (lv_at hl 0 rfl) ?_
  refine Mg_0 C h dX6_regretOf_1 ?_
  refine lv_iload_n hx hb dX6_regretOf_4 rfl (lv_at hl 1 rfl) ?_
  refine s_calli (As := [.int p1]) (rest := [.ref (g.2.1 0)]) 1 C.1 (k_X6_personRow l p1) (lw_S q1857 q1858 q152 q1859) rfl rfl (by decide +kernel) ⟨Nat.le_of_ble_eq_true rfl, Nat.le_of_ble_eq_true rfl⟩ rfl hl.1 rfl (Nat.le_of_ble_eq_true rfl) ⟨Nat.le_of_ble_eq_true rfl, Nat.le_of_ble_eq_true rfl⟩ dX6_regretOf_5 h.2.2 (fun r5 H locs er5 hz1 hk1 hS1 => ?_)
  have h := h.same hk1 hS1
  clear hz1 hk1 hS1
  have tr5 : r5.toInt = ((12) + ((8) * p1.toInt)) := by rw [er5]; exact (i_add zl12 (i_mul zl8 (rfl : p1.toInt = p1.toInt) (by omega)) (by omega))
  refine lv_iconst (v := 2) hx hb dX6_regretOf_8 (by decide) ?_
  refine lv_iadd hx hb dX6_regretOf_9 ?_
  refine Ml_0 C h (ix_of (i_add tr5 zl2 (by omega)) (by omega)) dX6_regretOf_10 ?_
  refine lv_aload_n hx hb dX6_regretOf_11 rfl (lv_at hl 0 rfl) ?_
  refine M_calli (As := []) (rest := [.int (ga σ 0 (r5 + (2 : Int32)))]) 0 C h (k_X6_paidByAll l g σ (by first | assumption | omega)) (lw_V q1853 q1855 qs100 q152 q1856) rfl rfl (by decide +kernel) ⟨Nat.le_of_ble_eq_true rfl, Nat.le_of_ble_eq_true rfl⟩ rfl hl.1 rfl (Nat.le_of_ble_eq_true rfl) ⟨Nat.le_of_ble_eq_true rfl, Nat.le_of_ble_eq_true rfl⟩ dX6_regretOf_12 (fun r12 σ12 H locs eσ12 er12 hE12 h => ?_)
  rw [eσ12] at h
  clear hE12
  clear eσ12
  refine lv_aload_n hx hb dX6_regretOf_15 rfl (lv_at hl 0 rfl) ?_
  refine Mg_0 C h dX6_regretOf_16 ?_
  refine lv_iload_n hx hb dX6_regretOf_19 rfl (lv_at hl 1 rfl) ?_
  refine s_calli (As := [.int p1]) (rest := [.ref (g.2.1 0), .int r12, .int (ga σ 0 (r5 + (2 : Int32)))]) 1 C.1 (k_X6_personRow l p1) (lw_S q1857 q1858 q152 q1859) rfl rfl (by decide +kernel) ⟨Nat.le_of_ble_eq_true rfl, Nat.le_of_ble_eq_true rfl⟩ rfl hl.1 rfl (Nat.le_of_ble_eq_true rfl) ⟨Nat.le_of_ble_eq_true rfl, Nat.le_of_ble_eq_true rfl⟩ dX6_regretOf_20 h.2.2 (fun r20 H locs er20 hz1 hk1 hS1 => ?_)
  have h := h.same hk1 hS1
  clear hz1 hk1 hS1
  have tr20 : r20.toInt = ((12) + ((8) * p1.toInt)) := by rw [er20]; exact (i_add zl12 (i_mul zl8 (rfl : p1.toInt = p1.toInt) (by omega)) (by omega))
  refine lv_iconst (v := 5) hx hb dX6_regretOf_23 (by decide) ?_
  refine lv_iadd hx hb dX6_regretOf_24 ?_
  refine Ml_0 C h (ix_of (i_add tr20 zl5 (by omega)) (by omega)) dX6_regretOf_25 ?_
  refine lv_isub hx hb dX6_regretOf_26 ?_
  refine lv_imul hx hb dX6_regretOf_27 ?_
  refine lv_aload_n hx hb dX6_regretOf_28 rfl (lv_at hl 0 rfl) ?_
  refine lv_iload_n hx hb dX6_regretOf_29 rfl (lv_at hl 1 rfl) ?_
  refine M_calli (As := [.int p1]) (rest := [.int ((ga σ 0 (r5 + (2 : Int32))) * (r12 - (ga σ 0 (r20 + (5 : Int32)))))]) 1 C h (k_X6_balanceOf l g σ p1 (by first | assumption | omega) (by first | assumption | omega)) (lw_V q1986 q1988 qs112 q152 q1989) rfl rfl (by decide +kernel) ⟨Nat.le_of_ble_eq_true rfl, Nat.le_of_ble_eq_true rfl⟩ rfl hl.1 rfl (Nat.le_of_ble_eq_true rfl) ⟨Nat.le_of_ble_eq_true rfl, Nat.le_of_ble_eq_true rfl⟩ dX6_regretOf_30 (fun r30 σ30 H locs eσ30 er30 hE30 h => ?_)
  rw [eσ30] at h
  clear hE30
  clear eσ30
  refine lv_isub hx hb dX6_regretOf_33 ?_
  have he : f_X6_regretOf σ p1 = (((ga σ 0 (r5 + (2 : Int32))) * (r12 - (ga σ 0 (r20 + (5 : Int32))))) - r30) := (by subst er5; subst er12; subst er20; subst er30; exact rfl)
  exact M_reti C h hr hlocks rfl he trivial dX6_regretOf_34
def f_X6_regret (σ : MS) (p1 : Int32) : MS × Int32 := (let r2 := (f_X6_isPerson σ p1); if r2 = (0 : Int32) then ((let z22 := (f_X6_refuse σ (1 : Int32)); let σ22 := z22.1; let r22 := z22.2; (σ22, r22))) else ((let r11 := (f_X6_regretOf σ p1); let z14 := (f_X6_gives σ r11); let σ14 := z14.1; let r14 := z14.2; (σ14, r14))))
set_option maxHeartbeats 4000000 in
set_option maxRecDepth 100000 in
theorem k_X6_regret (l : Launch) (g : GE) (σ : MS) (p1 : Int32) (hp : 0 ≤ (ga σ 0 (0 : Int32)).toInt ∧ (ga σ 0 (0 : Int32)).toInt ≤ 6) : Met l yX6_regret (ws_ yX6_regret cX6_regret 2 (some .int)) ({ frames := 3, cells := 0, slots := 0, locals := 65 } : Room) (mPc g σ [.int p1]) (mQi g (f_X6_regret σ p1).1 (f_X6_regret σ p1).2 (fun u r => ((ga u 0 (0 : Int32)).toInt = (ga σ 0 (0 : Int32)).toInt))) 0 0 (mA g) := by
  refine met_M (by decide) rfl (Nat.le_of_ble_eq_true rfl) ?_
  intro p e s m args below meth c C hr hlocks h ls hl
  have hx := C.1.1
  have hb := C.1.2.1
  have hml := C.1.2.2.1
  have hown := C.1.2.2.2.1
  have hts := C.1.2.2.2.2
  have hl : lv_has ls 2 [(0, .ref (g.2.1 99)), (1, .int p1)] := hl
  have hpq : (ga σ 0 (0 : Int32)).toInt = (ga σ 0 (0 : Int32)).toInt := rfl
  have zl0 : (0 : Int32).toInt = 0 := rfl
  have zl1 : (1 : Int32).toInt = 1 := rfl
  refine lv_aload_n hx hb dX6_regret_0 rfl (lv_at hl 0 rfl) ?_
  refine lv_iload_n hx hb dX6_regret_1 rfl (lv_at hl 1 rfl) ?_
  refine M_callz (As := [.int p1]) (rest := []) 1 C h (k_X6_isPerson l g σ p1) (lw_V q1864 q1866 qs101 q152 q1867) rfl rfl (by decide +kernel) ⟨Nat.le_of_ble_eq_true rfl, Nat.le_of_ble_eq_true rfl⟩ rfl hl.1 rfl (Nat.le_of_ble_eq_true rfl) ⟨Nat.le_of_ble_eq_true rfl, Nat.le_of_ble_eq_true rfl⟩ dX6_regret_2 (fun r2 σ2 H locs eσ2 er2 br2 hE2 h => ?_)
  rw [eσ2] at h
  clear hE2
  clear eσ2
  refine lv_if_eq (tgt := 20) hx hb dX6_regret_5 (by decide) (fun c5 => ?_) (fun c5 => ?_)
  · have i5 := c_eq c5
    refine lv_aload_n hx hb dX6_regret_20 rfl (lv_at hl 0 rfl) ?_
    refine lv_iconst (v := 1) hx hb dX6_regret_21 (by decide) ?_
    refine M_calli (As := [.int (1 : Int32)]) (rest := []) 1 C h (k_X6_refuse l g σ (1 : Int32)) (lw_V q1723 q1725 qs71 q152 q1726) rfl rfl (by decide +kernel) ⟨Nat.le_of_ble_eq_true rfl, Nat.le_of_ble_eq_true rfl⟩ rfl hl.1 rfl (Nat.le_of_ble_eq_true rfl) ⟨Nat.le_of_ble_eq_true rfl, Nat.le_of_ble_eq_true rfl⟩ dX6_regret_22 (fun r22 σ22 H locs eσ22 er22 hE22 h => ?_)
    clear hE22
    have hNEW : (0 ≤ (ga σ22 0 (0 : Int32)).toInt ∧ (ga σ22 0 (0 : Int32)).toInt ≤ 6) ∧ ((ga σ22 0 (0 : Int32)).toInt = (ga σ 0 (0 : Int32)).toInt) := ⟨(by rw [eσ22, refuse_s] <;> exact hp), (by rw [eσ22, refuse_s] <;> exact hpq)⟩
    obtain ⟨hp, hpq⟩ := hNEW
    have he : f_X6_regret σ p1 = (σ22, r22) := (by subst er2; subst eσ22; subst er22; exact ((if_pos c5).trans rfl))
    exact M_reti C h hr hlocks (congrArg Prod.fst he) (congrArg Prod.snd he) hpq dX6_regret_25
  · have i5 := c_ne c5
    have okr2 := isPerson_ok er2 c5
    refine lv_aload_n hx hb dX6_regret_8 rfl (lv_at hl 0 rfl) ?_
    refine lv_aload_n hx hb dX6_regret_9 rfl (lv_at hl 0 rfl) ?_
    refine lv_iload_n hx hb dX6_regret_10 rfl (lv_at hl 1 rfl) ?_
    refine M_calli (As := [.int p1]) (rest := [.ref (g.2.1 99)]) 1 C h (k_X6_regretOf l g σ p1 (by first | assumption | omega) (by first | assumption | omega)) (lw_V q2048 q2050 qs120 q152 q2051) rfl rfl (by decide +kernel) ⟨Nat.le_of_ble_eq_true rfl, Nat.le_of_ble_eq_true rfl⟩ rfl hl.1 rfl (Nat.le_of_ble_eq_true rfl) ⟨Nat.le_of_ble_eq_true rfl, Nat.le_of_ble_eq_true rfl⟩ dX6_regret_11 (fun r11 σ11 H locs eσ11 er11 hE11 h => ?_)
    rw [eσ11] at h
    clear hE11
    clear eσ11
    refine M_calli (As := [.int r11]) (rest := []) 1 C h (k_X6_gives l g σ r11) (lw_V q1806 q1808 qs91 q152 q1809) rfl rfl (by decide +kernel) ⟨Nat.le_of_ble_eq_true rfl, Nat.le_of_ble_eq_true rfl⟩ rfl hl.1 rfl (Nat.le_of_ble_eq_true rfl) ⟨Nat.le_of_ble_eq_true rfl, Nat.le_of_ble_eq_true rfl⟩ dX6_regret_14 (fun r14 σ14 H locs eσ14 er14 hE14 h => ?_)
    clear hE14
    have hNEW : (0 ≤ (ga σ14 0 (0 : Int32)).toInt ∧ (ga σ14 0 (0 : Int32)).toInt ≤ 6) ∧ ((ga σ14 0 (0 : Int32)).toInt = (ga σ 0 (0 : Int32)).toInt) := ⟨(by rw [eσ14, gives_s] <;> exact hp), (by rw [eσ14, gives_s] <;> exact hpq)⟩
    obtain ⟨hp, hpq⟩ := hNEW
    refine lv_goto (tgt := 25) hx hb dX6_regret_17 (by decide) ?_
    have he : f_X6_regret σ p1 = (σ14, r14) := (by subst er2; subst er11; subst eσ14; subst er14; exact ((if_neg c5).trans rfl))
    exact M_reti C h hr hlocks (congrArg Prod.fst he) (congrArg Prod.snd he) hpq dX6_regret_25
def f_X6_sorest_L4 (σ : MS) : Nat → Int32 → Int32 → Int32 × Int32
  | 0, x1_4, x2_4 => (x1_4, x2_4)
  | n + 1, x1_4, x2_4 => if (ga σ 0 (0 : Int32)) ≤ x2_4 then ((x1_4, x2_4)) else (if x1_4 = (-1 : Int32) then (f_X6_sorest_L4 σ n x2_4 (x2_4 + (1 : Int32))) else ((let r21 := (f_X6_regretOf σ x2_4); let r26 := (f_X6_regretOf σ x1_4); if r21 ≤ r26 then (f_X6_sorest_L4 σ n x1_4 (x2_4 + (1 : Int32))) else (f_X6_sorest_L4 σ n x2_4 (x2_4 + (1 : Int32))))))
def f_X6_sorest (σ : MS) : MS × Int32 := (let zL4 := f_X6_sorest_L4 σ (7) (-1 : Int32) (0 : Int32); let x1_4e := zL4.1; let x2_4e := zL4.2; (let z42 := (f_X6_orNone σ x1_4e); let σ42 := z42.1; let r42 := z42.2; (σ42, r42)))
set_option maxHeartbeats 4000000 in
set_option maxRecDepth 100000 in
theorem k_X6_sorest (l : Launch) (g : GE) (σ : MS) (hp : 0 ≤ (ga σ 0 (0 : Int32)).toInt ∧ (ga σ 0 (0 : Int32)).toInt ≤ 6) : Met l yX6_sorest (ws_ yX6_sorest cX6_sorest 3 (some .int)) ({ frames := 3, cells := 0, slots := 0, locals := 65 } : Room) (mPc g σ []) (mQi g (f_X6_sorest σ).1 (f_X6_sorest σ).2 (fun u r => ((ga u 0 (0 : Int32)).toInt = (ga σ 0 (0 : Int32)).toInt))) 0 0 (mA g) := by
  refine met_M (by decide) rfl (Nat.le_of_ble_eq_true rfl) ?_
  intro p e s m args below meth c C hr hlocks h ls hl
  have hx := C.1.1
  have hb := C.1.2.1
  have hml := C.1.2.2.1
  have hown := C.1.2.2.2.1
  have hts := C.1.2.2.2.2
  have hl : lv_has ls 3 [(0, .ref (g.2.1 99))] := hl
  have hpq : (ga σ 0 (0 : Int32)).toInt = (ga σ 0 (0 : Int32)).toInt := rfl
  have zlm1 : (-1 : Int32).toInt = -1 := rfl
  have zl0 : (0 : Int32).toInt = 0 := rfl
  have zl1 : (1 : Int32).toInt = 1 := rfl
  refine lv_iconst (v := -1) hx hb dX6_sorest_0 (by decide) ?_
  refine lv_istore_n (lv' := [(1, .int (-1 : Int32)), (0, .ref (g.2.1 99))]) hx hb dX6_sorest_1 rfl hl (by decide) rfl (fun ls hl => ?_)
  refine lv_iconst (v := 0) hx hb dX6_sorest_2 (by decide) ?_
  refine lv_istore_n (lv' := [(2, .int (0 : Int32)), (1, .int (-1 : Int32)), (0, .ref (g.2.1 99))]) hx hb dX6_sorest_3 rfl hl (by decide) rfl (fun ls hl => ?_)
  have hL4 : ∀ (n : Nat) (x1_4 : Int32) (x2_4 : Int32) (H : Heap) (locs : List Loc) (ls : Array Slot), (0 ≤ x2_4.toInt ∧ x2_4.toInt ≤ (ga σ 0 (0 : Int32)).toInt ∧ -1 ≤ x1_4.toInt ∧ x1_4.toInt < x2_4.toInt) → ((ga σ 0 (0 : Int32)).toInt - x2_4.toInt).toNat < n → MH g σ s H locs → lv_has ls 3 [(0, .ref (g.2.1 99)), (1, .int x1_4), (2, .int x2_4)] → (∀ (x1_4' : Int32) (x2_4' : Int32) (H : Heap) (locs : List Loc) (ls : Array Slot), f_X6_sorest_L4 σ n x1_4 x2_4 = (x1_4', x2_4') → (0 ≤ x2_4'.toInt ∧ x2_4'.toInt ≤ (ga σ 0 (0 : Int32)).toInt ∧ -1 ≤ x1_4'.toInt ∧ x1_4'.toInt < x2_4'.toInt) → MH g σ s H locs → lv_has ls 3 [(0, .ref (g.2.1 99)), (1, .int x1_4')] → W p l e ({ frames := 3, cells := 0, slots := 0, locals := 65 } : Room) s m args below meth c H locs 0 0 (MQ below (mQi g (f_X6_sorest σ).1 (f_X6_sorest σ).2 (fun u r => ((ga u 0 (0 : Int32)).toInt = (ga σ 0 (0 : Int32)).toInt))) args s 0 0 (mA g)) (F0 m 40 ls [])) → W p l e ({ frames := 3, cells := 0, slots := 0, locals := 65 } : Room) s m args below meth c H locs 0 0 (MQ below (mQi g (f_X6_sorest σ).1 (f_X6_sorest σ).2 (fun u r => ((ga u 0 (0 : Int32)).toInt = (ga σ 0 (0 : Int32)).toInt))) args s 0 0 (mA g)) (F0 m 4 ls []) := by
    intro n
    induction n with
    | zero =>
      intro x1_4 x2_4 H locs ls _ hm; exact absurd hm (Nat.not_lt_zero _)
    | succ n ih =>
      intro x1_4 x2_4 H locs ls hI4 hm h hl kk
      refine lv_iload_n hx hb dX6_sorest_4 rfl (lv_at hl 2 rfl) ?_
      refine lv_aload_n hx hb dX6_sorest_5 rfl (lv_at hl 0 rfl) ?_
      refine Mg_0 C h dX6_sorest_6 ?_
      refine lv_iconst (v := 0) hx hb dX6_sorest_9 (by decide) ?_
      refine Ml_0 C h (ix_of zl0 (by omega)) dX6_sorest_10 ?_
      refine lv_icmp_ge (tgt := 40) hx hb dX6_sorest_11 (by decide) (fun c11 => ?_) (fun c11 => ?_)
      · have i11 := c_le c11
        exact kk x1_4 x2_4 _ _ _ (show f_X6_sorest_L4 σ (n + 1) x1_4 x2_4 = (x1_4, x2_4) from (by exact ((if_pos c11).trans rfl)))  (by first | assumption | omega) h (lv_sub hl [0, 1] rfl)
      · have i11 := c_nle c11
        refine lv_iload_n hx hb dX6_sorest_14 rfl (lv_at hl 1 rfl) ?_
        refine lv_iconst (v := -1) hx hb dX6_sorest_15 (by decide) ?_
        refine lv_icmp_eq (tgt := 32) hx hb dX6_sorest_16 (by decide) (fun c16 => ?_) (fun c16 => ?_)
        · have i16 := c_eq c16
          refine lv_iload_n hx hb dX6_sorest_32 rfl (lv_at hl 2 rfl) ?_
          refine lv_istore_n (lv' := [(1, .int x2_4), (0, .ref (g.2.1 99)), (2, .int x2_4)]) hx hb dX6_sorest_33 rfl hl (by decide) rfl (fun ls hl => ?_)
          refine lv_iinc (v := (x2_4 + (1 : Int32))) (lv' := [(2, .int (x2_4 + (1 : Int32))), (1, .int x2_4), (0, .ref (g.2.1 99))]) hx hb dX6_sorest_34 hl (k := 2) rfl rfl (by decide) rfl (fun ls hl => ?_)
          refine lv_goto (tgt := 4) hx hb dX6_sorest_37 (by decide) ?_
          have tt2 : (x2_4 + (1 : Int32)).toInt = (x2_4.toInt + (1)) := (i_add (rfl : x2_4.toInt = x2_4.toInt) zl1 (by omega))
          exact ih x2_4 (x2_4 + (1 : Int32)) _ _ _  (by first | assumption | omega) (by omega) h (lv_sub hl [2, 1, 0] rfl) (fun x1_4' x2_4' H locs ls en hI h hl => kk x1_4' x2_4' H locs ls ((show f_X6_sorest_L4 σ (n + 1) x1_4 x2_4 = f_X6_sorest_L4 σ n x2_4 (x2_4 + (1 : Int32)) from (by exact ((if_neg c11).trans ((if_pos c16).trans rfl)))).trans en) hI h hl)
        · have i16 := c_ne c16
          refine lv_aload_n hx hb dX6_sorest_19 rfl (lv_at hl 0 rfl) ?_
          refine lv_iload_n hx hb dX6_sorest_20 rfl (lv_at hl 2 rfl) ?_
          refine M_calli (As := [.int x2_4]) (rest := []) 1 C h (k_X6_regretOf l g σ x2_4 (by first | assumption | omega) (by first | assumption | omega)) (lw_V q2048 q2050 qs120 q152 q2051) rfl rfl (by decide +kernel) ⟨Nat.le_of_ble_eq_true rfl, Nat.le_of_ble_eq_true rfl⟩ rfl hl.1 rfl (Nat.le_of_ble_eq_true rfl) ⟨Nat.le_of_ble_eq_true rfl, Nat.le_of_ble_eq_true rfl⟩ dX6_sorest_21 (fun r21 σ21 H locs eσ21 er21 hE21 h => ?_)
          rw [eσ21] at h
          clear hE21
          clear eσ21
          refine lv_aload_n hx hb dX6_sorest_24 rfl (lv_at hl 0 rfl) ?_
          refine lv_iload_n hx hb dX6_sorest_25 rfl (lv_at hl 1 rfl) ?_
          refine M_calli (As := [.int x1_4]) (rest := [.int r21]) 1 C h (k_X6_regretOf l g σ x1_4 (by first | assumption | omega) (by first | assumption | omega)) (lw_V q2048 q2050 qs120 q152 q2051) rfl rfl (by decide +kernel) ⟨Nat.le_of_ble_eq_true rfl, Nat.le_of_ble_eq_true rfl⟩ rfl hl.1 rfl (Nat.le_of_ble_eq_true rfl) ⟨Nat.le_of_ble_eq_true rfl, Nat.le_of_ble_eq_true rfl⟩ dX6_sorest_26 (fun r26 σ26 H locs eσ26 er26 hE26 h => ?_)
          rw [eσ26] at h
          clear hE26
          clear eσ26
          refine lv_icmp_le (tgt := 34) hx hb dX6_sorest_29 (by decide) (fun c29 => ?_) (fun c29 => ?_)
          · have i29 := c_le c29
            refine lv_iinc (v := (x2_4 + (1 : Int32))) (lv' := [(2, .int (x2_4 + (1 : Int32))), (0, .ref (g.2.1 99)), (1, .int x1_4)]) hx hb dX6_sorest_34 hl (k := 2) rfl rfl (by decide) rfl (fun ls hl => ?_)
            refine lv_goto (tgt := 4) hx hb dX6_sorest_37 (by decide) ?_
            have tt2 : (x2_4 + (1 : Int32)).toInt = (x2_4.toInt + (1)) := (i_add (rfl : x2_4.toInt = x2_4.toInt) zl1 (by omega))
            exact ih x1_4 (x2_4 + (1 : Int32)) _ _ _  (by first | assumption | omega) (by omega) h (lv_sub hl [1, 2, 0] rfl) (fun x1_4' x2_4' H locs ls en hI h hl => kk x1_4' x2_4' H locs ls ((show f_X6_sorest_L4 σ (n + 1) x1_4 x2_4 = f_X6_sorest_L4 σ n x1_4 (x2_4 + (1 : Int32)) from (by subst er21; subst er26; exact ((if_neg c11).trans ((if_neg c16).trans ((if_pos c29).trans rfl))))).trans en) hI h hl)
          · have i29 := c_nle c29
            refine lv_iload_n hx hb dX6_sorest_32 rfl (lv_at hl 2 rfl) ?_
            refine lv_istore_n (lv' := [(1, .int x2_4), (0, .ref (g.2.1 99)), (2, .int x2_4)]) hx hb dX6_sorest_33 rfl hl (by decide) rfl (fun ls hl => ?_)
            refine lv_iinc (v := (x2_4 + (1 : Int32))) (lv' := [(2, .int (x2_4 + (1 : Int32))), (1, .int x2_4), (0, .ref (g.2.1 99))]) hx hb dX6_sorest_34 hl (k := 2) rfl rfl (by decide) rfl (fun ls hl => ?_)
            refine lv_goto (tgt := 4) hx hb dX6_sorest_37 (by decide) ?_
            have tt2 : (x2_4 + (1 : Int32)).toInt = (x2_4.toInt + (1)) := (i_add (rfl : x2_4.toInt = x2_4.toInt) zl1 (by omega))
            exact ih x2_4 (x2_4 + (1 : Int32)) _ _ _  (by first | assumption | omega) (by omega) h (lv_sub hl [2, 1, 0] rfl) (fun x1_4' x2_4' H locs ls en hI h hl => kk x1_4' x2_4' H locs ls ((show f_X6_sorest_L4 σ (n + 1) x1_4 x2_4 = f_X6_sorest_L4 σ n x2_4 (x2_4 + (1 : Int32)) from (by subst er21; subst er26; exact ((if_neg c11).trans ((if_neg c16).trans ((if_neg c29).trans rfl))))).trans en) hI h hl)
  refine hL4 (7) (-1 : Int32) (0 : Int32) _ _ _  (by first | assumption | omega) (by omega) h (lv_sub hl [2, 1, 0] rfl) (fun x1_4e x2_4e H locs ls eL4 hI4 h hl => ?_)
  have ex1_4e : x1_4e = (f_X6_sorest_L4 σ (7) (-1 : Int32) (0 : Int32)).1 := by rw [eL4]
  have ex2_4e : x2_4e = (f_X6_sorest_L4 σ (7) (-1 : Int32) (0 : Int32)).2 := by rw [eL4]
  refine lv_aload_n hx hb dX6_sorest_40 rfl (lv_at hl 0 rfl) ?_
  refine lv_iload_n hx hb dX6_sorest_41 rfl (lv_at hl 1 rfl) ?_
  refine M_calli (As := [.int x1_4e]) (rest := []) 1 C h (k_X6_orNone l g σ x1_4e) (lw_V q1868 q1870 qs102 q152 q1871) rfl rfl (by decide +kernel) ⟨Nat.le_of_ble_eq_true rfl, Nat.le_of_ble_eq_true rfl⟩ rfl hl.1 rfl (Nat.le_of_ble_eq_true rfl) ⟨Nat.le_of_ble_eq_true rfl, Nat.le_of_ble_eq_true rfl⟩ dX6_sorest_42 (fun r42 σ42 H locs eσ42 er42 hE42 h => ?_)
  clear hE42
  have hNEW : (0 ≤ (ga σ42 0 (0 : Int32)).toInt ∧ (ga σ42 0 (0 : Int32)).toInt ≤ 6) ∧ ((ga σ42 0 (0 : Int32)).toInt = (ga σ 0 (0 : Int32)).toInt) := ⟨(by rw [eσ42, orNone_s] <;> exact hp), (by rw [eσ42, orNone_s] <;> exact hpq)⟩
  obtain ⟨hp, hpq⟩ := hNEW
  have he : f_X6_sorest σ = (σ42, r42) := (by subst ex1_4e; subst ex2_4e; subst eσ42; subst er42; exact rfl)
  exact M_reti C h hr hlocks (congrArg Prod.fst he) (congrArg Prod.snd he) hpq dX6_sorest_45
def f_X6_lends (σ : MS) (p1 : Int32) (p2 : Int32) (p3 : Int32) : MS × Int32 := (let r6 := (f_X6_debtRow p2 p1); if ((ga σ 0 r6) + p3) ≤ (999999 : Int32) then ((let r26 := (f_X6_debtRow p2 p1); let σ33 := sa σ 0 r26 ((ga σ 0 r26) + p3); (σ33, (1 : Int32)))) else ((σ, (0 : Int32))))
set_option maxHeartbeats 4000000 in
set_option maxRecDepth 100000 in
theorem k_X6_lends (l : Launch) (g : GE) (σ : MS) (p1 : Int32) (p2 : Int32) (p3 : Int32) (hp : 0 ≤ (ga σ 0 (0 : Int32)).toInt ∧ (ga σ 0 (0 : Int32)).toInt ≤ 6) (hd : 0 ≤ (ga σ 0 (2 : Int32)).toInt ∧ (ga σ 0 (2 : Int32)).toInt ≤ 16) (h1r : 0 ≤ p1.toInt ∧ p1.toInt ≤ 5) (h2r : 0 ≤ p2.toInt ∧ p2.toInt ≤ 5) : Met l yX6_lends (ws_ yX6_lends cX6_lends 4 (some .boolean)) ({ frames := 1, cells := 0, slots := 0, locals := 21 } : Room) (mPc g σ [.int p1, .int p2, .int p3]) (mQz g (f_X6_lends σ p1 p2 p3).1 (f_X6_lends σ p1 p2 p3).2 (fun u r => ((ga u 0 (0 : Int32)).toInt = (ga σ 0 (0 : Int32)).toInt) ∧ ((ga u 0 (2 : Int32)).toInt = (ga σ 0 (2 : Int32)).toInt) ∧ (∀ j : Int32, 130 ≤ j.toInt → ga u 0 j = ga σ 0 j) ∧ ((gi u 29).toInt = (gi σ 29).toInt) ∧ ((ga u 0 (9 : Int32)).toInt = (ga σ 0 (9 : Int32)).toInt) ∧ (∀ x : Int32, (0 ≤ x.toInt ∧ x.toInt ≤ 5) → ga u 0 ((f_X6_personRow x) + (1 : Int32)) = ga σ 0 ((f_X6_personRow x) + (1 : Int32))) ∧ ((gi u 28).toInt = (gi σ 28).toInt) ∧ (MFr σ u))) 0 0 (mA g) := by
  refine met_M (by decide) rfl (Nat.le_of_ble_eq_true rfl) ?_
  intro p e s m args below meth c C hr hlocks h ls hl
  have hx := C.1.1
  have hb := C.1.2.1
  have hml := C.1.2.2.1
  have hown := C.1.2.2.2.1
  have hts := C.1.2.2.2.2
  have hl : lv_has ls 4 [(0, .ref (g.2.1 99)), (1, .int p1), (2, .int p2), (3, .int p3)] := hl
  have hpq : (ga σ 0 (0 : Int32)).toInt = (ga σ 0 (0 : Int32)).toInt := rfl
  have hdq : (ga σ 0 (2 : Int32)).toInt = (ga σ 0 (2 : Int32)).toInt := rfl
  have hY : ∀ j : Int32, 130 ≤ j.toInt → ga σ 0 j = ga σ 0 j := fun _ _ => rfl
  have hrq : (gi σ 29).toInt = (gi σ 29).toInt := rfl
  have hsq : (ga σ 0 (9 : Int32)).toInt = (ga σ 0 (9 : Int32)).toInt := rfl
  have hQq : ∀ x : Int32, (0 ≤ x.toInt ∧ x.toInt ≤ 5) → ga σ 0 ((f_X6_personRow x) + (1 : Int32)) = ga σ 0 ((f_X6_personRow x) + (1 : Int32)) := fun _ _ => rfl
  have hdq28 : (gi σ 28).toInt = (gi σ 28).toInt := rfl
  have hLF : MFr σ σ := Fr.rf
  have zl0 : (0 : Int32).toInt = 0 := rfl
  have zl1 : (1 : Int32).toInt = 1 := rfl
  have zl2 : (2 : Int32).toInt = 2 := rfl
  have zl6 : (6 : Int32).toInt = 6 := rfl
  have zl9 : (9 : Int32).toInt = 9 := rfl
  have zl92 : (92 : Int32).toInt = 92 := rfl
  have zl999999 : (999999 : Int32).toInt = 999999 := rfl
  refine lv_aload_n hx hb dX6_lends_0 rfl (lv_at hl 0 rfl) ?_
  refine Mg_0 C h dX6_lends_1 ?_
  refine lv_iload_n hx hb dX6_lends_4 rfl (lv_at hl 2 rfl) ?_
  refine lv_iload_n hx hb dX6_lends_5 rfl (lv_at hl 1 rfl) ?_
  refine s_calli (As := [.int p2, .int p1]) (rest := [.ref (g.2.1 0)]) 2 C.1 (k_X6_debtRow l p2 p1) (lw_S q1970 q1971 q152 q1972) rfl rfl (by decide +kernel) ⟨Nat.le_of_ble_eq_true rfl, Nat.le_of_ble_eq_true rfl⟩ rfl hl.1 rfl (Nat.le_of_ble_eq_true rfl) ⟨Nat.le_of_ble_eq_true rfl, Nat.le_of_ble_eq_true rfl⟩ dX6_lends_6 h.2.2 (fun r6 H locs er6 hz1 hk1 hS1 => ?_)
  have h := h.same hk1 hS1
  clear hz1 hk1 hS1
  have tr6 : r6.toInt = (((92) + ((6) * p2.toInt)) + p1.toInt) := by rw [er6]; exact (i_add (i_add zl92 (i_mul zl6 (rfl : p2.toInt = p2.toInt) (by omega)) (by omega)) (rfl : p1.toInt = p1.toInt) (by omega))
  refine Ml_0 C h (ix_of tr6 (by omega)) dX6_lends_9 ?_
  refine lv_iload_n hx hb dX6_lends_10 rfl (lv_at hl 3 rfl) ?_
  refine lv_iadd hx hb dX6_lends_11 ?_
  refine lv_ldcw hx hb hown (hts _ q1973) dX6_lends_12 ?_
  refine lv_icmp_le (tgt := 20) hx hb dX6_lends_15 (by decide) (fun c15 => ?_) (fun c15 => ?_)
  · have i15 := c_le c15
    refine lv_aload_n hx hb dX6_lends_20 rfl (lv_at hl 0 rfl) ?_
    refine Mg_0 C h dX6_lends_21 ?_
    refine lv_iload_n hx hb dX6_lends_24 rfl (lv_at hl 2 rfl) ?_
    refine lv_iload_n hx hb dX6_lends_25 rfl (lv_at hl 1 rfl) ?_
    refine s_calli (As := [.int p2, .int p1]) (rest := [.ref (g.2.1 0)]) 2 C.1 (k_X6_debtRow l p2 p1) (lw_S q1970 q1971 q152 q1972) rfl rfl (by decide +kernel) ⟨Nat.le_of_ble_eq_true rfl, Nat.le_of_ble_eq_true rfl⟩ rfl hl.1 rfl (Nat.le_of_ble_eq_true rfl) ⟨Nat.le_of_ble_eq_true rfl, Nat.le_of_ble_eq_true rfl⟩ dX6_lends_26 h.2.2 (fun r26 H locs er26 hz1 hk1 hS1 => ?_)
    have h := h.same hk1 hS1
    clear hz1 hk1 hS1
    have tr26 : r26.toInt = (((92) + ((6) * p2.toInt)) + p1.toInt) := by rw [er26]; exact (i_add (i_add zl92 (i_mul zl6 (rfl : p2.toInt = p2.toInt) (by omega)) (by omega)) (rfl : p1.toInt = p1.toInt) (by omega))
    refine lv_dup2_11 hx hb dX6_lends_29 rfl rfl ?_
    refine Ml_0 C h (ix_of tr26 (by omega)) dX6_lends_30 ?_
    refine lv_iload_n hx hb dX6_lends_31 rfl (lv_at hl 3 rfl) ?_
    refine lv_iadd hx hb dX6_lends_32 ?_
    refine Ms_0 C h (ix_of tr26 (by omega)) dX6_lends_33 (fun σ33 H locs eσ33 h => ?_)
    have hNEW : (0 ≤ (ga σ33 0 (0 : Int32)).toInt ∧ (ga σ33 0 (0 : Int32)).toInt ≤ 6) ∧ (0 ≤ (ga σ33 0 (2 : Int32)).toInt ∧ (ga σ33 0 (2 : Int32)).toInt ≤ 16) ∧ ((ga σ33 0 (0 : Int32)).toInt = (ga σ 0 (0 : Int32)).toInt) ∧ ((ga σ33 0 (2 : Int32)).toInt = (ga σ 0 (2 : Int32)).toInt) ∧ (∀ j : Int32, 130 ≤ j.toInt → ga σ33 0 j = ga σ 0 j) ∧ ((gi σ33 29).toInt = (gi σ 29).toInt) ∧ ((ga σ33 0 (9 : Int32)).toInt = (ga σ 0 (9 : Int32)).toInt) ∧ (∀ x : Int32, (0 ≤ x.toInt ∧ x.toInt ≤ 5) → ga σ33 0 ((f_X6_personRow x) + (1 : Int32)) = ga σ 0 ((f_X6_personRow x) + (1 : Int32))) ∧ ((gi σ33 28).toInt = (gi σ 28).toInt) ∧ (MFr σ σ33) := ⟨(by rw [eσ33, ga_sa_ne (j := (0 : Int32)) tr26 zl0 (by omega)] <;> exact hp), (by rw [eσ33, ga_sa_ne (j := (2 : Int32)) tr26 zl2 (by omega)] <;> exact hd), (by rw [eσ33, ga_sa_ne (j := (0 : Int32)) tr26 zl0 (by omega)] <;> exact hpq), (by rw [eσ33, ga_sa_ne (j := (2 : Int32)) tr26 zl2 (by omega)] <;> exact hdq), (by rw [eσ33]; exact hY_sa tr26 (by omega) hY), (by rw [eσ33, ] <;> exact hrq), (by rw [eσ33, ga_sa_ne (j := (9 : Int32)) tr26 zl9 (by omega)] <;> exact hsq), (by rw [eσ33]; exact hQ_sa tr26 (by omega) hQq), (by rw [eσ33, ] <;> exact hdq28), (by rw [eσ33]; exact (Fr_sa tr26 (by first | omega | (dsimp only; omega)) (by omega) hLF))⟩
    obtain ⟨hp, hd, hpq, hdq, hY, hrq, hsq, hQq, hdq28, hLF⟩ := hNEW
    refine lv_iconst (v := 1) hx hb dX6_lends_34 (by decide) ?_
    have he : f_X6_lends σ p1 p2 p3 = (σ33, (1 : Int32)) := (by subst er6; subst er26; subst eσ33; exact ((if_pos c15).trans rfl))
    exact M_retz C h hr hlocks (congrArg Prod.fst he) (congrArg Prod.snd he) (Or.inr rfl) ⟨hpq, hdq, hY, hrq, hsq, hQq, hdq28, hLF⟩ dX6_lends_35
  · have i15 := c_nle c15
    refine lv_iconst (v := 0) hx hb dX6_lends_18 (by decide) ?_
    have he : f_X6_lends σ p1 p2 p3 = (σ, (0 : Int32)) := (by subst er6; exact ((if_neg c15).trans rfl))
    exact M_retz C h hr hlocks (congrArg Prod.fst he) (congrArg Prod.snd he) (Or.inl rfl) ⟨hpq, hdq, hY, hrq, hsq, hQq, hdq28, hLF⟩ dX6_lends_19
def f_X6_lend (σ : MS) (p1 : Int32) (p2 : Int32) (p3 : Int32) : MS × Int32 := (let r3 := (f_X6_areTwo σ p1 p2); if r3 = (0 : Int32) then ((let z23 := (f_X6_refuse σ (1 : Int32)); let σ23 := z23.1; let r23 := z23.2; (σ23, r23))) else ((let r15 := (f_X6_isFrom p3.toInt64 (1 : Int64) (9999 : Int64)); if r15 = (0 : Int32) then ((let z23 := (f_X6_refuse σ (1 : Int32)); let σ23 := z23.1; let r23 := z23.2; (σ23, r23))) else ((let z31 := (f_X6_lends σ p1 p2 p3); let σ31 := z31.1; let r31 := z31.2; if r31 = (0 : Int32) then ((let z57 := (f_X6_refuse σ31 (7 : Int32)); let σ57 := z57.1; let r57 := z57.2; (σ57, r57))) else ((let r44 := (f_X6_debtRow p2 p1); let z48 := (f_X6_gives σ31 (ga σ31 0 r44)); let σ48 := z48.1; let r48 := z48.2; (σ48, r48))))))))
set_option maxHeartbeats 4000000 in
set_option maxRecDepth 100000 in
theorem k_X6_lend (l : Launch) (g : GE) (σ : MS) (p1 : Int32) (p2 : Int32) (p3 : Int32) (hp : 0 ≤ (ga σ 0 (0 : Int32)).toInt ∧ (ga σ 0 (0 : Int32)).toInt ≤ 6) (hd : 0 ≤ (ga σ 0 (2 : Int32)).toInt ∧ (ga σ 0 (2 : Int32)).toInt ≤ 16) : Met l yX6_lend (ws_ yX6_lend cX6_lend 4 (some .int)) ({ frames := 2, cells := 0, slots := 0, locals := 44 } : Room) (mPc g σ [.int p1, .int p2, .int p3]) (mQi g (f_X6_lend σ p1 p2 p3).1 (f_X6_lend σ p1 p2 p3).2 (fun u r => ((ga u 0 (0 : Int32)).toInt = (ga σ 0 (0 : Int32)).toInt) ∧ ((ga u 0 (2 : Int32)).toInt = (ga σ 0 (2 : Int32)).toInt) ∧ (MFr σ u))) 0 0 (mA g) := by
  refine met_M (by decide) rfl (Nat.le_of_ble_eq_true rfl) ?_
  intro p e s m args below meth c C hr hlocks h ls hl
  have hx := C.1.1
  have hb := C.1.2.1
  have hml := C.1.2.2.1
  have hown := C.1.2.2.2.1
  have hts := C.1.2.2.2.2
  have hl : lv_has ls 4 [(0, .ref (g.2.1 99)), (1, .int p1), (2, .int p2), (3, .int p3)] := hl
  have hpq : (ga σ 0 (0 : Int32)).toInt = (ga σ 0 (0 : Int32)).toInt := rfl
  have hdq : (ga σ 0 (2 : Int32)).toInt = (ga σ 0 (2 : Int32)).toInt := rfl
  have hLF : MFr σ σ := Fr.rf
  have zl0 : (0 : Int32).toInt = 0 := rfl
  have zl1 : (1 : Int32).toInt = 1 := rfl
  have zl6 : (6 : Int32).toInt = 6 := rfl
  have zl7 : (7 : Int32).toInt = 7 := rfl
  have zl92 : (92 : Int32).toInt = 92 := rfl
  refine lv_aload_n hx hb dX6_lend_0 rfl (lv_at hl 0 rfl) ?_
  refine lv_iload_n hx hb dX6_lend_1 rfl (lv_at hl 1 rfl) ?_
  refine lv_iload_n hx hb dX6_lend_2 rfl (lv_at hl 2 rfl) ?_
  refine M_callz (As := [.int p1, .int p2]) (rest := []) 2 C h (k_X6_areTwo l g σ p1 p2) (lw_V q1998 q2000 qs113 q152 q2001) rfl rfl (by decide +kernel) ⟨Nat.le_of_ble_eq_true rfl, Nat.le_of_ble_eq_true rfl⟩ rfl hl.1 rfl (Nat.le_of_ble_eq_true rfl) ⟨Nat.le_of_ble_eq_true rfl, Nat.le_of_ble_eq_true rfl⟩ dX6_lend_3 (fun r3 σ3 H locs eσ3 er3 br3 hE3 h => ?_)
  rw [eσ3] at h
  clear hE3
  clear eσ3
  refine lv_if_eq (tgt := 21) hx hb dX6_lend_6 (by decide) (fun c6 => ?_) (fun c6 => ?_)
  · have i6 := c_eq c6
    refine lv_aload_n hx hb dX6_lend_21 rfl (lv_at hl 0 rfl) ?_
    refine lv_iconst (v := 1) hx hb dX6_lend_22 (by decide) ?_
    refine M_calli (As := [.int (1 : Int32)]) (rest := []) 1 C h (k_X6_refuse l g σ (1 : Int32)) (lw_V q1723 q1725 qs71 q152 q1726) rfl rfl (by decide +kernel) ⟨Nat.le_of_ble_eq_true rfl, Nat.le_of_ble_eq_true rfl⟩ rfl hl.1 rfl (Nat.le_of_ble_eq_true rfl) ⟨Nat.le_of_ble_eq_true rfl, Nat.le_of_ble_eq_true rfl⟩ dX6_lend_23 (fun r23 σ23 H locs eσ23 er23 hE23 h => ?_)
    clear hE23
    have hNEW : (0 ≤ (ga σ23 0 (0 : Int32)).toInt ∧ (ga σ23 0 (0 : Int32)).toInt ≤ 6) ∧ (0 ≤ (ga σ23 0 (2 : Int32)).toInt ∧ (ga σ23 0 (2 : Int32)).toInt ≤ 16) ∧ ((ga σ23 0 (0 : Int32)).toInt = (ga σ 0 (0 : Int32)).toInt) ∧ ((ga σ23 0 (2 : Int32)).toInt = (ga σ 0 (2 : Int32)).toInt) ∧ (MFr σ σ23) := ⟨(by rw [eσ23, refuse_s] <;> exact hp), (by rw [eσ23, refuse_s] <;> exact hd), (by rw [eσ23, refuse_s] <;> exact hpq), (by rw [eσ23, refuse_s] <;> exact hdq), (by rw [eσ23, refuse_s]; exact Fr_si (by decide) hLF)⟩
    obtain ⟨hp, hd, hpq, hdq, hLF⟩ := hNEW
    have he : f_X6_lend σ p1 p2 p3 = (σ23, r23) := (by subst er3; subst eσ23; subst er23; exact ((if_pos c6).trans rfl))
    exact M_reti C h hr hlocks (congrArg Prod.fst he) (congrArg Prod.snd he) ⟨hpq, hdq, hLF⟩ dX6_lend_26
  · have i6 := c_ne c6
    have okr3 := areTwo_ok er3 c6
    refine lv_iload_n hx hb dX6_lend_9 rfl (lv_at hl 3 rfl) ?_
    refine lv_i2l (v := p3.toInt64) hx hb dX6_lend_10 rfl ?_
    refine lv_lconst (v := 1) hx hb dX6_lend_11 (by decide) ?_
    refine lv_ldc2 hx hb hown (hts _ q1956) dX6_lend_12 ?_
    refine s_callz (As := [.long p3.toInt64, .long (1 : Int64), .long (9999 : Int64)]) (rest := []) 3 C.1 (k_X6_isFrom l p3.toInt64 (1 : Int64) (9999 : Int64)) (lw_S q1936 q1937 q152 q1938) rfl rfl (by decide +kernel) ⟨Nat.le_of_ble_eq_true rfl, Nat.le_of_ble_eq_true rfl⟩ rfl hl.1 rfl (Nat.le_of_ble_eq_true rfl) ⟨Nat.le_of_ble_eq_true rfl, Nat.le_of_ble_eq_true rfl⟩ dX6_lend_15 h.2.2 (fun r15 H locs er15 br15 hz1 hk1 hS1 => ?_)
    have h := h.same hk1 hS1
    clear hz1 hk1 hS1
    refine lv_if_ne (tgt := 27) hx hb dX6_lend_18 (by decide) (fun c18 => ?_) (fun c18 => ?_)
    · have i18 := c_ne c18
      have okr15 := isFrom_ok er15 c18
      refine lv_aload_n hx hb dX6_lend_27 rfl (lv_at hl 0 rfl) ?_
      refine lv_iload_n hx hb dX6_lend_28 rfl (lv_at hl 1 rfl) ?_
      refine lv_iload_n hx hb dX6_lend_29 rfl (lv_at hl 2 rfl) ?_
      refine lv_iload_n hx hb dX6_lend_30 rfl (lv_at hl 3 rfl) ?_
      refine M_callz (As := [.int p1, .int p2, .int p3]) (rest := []) 3 C h (k_X6_lends l g σ p1 p2 p3 (by first | assumption | omega) (by first | assumption | omega) (by first | assumption | omega) (by first | assumption | omega)) (lw_V q2064 q2066 qs121 q152 q2067) rfl rfl (by decide +kernel) ⟨Nat.le_of_ble_eq_true rfl, Nat.le_of_ble_eq_true rfl⟩ rfl hl.1 rfl (Nat.le_of_ble_eq_true rfl) ⟨Nat.le_of_ble_eq_true rfl, Nat.le_of_ble_eq_true rfl⟩ dX6_lend_31 (fun r31 σ31 H locs eσ31 er31 br31 hE31 h => ?_)
      have hE31 : ((ga σ31 0 (0 : Int32)).toInt = (ga σ 0 (0 : Int32)).toInt) ∧ ((ga σ31 0 (2 : Int32)).toInt = (ga σ 0 (2 : Int32)).toInt) ∧ (∀ j : Int32, 130 ≤ j.toInt → ga σ31 0 j = ga σ 0 j) ∧ ((gi σ31 29).toInt = (gi σ 29).toInt) ∧ ((ga σ31 0 (9 : Int32)).toInt = (ga σ 0 (9 : Int32)).toInt) ∧ (∀ x : Int32, (0 ≤ x.toInt ∧ x.toInt ≤ 5) → ga σ31 0 ((f_X6_personRow x) + (1 : Int32)) = ga σ 0 ((f_X6_personRow x) + (1 : Int32))) ∧ ((gi σ31 28).toInt = (gi σ 28).toInt) ∧ (MFr σ σ31) := hE31
      obtain ⟨hpq_31, hdq_31, hY_31, hrq_31, hsq_31, hQq_31, hdq28_31, hLF_31⟩ := hE31
      have hNEW : (0 ≤ (ga σ31 0 (0 : Int32)).toInt ∧ (ga σ31 0 (0 : Int32)).toInt ≤ 6) ∧ (0 ≤ (ga σ31 0 (2 : Int32)).toInt ∧ (ga σ31 0 (2 : Int32)).toInt ≤ 16) ∧ ((ga σ31 0 (0 : Int32)).toInt = (ga σ 0 (0 : Int32)).toInt) ∧ ((ga σ31 0 (2 : Int32)).toInt = (ga σ 0 (2 : Int32)).toInt) ∧ (MFr σ σ31) := ⟨(by first | assumption | omega), (by first | assumption | omega), (by first | assumption | omega), (by first | assumption | omega), (Fr.tr hLF hLF_31)⟩
      obtain ⟨hp, hd, hpq, hdq, hLF⟩ := hNEW
      refine lv_if_eq (tgt := 54) hx hb dX6_lend_34 (by decide) (fun c34 => ?_) (fun c34 => ?_)
      · have i34 := c_eq c34
        refine lv_aload_n hx hb dX6_lend_54 rfl (lv_at hl 0 rfl) ?_
        refine lv_bipush (v := 7) hx hb dX6_lend_55 (by decide) ?_
        refine M_calli (As := [.int (7 : Int32)]) (rest := []) 1 C h (k_X6_refuse l g σ31 (7 : Int32)) (lw_V q1723 q1725 qs71 q152 q1726) rfl rfl (by decide +kernel) ⟨Nat.le_of_ble_eq_true rfl, Nat.le_of_ble_eq_true rfl⟩ rfl hl.1 rfl (Nat.le_of_ble_eq_true rfl) ⟨Nat.le_of_ble_eq_true rfl, Nat.le_of_ble_eq_true rfl⟩ dX6_lend_57 (fun r57 σ57 H locs eσ57 er57 hE57 h => ?_)
        clear hE57
        have hNEW : (0 ≤ (ga σ57 0 (0 : Int32)).toInt ∧ (ga σ57 0 (0 : Int32)).toInt ≤ 6) ∧ (0 ≤ (ga σ57 0 (2 : Int32)).toInt ∧ (ga σ57 0 (2 : Int32)).toInt ≤ 16) ∧ ((ga σ57 0 (0 : Int32)).toInt = (ga σ 0 (0 : Int32)).toInt) ∧ ((ga σ57 0 (2 : Int32)).toInt = (ga σ 0 (2 : Int32)).toInt) ∧ (MFr σ σ57) := ⟨(by rw [eσ57, refuse_s] <;> exact hp), (by rw [eσ57, refuse_s] <;> exact hd), (by rw [eσ57, refuse_s] <;> exact hpq), (by rw [eσ57, refuse_s] <;> exact hdq), (by rw [eσ57, refuse_s]; exact Fr_si (by decide) hLF)⟩
        clear hp hd hpq hdq hLF
        obtain ⟨hp, hd, hpq, hdq, hLF⟩ := hNEW
        have he : f_X6_lend σ p1 p2 p3 = (σ57, r57) := (by subst er3; subst er15; subst eσ31; subst er31; subst eσ57; subst er57; exact ((if_neg c6).trans ((if_neg c18).trans ((if_pos c34).trans rfl))))
        exact M_reti C h hr hlocks (congrArg Prod.fst he) (congrArg Prod.snd he) ⟨hpq, hdq, hLF⟩ dX6_lend_60
      · have i34 := c_ne c34
        refine lv_aload_n hx hb dX6_lend_37 rfl (lv_at hl 0 rfl) ?_
        refine lv_aload_n hx hb dX6_lend_38 rfl (lv_at hl 0 rfl) ?_
        refine Mg_0 C h dX6_lend_39 ?_
        refine lv_iload_n hx hb dX6_lend_42 rfl (lv_at hl 2 rfl) ?_
        refine lv_iload_n hx hb dX6_lend_43 rfl (lv_at hl 1 rfl) ?_
        refine s_calli (As := [.int p2, .int p1]) (rest := [.ref (g.2.1 0), .ref (g.2.1 99)]) 2 C.1 (k_X6_debtRow l p2 p1) (lw_S q1970 q1971 q152 q1972) rfl rfl (by decide +kernel) ⟨Nat.le_of_ble_eq_true rfl, Nat.le_of_ble_eq_true rfl⟩ rfl hl.1 rfl (Nat.le_of_ble_eq_true rfl) ⟨Nat.le_of_ble_eq_true rfl, Nat.le_of_ble_eq_true rfl⟩ dX6_lend_44 h.2.2 (fun r44 H locs er44 hz1 hk1 hS1 => ?_)
        have h := h.same hk1 hS1
        clear hz1 hk1 hS1
        have tr44 : r44.toInt = (((92) + ((6) * p2.toInt)) + p1.toInt) := by rw [er44]; exact (i_add (i_add zl92 (i_mul zl6 (rfl : p2.toInt = p2.toInt) (by omega)) (by omega)) (rfl : p1.toInt = p1.toInt) (by omega))
        refine Ml_0 C h (ix_of tr44 (by omega)) dX6_lend_47 ?_
        refine M_calli (As := [.int (ga σ31 0 r44)]) (rest := []) 1 C h (k_X6_gives l g σ31 (ga σ31 0 r44)) (lw_V q1806 q1808 qs91 q152 q1809) rfl rfl (by decide +kernel) ⟨Nat.le_of_ble_eq_true rfl, Nat.le_of_ble_eq_true rfl⟩ rfl hl.1 rfl (Nat.le_of_ble_eq_true rfl) ⟨Nat.le_of_ble_eq_true rfl, Nat.le_of_ble_eq_true rfl⟩ dX6_lend_48 (fun r48 σ48 H locs eσ48 er48 hE48 h => ?_)
        clear hE48
        have hNEW : (0 ≤ (ga σ48 0 (0 : Int32)).toInt ∧ (ga σ48 0 (0 : Int32)).toInt ≤ 6) ∧ (0 ≤ (ga σ48 0 (2 : Int32)).toInt ∧ (ga σ48 0 (2 : Int32)).toInt ≤ 16) ∧ ((ga σ48 0 (0 : Int32)).toInt = (ga σ 0 (0 : Int32)).toInt) ∧ ((ga σ48 0 (2 : Int32)).toInt = (ga σ 0 (2 : Int32)).toInt) ∧ (MFr σ σ48) := ⟨(by rw [eσ48, gives_s] <;> exact hp), (by rw [eσ48, gives_s] <;> exact hd), (by rw [eσ48, gives_s] <;> exact hpq), (by rw [eσ48, gives_s] <;> exact hdq), (by rw [eσ48, gives_s]; exact Fr_si (by decide) hLF)⟩
        clear hp hd hpq hdq hLF
        obtain ⟨hp, hd, hpq, hdq, hLF⟩ := hNEW
        refine lv_goto (tgt := 60) hx hb dX6_lend_51 (by decide) ?_
        have he : f_X6_lend σ p1 p2 p3 = (σ48, r48) := (by subst er3; subst er15; subst eσ31; subst er31; subst er44; subst eσ48; subst er48; exact ((if_neg c6).trans ((if_neg c18).trans ((if_neg c34).trans rfl))))
        exact M_reti C h hr hlocks (congrArg Prod.fst he) (congrArg Prod.snd he) ⟨hpq, hdq, hLF⟩ dX6_lend_60
    · have i18 := c_eq c18
      refine lv_aload_n hx hb dX6_lend_21 rfl (lv_at hl 0 rfl) ?_
      refine lv_iconst (v := 1) hx hb dX6_lend_22 (by decide) ?_
      refine M_calli (As := [.int (1 : Int32)]) (rest := []) 1 C h (k_X6_refuse l g σ (1 : Int32)) (lw_V q1723 q1725 qs71 q152 q1726) rfl rfl (by decide +kernel) ⟨Nat.le_of_ble_eq_true rfl, Nat.le_of_ble_eq_true rfl⟩ rfl hl.1 rfl (Nat.le_of_ble_eq_true rfl) ⟨Nat.le_of_ble_eq_true rfl, Nat.le_of_ble_eq_true rfl⟩ dX6_lend_23 (fun r23 σ23 H locs eσ23 er23 hE23 h => ?_)
      clear hE23
      have hNEW : (0 ≤ (ga σ23 0 (0 : Int32)).toInt ∧ (ga σ23 0 (0 : Int32)).toInt ≤ 6) ∧ (0 ≤ (ga σ23 0 (2 : Int32)).toInt ∧ (ga σ23 0 (2 : Int32)).toInt ≤ 16) ∧ ((ga σ23 0 (0 : Int32)).toInt = (ga σ 0 (0 : Int32)).toInt) ∧ ((ga σ23 0 (2 : Int32)).toInt = (ga σ 0 (2 : Int32)).toInt) ∧ (MFr σ σ23) := ⟨(by rw [eσ23, refuse_s] <;> exact hp), (by rw [eσ23, refuse_s] <;> exact hd), (by rw [eσ23, refuse_s] <;> exact hpq), (by rw [eσ23, refuse_s] <;> exact hdq), (by rw [eσ23, refuse_s]; exact Fr_si (by decide) hLF)⟩
      obtain ⟨hp, hd, hpq, hdq, hLF⟩ := hNEW
      have he : f_X6_lend σ p1 p2 p3 = (σ23, r23) := (by subst er3; subst er15; subst eσ23; subst er23; exact ((if_neg c6).trans ((if_pos c18).trans rfl)))
      exact M_reti C h hr hlocks (congrArg Prod.fst he) (congrArg Prod.snd he) ⟨hpq, hdq, hLF⟩ dX6_lend_26
def f_X6_gifts (σ : MS) (p1 : Int32) (p2 : Int32) (p3 : Int32) : MS := (let r6 := (f_X6_debtRow p2 p1); let r16 := (f_X6_debtRow p2 p1); let σ25 := sa σ 0 r6 (jmax (0 : Int32) ((ga σ 0 r16) - p3)); let σ36 := sa σ25 0 (6 : Int32) ((ga σ25 0 (6 : Int32)) + (1 : Int32)); σ36)
set_option maxHeartbeats 4000000 in
set_option maxRecDepth 100000 in
theorem k_X6_gifts (l : Launch) (g : GE) (σ : MS) (p1 : Int32) (p2 : Int32) (p3 : Int32) (hp : 0 ≤ (ga σ 0 (0 : Int32)).toInt ∧ (ga σ 0 (0 : Int32)).toInt ≤ 6) (hd : 0 ≤ (ga σ 0 (2 : Int32)).toInt ∧ (ga σ 0 (2 : Int32)).toInt ≤ 16) (h1r : 0 ≤ p1.toInt ∧ p1.toInt ≤ 5) (h2r : 0 ≤ p2.toInt ∧ p2.toInt ≤ 5) : Met l yX6_gifts (ws_ yX6_gifts cX6_gifts 4 none) ({ frames := 1, cells := 0, slots := 0, locals := 23 } : Room) (mPc g σ [.int p1, .int p2, .int p3]) (mQv g (f_X6_gifts σ p1 p2 p3) (fun u => ((ga u 0 (0 : Int32)).toInt = (ga σ 0 (0 : Int32)).toInt) ∧ ((ga u 0 (2 : Int32)).toInt = (ga σ 0 (2 : Int32)).toInt) ∧ (∀ j : Int32, 130 ≤ j.toInt → ga u 0 j = ga σ 0 j) ∧ ((gi u 29).toInt = (gi σ 29).toInt) ∧ ((ga u 0 (9 : Int32)).toInt = (ga σ 0 (9 : Int32)).toInt) ∧ (∀ x : Int32, (0 ≤ x.toInt ∧ x.toInt ≤ 5) → ga u 0 ((f_X6_personRow x) + (1 : Int32)) = ga σ 0 ((f_X6_personRow x) + (1 : Int32))) ∧ ((gi u 28).toInt = (gi σ 28).toInt) ∧ (MFr σ u))) 0 0 (mA g) := by
  refine met_M (by decide) rfl (Nat.le_of_ble_eq_true rfl) ?_
  intro p e s m args below meth c C hr hlocks h ls hl
  have hx := C.1.1
  have hb := C.1.2.1
  have hml := C.1.2.2.1
  have hown := C.1.2.2.2.1
  have hts := C.1.2.2.2.2
  have hl : lv_has ls 4 [(0, .ref (g.2.1 99)), (1, .int p1), (2, .int p2), (3, .int p3)] := hl
  have hpq : (ga σ 0 (0 : Int32)).toInt = (ga σ 0 (0 : Int32)).toInt := rfl
  have hdq : (ga σ 0 (2 : Int32)).toInt = (ga σ 0 (2 : Int32)).toInt := rfl
  have hY : ∀ j : Int32, 130 ≤ j.toInt → ga σ 0 j = ga σ 0 j := fun _ _ => rfl
  have hrq : (gi σ 29).toInt = (gi σ 29).toInt := rfl
  have hsq : (ga σ 0 (9 : Int32)).toInt = (ga σ 0 (9 : Int32)).toInt := rfl
  have hQq : ∀ x : Int32, (0 ≤ x.toInt ∧ x.toInt ≤ 5) → ga σ 0 ((f_X6_personRow x) + (1 : Int32)) = ga σ 0 ((f_X6_personRow x) + (1 : Int32)) := fun _ _ => rfl
  have hdq28 : (gi σ 28).toInt = (gi σ 28).toInt := rfl
  have hLF : MFr σ σ := Fr.rf
  have zl0 : (0 : Int32).toInt = 0 := rfl
  have zl1 : (1 : Int32).toInt = 1 := rfl
  have zl2 : (2 : Int32).toInt = 2 := rfl
  have zl6 : (6 : Int32).toInt = 6 := rfl
  have zl9 : (9 : Int32).toInt = 9 := rfl
  have zl92 : (92 : Int32).toInt = 92 := rfl
  refine lv_aload_n hx hb dX6_gifts_0 rfl (lv_at hl 0 rfl) ?_
  refine Mg_0 C h dX6_gifts_1 ?_
  refine lv_iload_n hx hb dX6_gifts_4 rfl (lv_at hl 2 rfl) ?_
  refine lv_iload_n hx hb dX6_gifts_5 rfl (lv_at hl 1 rfl) ?_
  refine s_calli (As := [.int p2, .int p1]) (rest := [.ref (g.2.1 0)]) 2 C.1 (k_X6_debtRow l p2 p1) (lw_S q1970 q1971 q152 q1972) rfl rfl (by decide +kernel) ⟨Nat.le_of_ble_eq_true rfl, Nat.le_of_ble_eq_true rfl⟩ rfl hl.1 rfl (Nat.le_of_ble_eq_true rfl) ⟨Nat.le_of_ble_eq_true rfl, Nat.le_of_ble_eq_true rfl⟩ dX6_gifts_6 h.2.2 (fun r6 H locs er6 hz1 hk1 hS1 => ?_)
  have h := h.same hk1 hS1
  clear hz1 hk1 hS1
  have tr6 : r6.toInt = (((92) + ((6) * p2.toInt)) + p1.toInt) := by rw [er6]; exact (i_add (i_add zl92 (i_mul zl6 (rfl : p2.toInt = p2.toInt) (by omega)) (by omega)) (rfl : p1.toInt = p1.toInt) (by omega))
  refine lv_iconst (v := 0) hx hb dX6_gifts_9 (by decide) ?_
  refine lv_aload_n hx hb dX6_gifts_10 rfl (lv_at hl 0 rfl) ?_
  refine Mg_0 C h dX6_gifts_11 ?_
  refine lv_iload_n hx hb dX6_gifts_14 rfl (lv_at hl 2 rfl) ?_
  refine lv_iload_n hx hb dX6_gifts_15 rfl (lv_at hl 1 rfl) ?_
  refine s_calli (As := [.int p2, .int p1]) (rest := [.ref (g.2.1 0), .int (0 : Int32), .int r6, .ref (g.2.1 0)]) 2 C.1 (k_X6_debtRow l p2 p1) (lw_S q1970 q1971 q152 q1972) rfl rfl (by decide +kernel) ⟨Nat.le_of_ble_eq_true rfl, Nat.le_of_ble_eq_true rfl⟩ rfl hl.1 rfl (Nat.le_of_ble_eq_true rfl) ⟨Nat.le_of_ble_eq_true rfl, Nat.le_of_ble_eq_true rfl⟩ dX6_gifts_16 h.2.2 (fun r16 H locs er16 hz1 hk1 hS1 => ?_)
  have h := h.same hk1 hS1
  clear hz1 hk1 hS1
  have tr16 : r16.toInt = (((92) + ((6) * p2.toInt)) + p1.toInt) := by rw [er16]; exact (i_add (i_add zl92 (i_mul zl6 (rfl : p2.toInt = p2.toInt) (by omega)) (by omega)) (rfl : p1.toInt = p1.toInt) (by omega))
  refine Ml_0 C h (ix_of tr16 (by omega)) dX6_gifts_19 ?_
  refine lv_iload_n hx hb dX6_gifts_20 rfl (lv_at hl 3 rfl) ?_
  refine lv_isub hx hb dX6_gifts_21 ?_
  refine va_mmax hx hb (hml.trans hl.1.symm) hown (hts _ q2080) (hts _ q1273) (hts _ q164) (hts _ q1274) (Nat.le_of_ble_eq_true rfl) (Nat.le_of_ble_eq_true rfl) (Nat.le_of_ble_eq_true rfl) (Nat.le_of_ble_eq_true rfl) dX6_gifts_22 ?_
  refine Ms_0 C h (ix_of tr6 (by omega)) dX6_gifts_25 (fun σ25 H locs eσ25 h => ?_)
  have hNEW : (0 ≤ (ga σ25 0 (0 : Int32)).toInt ∧ (ga σ25 0 (0 : Int32)).toInt ≤ 6) ∧ (0 ≤ (ga σ25 0 (2 : Int32)).toInt ∧ (ga σ25 0 (2 : Int32)).toInt ≤ 16) ∧ ((ga σ25 0 (0 : Int32)).toInt = (ga σ 0 (0 : Int32)).toInt) ∧ ((ga σ25 0 (2 : Int32)).toInt = (ga σ 0 (2 : Int32)).toInt) ∧ (∀ j : Int32, 130 ≤ j.toInt → ga σ25 0 j = ga σ 0 j) ∧ ((gi σ25 29).toInt = (gi σ 29).toInt) ∧ ((ga σ25 0 (9 : Int32)).toInt = (ga σ 0 (9 : Int32)).toInt) ∧ (∀ x : Int32, (0 ≤ x.toInt ∧ x.toInt ≤ 5) → ga σ25 0 ((f_X6_personRow x) + (1 : Int32)) = ga σ 0 ((f_X6_personRow x) + (1 : Int32))) ∧ ((gi σ25 28).toInt = (gi σ 28).toInt) ∧ (MFr σ σ25) := ⟨(by rw [eσ25, ga_sa_ne (j := (0 : Int32)) tr6 zl0 (by omega)] <;> exact hp), (by rw [eσ25, ga_sa_ne (j := (2 : Int32)) tr6 zl2 (by omega)] <;> exact hd), (by rw [eσ25, ga_sa_ne (j := (0 : Int32)) tr6 zl0 (by omega)] <;> exact hpq), (by rw [eσ25, ga_sa_ne (j := (2 : Int32)) tr6 zl2 (by omega)] <;> exact hdq), (by rw [eσ25]; exact hY_sa tr6 (by omega) hY), (by rw [eσ25, ] <;> exact hrq), (by rw [eσ25, ga_sa_ne (j := (9 : Int32)) tr6 zl9 (by omega)] <;> exact hsq), (by rw [eσ25]; exact hQ_sa tr6 (by omega) hQq), (by rw [eσ25, ] <;> exact hdq28), (by rw [eσ25]; exact (Fr_sa tr6 (by first | omega | (dsimp only; omega)) (by omega) hLF))⟩
  obtain ⟨hp, hd, hpq, hdq, hY, hrq, hsq, hQq, hdq28, hLF⟩ := hNEW
  refine lv_aload_n hx hb dX6_gifts_26 rfl (lv_at hl 0 rfl) ?_
  refine Mg_0 C h dX6_gifts_27 ?_
  refine lv_bipush (v := 6) hx hb dX6_gifts_30 (by decide) ?_
  refine lv_dup2_11 hx hb dX6_gifts_32 rfl rfl ?_
  refine Ml_0 C h (ix_of zl6 (by omega)) dX6_gifts_33 ?_
  refine lv_iconst (v := 1) hx hb dX6_gifts_34 (by decide) ?_
  refine lv_iadd hx hb dX6_gifts_35 ?_
  refine Ms_0 C h (ix_of zl6 (by omega)) dX6_gifts_36 (fun σ36 H locs eσ36 h => ?_)
  have hNEW : (0 ≤ (ga σ36 0 (0 : Int32)).toInt ∧ (ga σ36 0 (0 : Int32)).toInt ≤ 6) ∧ (0 ≤ (ga σ36 0 (2 : Int32)).toInt ∧ (ga σ36 0 (2 : Int32)).toInt ≤ 16) ∧ ((ga σ36 0 (0 : Int32)).toInt = (ga σ 0 (0 : Int32)).toInt) ∧ ((ga σ36 0 (2 : Int32)).toInt = (ga σ 0 (2 : Int32)).toInt) ∧ (∀ j : Int32, 130 ≤ j.toInt → ga σ36 0 j = ga σ 0 j) ∧ ((gi σ36 29).toInt = (gi σ 29).toInt) ∧ ((ga σ36 0 (9 : Int32)).toInt = (ga σ 0 (9 : Int32)).toInt) ∧ (∀ x : Int32, (0 ≤ x.toInt ∧ x.toInt ≤ 5) → ga σ36 0 ((f_X6_personRow x) + (1 : Int32)) = ga σ 0 ((f_X6_personRow x) + (1 : Int32))) ∧ ((gi σ36 28).toInt = (gi σ 28).toInt) ∧ (MFr σ σ36) := ⟨(by rw [eσ36, ga_sa_ne (j := (0 : Int32)) zl6 zl0 (by omega)] <;> exact hp), (by rw [eσ36, ga_sa_ne (j := (2 : Int32)) zl6 zl2 (by omega)] <;> exact hd), (by rw [eσ36, ga_sa_ne (j := (0 : Int32)) zl6 zl0 (by omega)] <;> exact hpq), (by rw [eσ36, ga_sa_ne (j := (2 : Int32)) zl6 zl2 (by omega)] <;> exact hdq), (by rw [eσ36]; exact hY_sa zl6 (by omega) hY), (by rw [eσ36, ] <;> exact hrq), (by rw [eσ36, ga_sa_ne (j := (9 : Int32)) zl6 zl9 (by omega)] <;> exact hsq), (by rw [eσ36]; exact hQ_sa zl6 (by omega) hQq), (by rw [eσ36, ] <;> exact hdq28), (by rw [eσ36]; exact (Fr_sa zl6 (by first | omega | (dsimp only; omega)) (by omega) hLF))⟩
  clear hp hd hpq hdq hY hrq hsq hQq hdq28 hLF
  obtain ⟨hp, hd, hpq, hdq, hY, hrq, hsq, hQq, hdq28, hLF⟩ := hNEW
  have he : f_X6_gifts σ p1 p2 p3 = σ36 := (by subst er6; subst er16; subst eσ25; subst eσ36; exact rfl)
  exact M_retv C h hr hlocks he ⟨hpq, hdq, hY, hrq, hsq, hQq, hdq28, hLF⟩ dX6_gifts_37
def f_X6_gift (σ : MS) (p1 : Int32) (p2 : Int32) (p3 : Int32) : MS × Int32 := (let r3 := (f_X6_areTwo σ p1 p2); if r3 = (0 : Int32) then ((let z23 := (f_X6_refuse σ (1 : Int32)); let σ23 := z23.1; let r23 := z23.2; (σ23, r23))) else ((let r15 := (f_X6_isFrom p3.toInt64 (1 : Int64) (9999 : Int64)); if r15 = (0 : Int32) then ((let z23 := (f_X6_refuse σ (1 : Int32)); let σ23 := z23.1; let r23 := z23.2; (σ23, r23))) else ((let σ31 := (f_X6_gifts σ p1 p2 p3); let r41 := (f_X6_debtRow p2 p1); let z45 := (f_X6_gives σ31 (ga σ31 0 r41)); let σ45 := z45.1; let r45 := z45.2; (σ45, r45))))))
set_option maxHeartbeats 4000000 in
set_option maxRecDepth 100000 in
theorem k_X6_gift (l : Launch) (g : GE) (σ : MS) (p1 : Int32) (p2 : Int32) (p3 : Int32) (hp : 0 ≤ (ga σ 0 (0 : Int32)).toInt ∧ (ga σ 0 (0 : Int32)).toInt ≤ 6) (hd : 0 ≤ (ga σ 0 (2 : Int32)).toInt ∧ (ga σ 0 (2 : Int32)).toInt ≤ 16) : Met l yX6_gift (ws_ yX6_gift cX6_gift 4 (some .int)) ({ frames := 2, cells := 0, slots := 0, locals := 46 } : Room) (mPc g σ [.int p1, .int p2, .int p3]) (mQi g (f_X6_gift σ p1 p2 p3).1 (f_X6_gift σ p1 p2 p3).2 (fun u r => ((ga u 0 (0 : Int32)).toInt = (ga σ 0 (0 : Int32)).toInt) ∧ ((ga u 0 (2 : Int32)).toInt = (ga σ 0 (2 : Int32)).toInt) ∧ (MFr σ u))) 0 0 (mA g) := by
  refine met_M (by decide) rfl (Nat.le_of_ble_eq_true rfl) ?_
  intro p e s m args below meth c C hr hlocks h ls hl
  have hx := C.1.1
  have hb := C.1.2.1
  have hml := C.1.2.2.1
  have hown := C.1.2.2.2.1
  have hts := C.1.2.2.2.2
  have hl : lv_has ls 4 [(0, .ref (g.2.1 99)), (1, .int p1), (2, .int p2), (3, .int p3)] := hl
  have hpq : (ga σ 0 (0 : Int32)).toInt = (ga σ 0 (0 : Int32)).toInt := rfl
  have hdq : (ga σ 0 (2 : Int32)).toInt = (ga σ 0 (2 : Int32)).toInt := rfl
  have hLF : MFr σ σ := Fr.rf
  have zl0 : (0 : Int32).toInt = 0 := rfl
  have zl1 : (1 : Int32).toInt = 1 := rfl
  have zl6 : (6 : Int32).toInt = 6 := rfl
  have zl92 : (92 : Int32).toInt = 92 := rfl
  refine lv_aload_n hx hb dX6_gift_0 rfl (lv_at hl 0 rfl) ?_
  refine lv_iload_n hx hb dX6_gift_1 rfl (lv_at hl 1 rfl) ?_
  refine lv_iload_n hx hb dX6_gift_2 rfl (lv_at hl 2 rfl) ?_
  refine M_callz (As := [.int p1, .int p2]) (rest := []) 2 C h (k_X6_areTwo l g σ p1 p2) (lw_V q1998 q2000 qs113 q152 q2001) rfl rfl (by decide +kernel) ⟨Nat.le_of_ble_eq_true rfl, Nat.le_of_ble_eq_true rfl⟩ rfl hl.1 rfl (Nat.le_of_ble_eq_true rfl) ⟨Nat.le_of_ble_eq_true rfl, Nat.le_of_ble_eq_true rfl⟩ dX6_gift_3 (fun r3 σ3 H locs eσ3 er3 br3 hE3 h => ?_)
  rw [eσ3] at h
  clear hE3
  clear eσ3
  refine lv_if_eq (tgt := 21) hx hb dX6_gift_6 (by decide) (fun c6 => ?_) (fun c6 => ?_)
  · have i6 := c_eq c6
    refine lv_aload_n hx hb dX6_gift_21 rfl (lv_at hl 0 rfl) ?_
    refine lv_iconst (v := 1) hx hb dX6_gift_22 (by decide) ?_
    refine M_calli (As := [.int (1 : Int32)]) (rest := []) 1 C h (k_X6_refuse l g σ (1 : Int32)) (lw_V q1723 q1725 qs71 q152 q1726) rfl rfl (by decide +kernel) ⟨Nat.le_of_ble_eq_true rfl, Nat.le_of_ble_eq_true rfl⟩ rfl hl.1 rfl (Nat.le_of_ble_eq_true rfl) ⟨Nat.le_of_ble_eq_true rfl, Nat.le_of_ble_eq_true rfl⟩ dX6_gift_23 (fun r23 σ23 H locs eσ23 er23 hE23 h => ?_)
    clear hE23
    have hNEW : (0 ≤ (ga σ23 0 (0 : Int32)).toInt ∧ (ga σ23 0 (0 : Int32)).toInt ≤ 6) ∧ (0 ≤ (ga σ23 0 (2 : Int32)).toInt ∧ (ga σ23 0 (2 : Int32)).toInt ≤ 16) ∧ ((ga σ23 0 (0 : Int32)).toInt = (ga σ 0 (0 : Int32)).toInt) ∧ ((ga σ23 0 (2 : Int32)).toInt = (ga σ 0 (2 : Int32)).toInt) ∧ (MFr σ σ23) := ⟨(by rw [eσ23, refuse_s] <;> exact hp), (by rw [eσ23, refuse_s] <;> exact hd), (by rw [eσ23, refuse_s] <;> exact hpq), (by rw [eσ23, refuse_s] <;> exact hdq), (by rw [eσ23, refuse_s]; exact Fr_si (by decide) hLF)⟩
    obtain ⟨hp, hd, hpq, hdq, hLF⟩ := hNEW
    have he : f_X6_gift σ p1 p2 p3 = (σ23, r23) := (by subst er3; subst eσ23; subst er23; exact ((if_pos c6).trans rfl))
    exact M_reti C h hr hlocks (congrArg Prod.fst he) (congrArg Prod.snd he) ⟨hpq, hdq, hLF⟩ dX6_gift_26
  · have i6 := c_ne c6
    have okr3 := areTwo_ok er3 c6
    refine lv_iload_n hx hb dX6_gift_9 rfl (lv_at hl 3 rfl) ?_
    refine lv_i2l (v := p3.toInt64) hx hb dX6_gift_10 rfl ?_
    refine lv_lconst (v := 1) hx hb dX6_gift_11 (by decide) ?_
    refine lv_ldc2 hx hb hown (hts _ q1956) dX6_gift_12 ?_
    refine s_callz (As := [.long p3.toInt64, .long (1 : Int64), .long (9999 : Int64)]) (rest := []) 3 C.1 (k_X6_isFrom l p3.toInt64 (1 : Int64) (9999 : Int64)) (lw_S q1936 q1937 q152 q1938) rfl rfl (by decide +kernel) ⟨Nat.le_of_ble_eq_true rfl, Nat.le_of_ble_eq_true rfl⟩ rfl hl.1 rfl (Nat.le_of_ble_eq_true rfl) ⟨Nat.le_of_ble_eq_true rfl, Nat.le_of_ble_eq_true rfl⟩ dX6_gift_15 h.2.2 (fun r15 H locs er15 br15 hz1 hk1 hS1 => ?_)
    have h := h.same hk1 hS1
    clear hz1 hk1 hS1
    refine lv_if_ne (tgt := 27) hx hb dX6_gift_18 (by decide) (fun c18 => ?_) (fun c18 => ?_)
    · have i18 := c_ne c18
      have okr15 := isFrom_ok er15 c18
      refine lv_aload_n hx hb dX6_gift_27 rfl (lv_at hl 0 rfl) ?_
      refine lv_iload_n hx hb dX6_gift_28 rfl (lv_at hl 1 rfl) ?_
      refine lv_iload_n hx hb dX6_gift_29 rfl (lv_at hl 2 rfl) ?_
      refine lv_iload_n hx hb dX6_gift_30 rfl (lv_at hl 3 rfl) ?_
      refine M_callv (As := [.int p1, .int p2, .int p3]) (rest := []) 3 C h (k_X6_gifts l g σ p1 p2 p3 (by first | assumption | omega) (by first | assumption | omega) (by first | assumption | omega) (by first | assumption | omega)) (lw_V q2191 q2193 qs133 q152 q2194) rfl rfl (by decide +kernel) ⟨Nat.le_of_ble_eq_true rfl, Nat.le_of_ble_eq_true rfl⟩ rfl hl.1 rfl (Nat.le_of_ble_eq_true rfl) ⟨Nat.le_of_ble_eq_true rfl, Nat.le_of_ble_eq_true rfl⟩ dX6_gift_31 (fun σ31 H locs eσ31 hE31 h => ?_)
      have hE31 : ((ga σ31 0 (0 : Int32)).toInt = (ga σ 0 (0 : Int32)).toInt) ∧ ((ga σ31 0 (2 : Int32)).toInt = (ga σ 0 (2 : Int32)).toInt) ∧ (∀ j : Int32, 130 ≤ j.toInt → ga σ31 0 j = ga σ 0 j) ∧ ((gi σ31 29).toInt = (gi σ 29).toInt) ∧ ((ga σ31 0 (9 : Int32)).toInt = (ga σ 0 (9 : Int32)).toInt) ∧ (∀ x : Int32, (0 ≤ x.toInt ∧ x.toInt ≤ 5) → ga σ31 0 ((f_X6_personRow x) + (1 : Int32)) = ga σ 0 ((f_X6_personRow x) + (1 : Int32))) ∧ ((gi σ31 28).toInt = (gi σ 28).toInt) ∧ (MFr σ σ31) := hE31
      obtain ⟨hpq_31, hdq_31, hY_31, hrq_31, hsq_31, hQq_31, hdq28_31, hLF_31⟩ := hE31
      have hNEW : (0 ≤ (ga σ31 0 (0 : Int32)).toInt ∧ (ga σ31 0 (0 : Int32)).toInt ≤ 6) ∧ (0 ≤ (ga σ31 0 (2 : Int32)).toInt ∧ (ga σ31 0 (2 : Int32)).toInt ≤ 16) ∧ ((ga σ31 0 (0 : Int32)).toInt = (ga σ 0 (0 : Int32)).toInt) ∧ ((ga σ31 0 (2 : Int32)).toInt = (ga σ 0 (2 : Int32)).toInt) ∧ (MFr σ σ31) := ⟨(by first | assumption | omega), (by first | assumption | omega), (by first | assumption | omega), (by first | assumption | omega), (Fr.tr hLF hLF_31)⟩
      obtain ⟨hp, hd, hpq, hdq, hLF⟩ := hNEW
      refine lv_aload_n hx hb dX6_gift_34 rfl (lv_at hl 0 rfl) ?_
      refine lv_aload_n hx hb dX6_gift_35 rfl (lv_at hl 0 rfl) ?_
      refine Mg_0 C h dX6_gift_36 ?_
      refine lv_iload_n hx hb dX6_gift_39 rfl (lv_at hl 2 rfl) ?_
      refine lv_iload_n hx hb dX6_gift_40 rfl (lv_at hl 1 rfl) ?_
      refine s_calli (As := [.int p2, .int p1]) (rest := [.ref (g.2.1 0), .ref (g.2.1 99)]) 2 C.1 (k_X6_debtRow l p2 p1) (lw_S q1970 q1971 q152 q1972) rfl rfl (by decide +kernel) ⟨Nat.le_of_ble_eq_true rfl, Nat.le_of_ble_eq_true rfl⟩ rfl hl.1 rfl (Nat.le_of_ble_eq_true rfl) ⟨Nat.le_of_ble_eq_true rfl, Nat.le_of_ble_eq_true rfl⟩ dX6_gift_41 h.2.2 (fun r41 H locs er41 hz1 hk1 hS1 => ?_)
      have h := h.same hk1 hS1
      clear hz1 hk1 hS1
      have tr41 : r41.toInt = (((92) + ((6) * p2.toInt)) + p1.toInt) := by rw [er41]; exact (i_add (i_add zl92 (i_mul zl6 (rfl : p2.toInt = p2.toInt) (by omega)) (by omega)) (rfl : p1.toInt = p1.toInt) (by omega))
      refine Ml_0 C h (ix_of tr41 (by omega)) dX6_gift_44 ?_
      refine M_calli (As := [.int (ga σ31 0 r41)]) (rest := []) 1 C h (k_X6_gives l g σ31 (ga σ31 0 r41)) (lw_V q1806 q1808 qs91 q152 q1809) rfl rfl (by decide +kernel) ⟨Nat.le_of_ble_eq_true rfl, Nat.le_of_ble_eq_true rfl⟩ rfl hl.1 rfl (Nat.le_of_ble_eq_true rfl) ⟨Nat.le_of_ble_eq_true rfl, Nat.le_of_ble_eq_true rfl⟩ dX6_gift_45 (fun r45 σ45 H locs eσ45 er45 hE45 h => ?_)
      clear hE45
      have hNEW : (0 ≤ (ga σ45 0 (0 : Int32)).toInt ∧ (ga σ45 0 (0 : Int32)).toInt ≤ 6) ∧ (0 ≤ (ga σ45 0 (2 : Int32)).toInt ∧ (ga σ45 0 (2 : Int32)).toInt ≤ 16) ∧ ((ga σ45 0 (0 : Int32)).toInt = (ga σ 0 (0 : Int32)).toInt) ∧ ((ga σ45 0 (2 : Int32)).toInt = (ga σ 0 (2 : Int32)).toInt) ∧ (MFr σ σ45) := ⟨(by rw [eσ45, gives_s] <;> exact hp), (by rw [eσ45, gives_s] <;> exact hd), (by rw [eσ45, gives_s] <;> exact hpq), (by rw [eσ45, gives_s] <;> exact hdq), (by rw [eσ45, gives_s]; exact Fr_si (by decide) hLF)⟩
      clear hp hd hpq hdq hLF
      obtain ⟨hp, hd, hpq, hdq, hLF⟩ := hNEW
      have he : f_X6_gift σ p1 p2 p3 = (σ45, r45) := (by subst er3; subst er15; subst eσ31; subst er41; subst eσ45; subst er45; exact ((if_neg c6).trans ((if_neg c18).trans rfl)))
      exact M_reti C h hr hlocks (congrArg Prod.fst he) (congrArg Prod.snd he) ⟨hpq, hdq, hLF⟩ dX6_gift_48
    · have i18 := c_eq c18
      refine lv_aload_n hx hb dX6_gift_21 rfl (lv_at hl 0 rfl) ?_
      refine lv_iconst (v := 1) hx hb dX6_gift_22 (by decide) ?_
      refine M_calli (As := [.int (1 : Int32)]) (rest := []) 1 C h (k_X6_refuse l g σ (1 : Int32)) (lw_V q1723 q1725 qs71 q152 q1726) rfl rfl (by decide +kernel) ⟨Nat.le_of_ble_eq_true rfl, Nat.le_of_ble_eq_true rfl⟩ rfl hl.1 rfl (Nat.le_of_ble_eq_true rfl) ⟨Nat.le_of_ble_eq_true rfl, Nat.le_of_ble_eq_true rfl⟩ dX6_gift_23 (fun r23 σ23 H locs eσ23 er23 hE23 h => ?_)
      clear hE23
      have hNEW : (0 ≤ (ga σ23 0 (0 : Int32)).toInt ∧ (ga σ23 0 (0 : Int32)).toInt ≤ 6) ∧ (0 ≤ (ga σ23 0 (2 : Int32)).toInt ∧ (ga σ23 0 (2 : Int32)).toInt ≤ 16) ∧ ((ga σ23 0 (0 : Int32)).toInt = (ga σ 0 (0 : Int32)).toInt) ∧ ((ga σ23 0 (2 : Int32)).toInt = (ga σ 0 (2 : Int32)).toInt) ∧ (MFr σ σ23) := ⟨(by rw [eσ23, refuse_s] <;> exact hp), (by rw [eσ23, refuse_s] <;> exact hd), (by rw [eσ23, refuse_s] <;> exact hpq), (by rw [eσ23, refuse_s] <;> exact hdq), (by rw [eσ23, refuse_s]; exact Fr_si (by decide) hLF)⟩
      obtain ⟨hp, hd, hpq, hdq, hLF⟩ := hNEW
      have he : f_X6_gift σ p1 p2 p3 = (σ23, r23) := (by subst er3; subst er15; subst eσ23; subst er23; exact ((if_neg c6).trans ((if_pos c18).trans rfl)))
      exact M_reti C h hr hlocks (congrArg Prod.fst he) (congrArg Prod.snd he) ⟨hpq, hdq, hLF⟩ dX6_gift_26
def f_X6_quits (σ : MS) (p1 : Int32) (p2 : Int32) : MS × Int32 := (let r3 := (f_X6_areTwo σ p1 p2); if r3 = (0 : Int32) then ((let z11 := (f_X6_refuse σ (1 : Int32)); let σ11 := z11.1; let r11 := z11.2; (σ11, r11))) else ((let r21 := (f_X6_debtRow p1 p2); let r31 := (f_X6_debtRow p2 p1); let v38 := (jmin (ga σ 0 r21) (ga σ 0 r31)); let r45 := (f_X6_debtRow p1 p2); let σ52 := sa σ 0 r45 ((ga σ 0 r45) - v38); let r59 := (f_X6_debtRow p2 p1); let σ66 := sa σ52 0 r59 ((ga σ52 0 r59) - v38); let z69 := (f_X6_gives σ66 v38); let σ69 := z69.1; let r69 := z69.2; (σ69, r69))))
set_option maxHeartbeats 4000000 in
set_option maxRecDepth 100000 in
theorem k_X6_quits (l : Launch) (g : GE) (σ : MS) (p1 : Int32) (p2 : Int32) (hp : 0 ≤ (ga σ 0 (0 : Int32)).toInt ∧ (ga σ 0 (0 : Int32)).toInt ≤ 6) : Met l yX6_quits (ws_ yX6_quits cX6_quits 4 (some .int)) ({ frames := 2, cells := 0, slots := 0, locals := 43 } : Room) (mPc g σ [.int p1, .int p2]) (mQi g (f_X6_quits σ p1 p2).1 (f_X6_quits σ p1 p2).2 (fun u r => ((ga u 0 (0 : Int32)).toInt = (ga σ 0 (0 : Int32)).toInt) ∧ (MFr σ u))) 0 0 (mA g) := by
  refine met_M (by decide) rfl (Nat.le_of_ble_eq_true rfl) ?_
  intro p e s m args below meth c C hr hlocks h ls hl
  have hx := C.1.1
  have hb := C.1.2.1
  have hml := C.1.2.2.1
  have hown := C.1.2.2.2.1
  have hts := C.1.2.2.2.2
  have hl : lv_has ls 4 [(0, .ref (g.2.1 99)), (1, .int p1), (2, .int p2)] := hl
  have hpq : (ga σ 0 (0 : Int32)).toInt = (ga σ 0 (0 : Int32)).toInt := rfl
  have hLF : MFr σ σ := Fr.rf
  have zl0 : (0 : Int32).toInt = 0 := rfl
  have zl1 : (1 : Int32).toInt = 1 := rfl
  have zl6 : (6 : Int32).toInt = 6 := rfl
  have zl92 : (92 : Int32).toInt = 92 := rfl
  refine lv_aload_n hx hb dX6_quits_0 rfl (lv_at hl 0 rfl) ?_
  refine lv_iload_n hx hb dX6_quits_1 rfl (lv_at hl 1 rfl) ?_
  refine lv_iload_n hx hb dX6_quits_2 rfl (lv_at hl 2 rfl) ?_
  refine M_callz (As := [.int p1, .int p2]) (rest := []) 2 C h (k_X6_areTwo l g σ p1 p2) (lw_V q1998 q2000 qs113 q152 q2001) rfl rfl (by decide +kernel) ⟨Nat.le_of_ble_eq_true rfl, Nat.le_of_ble_eq_true rfl⟩ rfl hl.1 rfl (Nat.le_of_ble_eq_true rfl) ⟨Nat.le_of_ble_eq_true rfl, Nat.le_of_ble_eq_true rfl⟩ dX6_quits_3 (fun r3 σ3 H locs eσ3 er3 br3 hE3 h => ?_)
  rw [eσ3] at h
  clear hE3
  clear eσ3
  refine lv_if_ne (tgt := 15) hx hb dX6_quits_6 (by decide) (fun c6 => ?_) (fun c6 => ?_)
  · have i6 := c_ne c6
    have okr3 := areTwo_ok er3 c6
    refine lv_aload_n hx hb dX6_quits_15 rfl (lv_at hl 0 rfl) ?_
    refine Mg_0 C h dX6_quits_16 ?_
    refine lv_iload_n hx hb dX6_quits_19 rfl (lv_at hl 1 rfl) ?_
    refine lv_iload_n hx hb dX6_quits_20 rfl (lv_at hl 2 rfl) ?_
    refine s_calli (As := [.int p1, .int p2]) (rest := [.ref (g.2.1 0)]) 2 C.1 (k_X6_debtRow l p1 p2) (lw_S q1970 q1971 q152 q1972) rfl rfl (by decide +kernel) ⟨Nat.le_of_ble_eq_true rfl, Nat.le_of_ble_eq_true rfl⟩ rfl hl.1 rfl (Nat.le_of_ble_eq_true rfl) ⟨Nat.le_of_ble_eq_true rfl, Nat.le_of_ble_eq_true rfl⟩ dX6_quits_21 h.2.2 (fun r21 H locs er21 hz1 hk1 hS1 => ?_)
    have h := h.same hk1 hS1
    clear hz1 hk1 hS1
    have tr21 : r21.toInt = (((92) + ((6) * p1.toInt)) + p2.toInt) := by rw [er21]; exact (i_add (i_add zl92 (i_mul zl6 (rfl : p1.toInt = p1.toInt) (by omega)) (by omega)) (rfl : p2.toInt = p2.toInt) (by omega))
    refine Ml_0 C h (ix_of tr21 (by omega)) dX6_quits_24 ?_
    refine lv_aload_n hx hb dX6_quits_25 rfl (lv_at hl 0 rfl) ?_
    refine Mg_0 C h dX6_quits_26 ?_
    refine lv_iload_n hx hb dX6_quits_29 rfl (lv_at hl 2 rfl) ?_
    refine lv_iload_n hx hb dX6_quits_30 rfl (lv_at hl 1 rfl) ?_
    refine s_calli (As := [.int p2, .int p1]) (rest := [.ref (g.2.1 0), .int (ga σ 0 r21)]) 2 C.1 (k_X6_debtRow l p2 p1) (lw_S q1970 q1971 q152 q1972) rfl rfl (by decide +kernel) ⟨Nat.le_of_ble_eq_true rfl, Nat.le_of_ble_eq_true rfl⟩ rfl hl.1 rfl (Nat.le_of_ble_eq_true rfl) ⟨Nat.le_of_ble_eq_true rfl, Nat.le_of_ble_eq_true rfl⟩ dX6_quits_31 h.2.2 (fun r31 H locs er31 hz1 hk1 hS1 => ?_)
    have h := h.same hk1 hS1
    clear hz1 hk1 hS1
    have tr31 : r31.toInt = (((92) + ((6) * p2.toInt)) + p1.toInt) := by rw [er31]; exact (i_add (i_add zl92 (i_mul zl6 (rfl : p2.toInt = p2.toInt) (by omega)) (by omega)) (rfl : p1.toInt = p1.toInt) (by omega))
    refine Ml_0 C h (ix_of tr31 (by omega)) dX6_quits_34 ?_
    refine va_mmin hx hb (hml.trans hl.1.symm) hown (hts _ q1722) (hts _ q1261) (hts _ q164) (hts _ q1262) (Nat.le_of_ble_eq_true rfl) (Nat.le_of_ble_eq_true rfl) (Nat.le_of_ble_eq_true rfl) (Nat.le_of_ble_eq_true rfl) dX6_quits_35 ?_
    refine lv_topi (fun v38 ev38 => ?_)
    refine lv_istore_n (lv' := [(3, .int v38), (0, .ref (g.2.1 99)), (1, .int p1), (2, .int p2)]) hx hb dX6_quits_38 rfl hl (by decide) rfl (fun ls hl => ?_)
    refine lv_aload_n hx hb dX6_quits_39 rfl (lv_at hl 1 rfl) ?_
    refine Mg_0 C h dX6_quits_40 ?_
    refine lv_iload_n hx hb dX6_quits_43 rfl (lv_at hl 2 rfl) ?_
    refine lv_iload_n hx hb dX6_quits_44 rfl (lv_at hl 3 rfl) ?_
    refine s_calli (As := [.int p1, .int p2]) (rest := [.ref (g.2.1 0)]) 2 C.1 (k_X6_debtRow l p1 p2) (lw_S q1970 q1971 q152 q1972) rfl rfl (by decide +kernel) ⟨Nat.le_of_ble_eq_true rfl, Nat.le_of_ble_eq_true rfl⟩ rfl hl.1 rfl (Nat.le_of_ble_eq_true rfl) ⟨Nat.le_of_ble_eq_true rfl, Nat.le_of_ble_eq_true rfl⟩ dX6_quits_45 h.2.2 (fun r45 H locs er45 hz1 hk1 hS1 => ?_)
    have h := h.same hk1 hS1
    clear hz1 hk1 hS1
    have tr45 : r45.toInt = (((92) + ((6) * p1.toInt)) + p2.toInt) := by rw [er45]; exact (i_add (i_add zl92 (i_mul zl6 (rfl : p1.toInt = p1.toInt) (by omega)) (by omega)) (rfl : p2.toInt = p2.toInt) (by omega))
    refine lv_dup2_11 hx hb dX6_quits_48 rfl rfl ?_
    refine Ml_0 C h (ix_of tr45 (by omega)) dX6_quits_49 ?_
    refine lv_iload_n hx hb dX6_quits_50 rfl (lv_at hl 0 rfl) ?_
    refine lv_isub hx hb dX6_quits_51 ?_
    refine Ms_0 C h (ix_of tr45 (by omega)) dX6_quits_52 (fun σ52 H locs eσ52 h => ?_)
    have hNEW : (0 ≤ (ga σ52 0 (0 : Int32)).toInt ∧ (ga σ52 0 (0 : Int32)).toInt ≤ 6) ∧ ((ga σ52 0 (0 : Int32)).toInt = (ga σ 0 (0 : Int32)).toInt) ∧ (MFr σ σ52) := ⟨(by rw [eσ52, ga_sa_ne (j := (0 : Int32)) tr45 zl0 (by omega)] <;> exact hp), (by rw [eσ52, ga_sa_ne (j := (0 : Int32)) tr45 zl0 (by omega)] <;> exact hpq), (by rw [eσ52]; exact (Fr_sa tr45 (by first | omega | (dsimp only; omega)) (by omega) hLF))⟩
    obtain ⟨hp, hpq, hLF⟩ := hNEW
    refine lv_aload_n hx hb dX6_quits_53 rfl (lv_at hl 1 rfl) ?_
    refine Mg_0 C h dX6_quits_54 ?_
    refine lv_iload_n hx hb dX6_quits_57 rfl (lv_at hl 3 rfl) ?_
    refine lv_iload_n hx hb dX6_quits_58 rfl (lv_at hl 2 rfl) ?_
    refine s_calli (As := [.int p2, .int p1]) (rest := [.ref (g.2.1 0)]) 2 C.1 (k_X6_debtRow l p2 p1) (lw_S q1970 q1971 q152 q1972) rfl rfl (by decide +kernel) ⟨Nat.le_of_ble_eq_true rfl, Nat.le_of_ble_eq_true rfl⟩ rfl hl.1 rfl (Nat.le_of_ble_eq_true rfl) ⟨Nat.le_of_ble_eq_true rfl, Nat.le_of_ble_eq_true rfl⟩ dX6_quits_59 h.2.2 (fun r59 H locs er59 hz1 hk1 hS1 => ?_)
    have h := h.same hk1 hS1
    clear hz1 hk1 hS1
    have tr59 : r59.toInt = (((92) + ((6) * p2.toInt)) + p1.toInt) := by rw [er59]; exact (i_add (i_add zl92 (i_mul zl6 (rfl : p2.toInt = p2.toInt) (by omega)) (by omega)) (rfl : p1.toInt = p1.toInt) (by omega))
    refine lv_dup2_11 hx hb dX6_quits_62 rfl rfl ?_
    refine Ml_0 C h (ix_of tr59 (by omega)) dX6_quits_63 ?_
    refine lv_iload_n hx hb dX6_quits_64 rfl (lv_at hl 0 rfl) ?_
    refine lv_isub hx hb dX6_quits_65 ?_
    refine Ms_0 C h (ix_of tr59 (by omega)) dX6_quits_66 (fun σ66 H locs eσ66 h => ?_)
    have hNEW : (0 ≤ (ga σ66 0 (0 : Int32)).toInt ∧ (ga σ66 0 (0 : Int32)).toInt ≤ 6) ∧ ((ga σ66 0 (0 : Int32)).toInt = (ga σ 0 (0 : Int32)).toInt) ∧ (MFr σ σ66) := ⟨(by rw [eσ66, ga_sa_ne (j := (0 : Int32)) tr59 zl0 (by omega)] <;> exact hp), (by rw [eσ66, ga_sa_ne (j := (0 : Int32)) tr59 zl0 (by omega)] <;> exact hpq), (by rw [eσ66]; exact (Fr_sa tr59 (by first | omega | (dsimp only; omega)) (by omega) hLF))⟩
    clear hp hpq hLF
    obtain ⟨hp, hpq, hLF⟩ := hNEW
    refine lv_aload_n hx hb dX6_quits_67 rfl (lv_at hl 1 rfl) ?_
    refine lv_iload_n hx hb dX6_quits_68 rfl (lv_at hl 0 rfl) ?_
    refine M_calli (As := [.int v38]) (rest := []) 1 C h (k_X6_gives l g σ66 v38) (lw_V q1806 q1808 qs91 q152 q1809) rfl rfl (by decide +kernel) ⟨Nat.le_of_ble_eq_true rfl, Nat.le_of_ble_eq_true rfl⟩ rfl hl.1 rfl (Nat.le_of_ble_eq_true rfl) ⟨Nat.le_of_ble_eq_true rfl, Nat.le_of_ble_eq_true rfl⟩ dX6_quits_69 (fun r69 σ69 H locs eσ69 er69 hE69 h => ?_)
    clear hE69
    have hNEW : (0 ≤ (ga σ69 0 (0 : Int32)).toInt ∧ (ga σ69 0 (0 : Int32)).toInt ≤ 6) ∧ ((ga σ69 0 (0 : Int32)).toInt = (ga σ 0 (0 : Int32)).toInt) ∧ (MFr σ σ69) := ⟨(by rw [eσ69, gives_s] <;> exact hp), (by rw [eσ69, gives_s] <;> exact hpq), (by rw [eσ69, gives_s]; exact Fr_si (by decide) hLF)⟩
    clear hp hpq hLF
    obtain ⟨hp, hpq, hLF⟩ := hNEW
    have he : f_X6_quits σ p1 p2 = (σ69, r69) := (by subst er3; subst er21; subst er31; subst ev38; subst er45; subst eσ52; subst er59; subst eσ66; subst eσ69; subst er69; exact ((if_neg c6).trans rfl))
    exact M_reti C h hr hlocks (congrArg Prod.fst he) (congrArg Prod.snd he) ⟨hpq, hLF⟩ dX6_quits_72
  · have i6 := c_eq c6
    refine lv_aload_n hx hb dX6_quits_9 rfl (lv_at hl 0 rfl) ?_
    refine lv_iconst (v := 1) hx hb dX6_quits_10 (by decide) ?_
    refine M_calli (As := [.int (1 : Int32)]) (rest := []) 1 C h (k_X6_refuse l g σ (1 : Int32)) (lw_V q1723 q1725 qs71 q152 q1726) rfl rfl (by decide +kernel) ⟨Nat.le_of_ble_eq_true rfl, Nat.le_of_ble_eq_true rfl⟩ rfl hl.1 rfl (Nat.le_of_ble_eq_true rfl) ⟨Nat.le_of_ble_eq_true rfl, Nat.le_of_ble_eq_true rfl⟩ dX6_quits_11 (fun r11 σ11 H locs eσ11 er11 hE11 h => ?_)
    clear hE11
    have hNEW : (0 ≤ (ga σ11 0 (0 : Int32)).toInt ∧ (ga σ11 0 (0 : Int32)).toInt ≤ 6) ∧ ((ga σ11 0 (0 : Int32)).toInt = (ga σ 0 (0 : Int32)).toInt) ∧ (MFr σ σ11) := ⟨(by rw [eσ11, refuse_s] <;> exact hp), (by rw [eσ11, refuse_s] <;> exact hpq), (by rw [eσ11, refuse_s]; exact Fr_si (by decide) hLF)⟩
    obtain ⟨hp, hpq, hLF⟩ := hNEW
    have he : f_X6_quits σ p1 p2 = (σ11, r11) := (by subst er3; subst eσ11; subst er11; exact ((if_pos c6).trans rfl))
    exact M_reti C h hr hlocks (congrArg Prod.fst he) (congrArg Prod.snd he) ⟨hpq, hLF⟩ dX6_quits_14
def f_X6_tiesNow_L16 (σ : MS) (y2_16 : Int32) : Nat → Int32 → Int32 → Int32 × Int32
  | 0, x1_16, x3_16 => (x1_16, x3_16)
  | n + 1, x1_16, x3_16 => if y2_16 ≤ x3_16 then ((x1_16, x3_16)) else ((let r28 := (f_X6_debtRow y2_16 x3_16); (let z53_ : Int32 := (if (0 : Int32) < (ga σ 0 r28) then ((1 : Int32)) else ((let r41 := (f_X6_debtRow x3_16 y2_16); if (ga σ 0 r41) ≤ (0 : Int32) then ((0 : Int32)) else ((1 : Int32))))); let t0_53 := z53_; (let v54 := (x1_16 + t0_53); f_X6_tiesNow_L16 σ y2_16 n v54 (x3_16 + (1 : Int32))))))
def f_X6_tiesNow_L4 (σ : MS) : Nat → Int32 → Int32 → Int32 × Int32
  | 0, x1_4, x2_4 => (x1_4, x2_4)
  | n + 1, x1_4, x2_4 => if (ga σ 0 (0 : Int32)) ≤ x2_4 then ((x1_4, x2_4)) else ((let zL16 := f_X6_tiesNow_L16 σ x2_4 (7) x1_4 (0 : Int32); let x1_16e := zL16.1; let x3_16e := zL16.2; f_X6_tiesNow_L4 σ n x1_16e (x2_4 + (1 : Int32))))
def f_X6_tiesNow (σ : MS) : Int32 := (let zL4 := f_X6_tiesNow_L4 σ (7) (0 : Int32) (0 : Int32); let x1_4e := zL4.1; let x2_4e := zL4.2; x1_4e)
set_option maxHeartbeats 4000000 in
set_option maxRecDepth 100000 in
theorem k_X6_tiesNow (l : Launch) (g : GE) (σ : MS) (hp : 0 ≤ (ga σ 0 (0 : Int32)).toInt ∧ (ga σ 0 (0 : Int32)).toInt ≤ 6) : Met l yX6_tiesNow (ws_ yX6_tiesNow cX6_tiesNow 4 (some .int)) ({ frames := 1, cells := 0, slots := 0, locals := 21 } : Room) (mPc g σ []) (mQi g σ (f_X6_tiesNow σ) (fun u r => True)) 0 0 (mA g) := by
  refine met_M (by decide) rfl (Nat.le_of_ble_eq_true rfl) ?_
  intro p e s m args below meth c C hr hlocks h ls hl
  have hx := C.1.1
  have hb := C.1.2.1
  have hml := C.1.2.2.1
  have hown := C.1.2.2.2.1
  have hts := C.1.2.2.2.2
  have hl : lv_has ls 4 [(0, .ref (g.2.1 99))] := hl
  have zl0 : (0 : Int32).toInt = 0 := rfl
  have zl1 : (1 : Int32).toInt = 1 := rfl
  have zl6 : (6 : Int32).toInt = 6 := rfl
  have zl92 : (92 : Int32).toInt = 92 := rfl
  refine lv_iconst (v := 0) hx hb dX6_tiesNow_0 (by decide) ?_
  refine lv_istore_n (lv' := [(1, .int (0 : Int32)), (0, .ref (g.2.1 99))]) hx hb dX6_tiesNow_1 rfl hl (by decide) rfl (fun ls hl => ?_)
  refine lv_iconst (v := 0) hx hb dX6_tiesNow_2 (by decide) ?_
  refine lv_istore_n (lv' := [(2, .int (0 : Int32)), (1, .int (0 : Int32)), (0, .ref (g.2.1 99))]) hx hb dX6_tiesNow_3 rfl hl (by decide) rfl (fun ls hl => ?_)
  have hL4 : ∀ (n : Nat) (x1_4 : Int32) (x2_4 : Int32) (H : Heap) (locs : List Loc) (ls : Array Slot), (0 ≤ x2_4.toInt ∧ x2_4.toInt ≤ (ga σ 0 (0 : Int32)).toInt) → ((ga σ 0 (0 : Int32)).toInt - x2_4.toInt).toNat < n → MH g σ s H locs → lv_has ls 4 [(0, .ref (g.2.1 99)), (1, .int x1_4), (2, .int x2_4)] → (∀ (x1_4' : Int32) (x2_4' : Int32) (H : Heap) (locs : List Loc) (ls : Array Slot), f_X6_tiesNow_L4 σ n x1_4 x2_4 = (x1_4', x2_4') → (0 ≤ x2_4'.toInt ∧ x2_4'.toInt ≤ (ga σ 0 (0 : Int32)).toInt) → MH g σ s H locs → lv_has ls 4 [(1, .int x1_4')] → W p l e ({ frames := 1, cells := 0, slots := 0, locals := 21 } : Room) s m args below meth c H locs 0 0 (MQ below (mQi g σ (f_X6_tiesNow σ) (fun u r => True)) args s 0 0 (mA g)) (F0 m 67 ls [])) → W p l e ({ frames := 1, cells := 0, slots := 0, locals := 21 } : Room) s m args below meth c H locs 0 0 (MQ below (mQi g σ (f_X6_tiesNow σ) (fun u r => True)) args s 0 0 (mA g)) (F0 m 4 ls []) := by
    intro n
    induction n with
    | zero =>
      intro x1_4 x2_4 H locs ls _ hm; exact absurd hm (Nat.not_lt_zero _)
    | succ n ih =>
      intro x1_4 x2_4 H locs ls hI4 hm h hl kk
      refine lv_iload_n hx hb dX6_tiesNow_4 rfl (lv_at hl 2 rfl) ?_
      refine lv_aload_n hx hb dX6_tiesNow_5 rfl (lv_at hl 0 rfl) ?_
      refine Mg_0 C h dX6_tiesNow_6 ?_
      refine lv_iconst (v := 0) hx hb dX6_tiesNow_9 (by decide) ?_
      refine Ml_0 C h (ix_of zl0 (by omega)) dX6_tiesNow_10 ?_
      refine lv_icmp_ge (tgt := 67) hx hb dX6_tiesNow_11 (by decide) (fun c11 => ?_) (fun c11 => ?_)
      · have i11 := c_le c11
        exact kk x1_4 x2_4 _ _ _ (show f_X6_tiesNow_L4 σ (n + 1) x1_4 x2_4 = (x1_4, x2_4) from (by exact ((if_pos c11).trans rfl)))  (by first | assumption | omega) h (lv_sub hl [1] rfl)
      · have i11 := c_nle c11
        refine lv_iconst (v := 0) hx hb dX6_tiesNow_14 (by decide) ?_
        refine lv_istore_n (lv' := [(3, .int (0 : Int32)), (0, .ref (g.2.1 99)), (1, .int x1_4), (2, .int x2_4)]) hx hb dX6_tiesNow_15 rfl hl (by decide) rfl (fun ls hl => ?_)
        have hL16 : ∀ (n : Nat) (x1_16 : Int32) (x3_16 : Int32) (H : Heap) (locs : List Loc) (ls : Array Slot), (0 ≤ x3_16.toInt ∧ x3_16.toInt ≤ x2_4.toInt) → (x2_4.toInt - x3_16.toInt).toNat < n → MH g σ s H locs → lv_has ls 4 [(0, .ref (g.2.1 99)), (1, .int x1_16), (2, .int x2_4), (3, .int x3_16)] → (∀ (x1_16' : Int32) (x3_16' : Int32) (H : Heap) (locs : List Loc) (ls : Array Slot), f_X6_tiesNow_L16 σ x2_4 n x1_16 x3_16 = (x1_16', x3_16') → (0 ≤ x3_16'.toInt ∧ x3_16'.toInt ≤ x2_4.toInt) → MH g σ s H locs → lv_has ls 4 [(0, .ref (g.2.1 99)), (1, .int x1_16'), (2, .int x2_4)] → W p l e ({ frames := 1, cells := 0, slots := 0, locals := 21 } : Room) s m args below meth c H locs 0 0 (MQ below (mQi g σ (f_X6_tiesNow σ) (fun u r => True)) args s 0 0 (mA g)) (F0 m 61 ls [])) → W p l e ({ frames := 1, cells := 0, slots := 0, locals := 21 } : Room) s m args below meth c H locs 0 0 (MQ below (mQi g σ (f_X6_tiesNow σ) (fun u r => True)) args s 0 0 (mA g)) (F0 m 16 ls []) := by
          intro n
          induction n with
          | zero =>
            intro x1_16 x3_16 H locs ls _ hm; exact absurd hm (Nat.not_lt_zero _)
          | succ n ih =>
            intro x1_16 x3_16 H locs ls hI16 hm h hl kk
            refine lv_iload_n hx hb dX6_tiesNow_16 rfl (lv_at hl 3 rfl) ?_
            refine lv_iload_n hx hb dX6_tiesNow_17 rfl (lv_at hl 2 rfl) ?_
            refine lv_icmp_ge (tgt := 61) hx hb dX6_tiesNow_18 (by decide) (fun c18 => ?_) (fun c18 => ?_)
            · have i18 := c_le c18
              exact kk x1_16 x3_16 _ _ _ (show f_X6_tiesNow_L16 σ x2_4 (n + 1) x1_16 x3_16 = (x1_16, x3_16) from (by exact ((if_pos c18).trans rfl)))  (by first | assumption | omega) h (lv_sub hl [0, 1, 2] rfl)
            · have i18 := c_nle c18
              refine lv_iload_n hx hb dX6_tiesNow_21 rfl (lv_at hl 1 rfl) ?_
              refine lv_aload_n hx hb dX6_tiesNow_22 rfl (lv_at hl 0 rfl) ?_
              refine Mg_0 C h dX6_tiesNow_23 ?_
              refine lv_iload_n hx hb dX6_tiesNow_26 rfl (lv_at hl 2 rfl) ?_
              refine lv_iload_n hx hb dX6_tiesNow_27 rfl (lv_at hl 3 rfl) ?_
              refine s_calli (As := [.int x2_4, .int x3_16]) (rest := [.ref (g.2.1 0), .int x1_16]) 2 C.1 (k_X6_debtRow l x2_4 x3_16) (lw_S q1970 q1971 q152 q1972) rfl rfl (by decide +kernel) ⟨Nat.le_of_ble_eq_true rfl, Nat.le_of_ble_eq_true rfl⟩ rfl hl.1 rfl (Nat.le_of_ble_eq_true rfl) ⟨Nat.le_of_ble_eq_true rfl, Nat.le_of_ble_eq_true rfl⟩ dX6_tiesNow_28 h.2.2 (fun r28 H locs er28 hz1 hk1 hS1 => ?_)
              have h := h.same hk1 hS1
              clear hz1 hk1 hS1
              have tr28 : r28.toInt = (((92) + ((6) * x2_4.toInt)) + x3_16.toInt) := by rw [er28]; exact (i_add (i_add zl92 (i_mul zl6 (rfl : x2_4.toInt = x2_4.toInt) (by omega)) (by omega)) (rfl : x3_16.toInt = x3_16.toInt) (by omega))
              refine Ml_0 C h (ix_of tr28 (by omega)) dX6_tiesNow_31 ?_
              have j53 : ∀ (t0_53 : Int32) (H : Heap) (locs : List Loc) (ls : Array Slot) (ej53 : (if (0 : Int32) < (ga σ 0 r28) then ((1 : Int32)) else ((let r41 := (f_X6_debtRow x3_16 x2_4); if (ga σ 0 r41) ≤ (0 : Int32) then ((0 : Int32)) else ((1 : Int32))))) = t0_53) (bt0_53 : t0_53 = 0 ∨ t0_53 = 1) (h : MH g σ s H locs) (hl : lv_has ls 4 [(0, .ref (g.2.1 99)), (2, .int x2_4), (3, .int x3_16)]), W p l e ({ frames := 1, cells := 0, slots := 0, locals := 21 } : Room) s m args below meth c H locs 0 0 (MQ below (mQi g σ (f_X6_tiesNow σ) (fun u r => True)) args s 0 0 (mA g)) (F0 m 53 ls [.int t0_53, .int x1_16]) := by
                intro t0_53 H locs ls ej53 bt0_53 h hl
                have et0_53 := ej53.symm
                refine lv_iadd hx hb dX6_tiesNow_53 ?_
                refine lv_topi (fun v54 ev54 => ?_)
                refine lv_istore_n (lv' := [(1, .int v54), (0, .ref (g.2.1 99)), (2, .int x2_4), (3, .int x3_16)]) hx hb dX6_tiesNow_54 rfl hl (by decide) rfl (fun ls hl => ?_)
                refine lv_iinc (v := (x3_16 + (1 : Int32))) (lv' := [(3, .int (x3_16 + (1 : Int32))), (1, .int v54), (0, .ref (g.2.1 99)), (2, .int x2_4)]) hx hb dX6_tiesNow_55 hl (k := 3) rfl rfl (by decide) rfl (fun ls hl => ?_)
                refine lv_goto (tgt := 16) hx hb dX6_tiesNow_58 (by decide) ?_
                have tt3 : (x3_16 + (1 : Int32)).toInt = (x3_16.toInt + (1)) := (i_add (rfl : x3_16.toInt = x3_16.toInt) zl1 (by omega))
                exact ih v54 (x3_16 + (1 : Int32)) _ _ _  (by first | assumption | omega) (by omega) h (lv_sub hl [2, 1, 3, 0] rfl) (fun x1_16' x3_16' H locs ls en hI h hl => kk x1_16' x3_16' H locs ls ((show f_X6_tiesNow_L16 σ x2_4 (n + 1) x1_16 x3_16 = f_X6_tiesNow_L16 σ x2_4 n v54 (x3_16 + (1 : Int32)) from (by subst er28; subst et0_53; subst ev54; exact ((if_neg c18).trans rfl))).trans en) hI h hl)
              refine lv_if_gt (tgt := 48) hx hb dX6_tiesNow_32 (by decide) (fun c32 => ?_) (fun c32 => ?_)
              · have i32 := c_lt c32
                refine lv_iconst (v := 1) hx hb dX6_tiesNow_48 (by decide) ?_
                refine lv_goto (tgt := 53) hx hb dX6_tiesNow_49 (by decide) ?_
                exact j53 _ _ _ _ (by exact ((if_pos c32).trans rfl)) (Or.inr rfl) h (lv_sub hl [0, 2, 3] rfl)
              · have i32 := c_nlt c32
                refine lv_aload_n hx hb dX6_tiesNow_35 rfl (lv_at hl 0 rfl) ?_
                refine Mg_0 C h dX6_tiesNow_36 ?_
                refine lv_iload_n hx hb dX6_tiesNow_39 rfl (lv_at hl 3 rfl) ?_
                refine lv_iload_n hx hb dX6_tiesNow_40 rfl (lv_at hl 2 rfl) ?_
                refine s_calli (As := [.int x3_16, .int x2_4]) (rest := [.ref (g.2.1 0), .int x1_16]) 2 C.1 (k_X6_debtRow l x3_16 x2_4) (lw_S q1970 q1971 q152 q1972) rfl rfl (by decide +kernel) ⟨Nat.le_of_ble_eq_true rfl, Nat.le_of_ble_eq_true rfl⟩ rfl hl.1 rfl (Nat.le_of_ble_eq_true rfl) ⟨Nat.le_of_ble_eq_true rfl, Nat.le_of_ble_eq_true rfl⟩ dX6_tiesNow_41 h.2.2 (fun r41 H locs er41 hz1 hk1 hS1 => ?_)
                have h := h.same hk1 hS1
                clear hz1 hk1 hS1
                have tr41 : r41.toInt = (((92) + ((6) * x3_16.toInt)) + x2_4.toInt) := by rw [er41]; exact (i_add (i_add zl92 (i_mul zl6 (rfl : x3_16.toInt = x3_16.toInt) (by omega)) (by omega)) (rfl : x2_4.toInt = x2_4.toInt) (by omega))
                refine Ml_0 C h (ix_of tr41 (by omega)) dX6_tiesNow_44 ?_
                refine lv_if_le (tgt := 52) hx hb dX6_tiesNow_45 (by decide) (fun c45 => ?_) (fun c45 => ?_)
                · have i45 := c_le c45
                  refine lv_iconst (v := 0) hx hb dX6_tiesNow_52 (by decide) ?_
                  exact j53 _ _ _ _ (by subst er41; exact ((if_neg c32).trans ((if_pos c45).trans rfl))) (Or.inl rfl) h (lv_sub hl [0, 2, 3] rfl)
                · have i45 := c_nle c45
                  refine lv_iconst (v := 1) hx hb dX6_tiesNow_48 (by decide) ?_
                  refine lv_goto (tgt := 53) hx hb dX6_tiesNow_49 (by decide) ?_
                  exact j53 _ _ _ _ (by subst er41; exact ((if_neg c32).trans ((if_neg c45).trans rfl))) (Or.inr rfl) h (lv_sub hl [0, 2, 3] rfl)
        refine hL16 (7) x1_4 (0 : Int32) _ _ _  (by first | assumption | omega) (by omega) h (lv_sub hl [1, 2, 3, 0] rfl) (fun x1_16e x3_16e H locs ls eL16 hI16 h hl => ?_)
        have ex1_16e : x1_16e = (f_X6_tiesNow_L16 σ x2_4 (7) x1_4 (0 : Int32)).1 := by rw [eL16]
        have ex3_16e : x3_16e = (f_X6_tiesNow_L16 σ x2_4 (7) x1_4 (0 : Int32)).2 := by rw [eL16]
        refine lv_iinc (v := (x2_4 + (1 : Int32))) (lv' := [(2, .int (x2_4 + (1 : Int32))), (0, .ref (g.2.1 99)), (1, .int x1_16e)]) hx hb dX6_tiesNow_61 hl (k := 2) rfl rfl (by decide) rfl (fun ls hl => ?_)
        refine lv_goto (tgt := 4) hx hb dX6_tiesNow_64 (by decide) ?_
        have tt2 : (x2_4 + (1 : Int32)).toInt = (x2_4.toInt + (1)) := (i_add (rfl : x2_4.toInt = x2_4.toInt) zl1 (by omega))
        exact ih x1_16e (x2_4 + (1 : Int32)) _ _ _  (by first | assumption | omega) (by omega) h (lv_sub hl [1, 2, 0] rfl) (fun x1_4' x2_4' H locs ls en hI h hl => kk x1_4' x2_4' H locs ls ((show f_X6_tiesNow_L4 σ (n + 1) x1_4 x2_4 = f_X6_tiesNow_L4 σ n x1_16e (x2_4 + (1 : Int32)) from (by subst ex1_16e; subst ex3_16e; exact ((if_neg c11).trans rfl))).trans en) hI h hl)
  refine hL4 (7) (0 : Int32) (0 : Int32) _ _ _  (by first | assumption | omega) (by omega) h (lv_sub hl [2, 1, 0] rfl) (fun x1_4e x2_4e H locs ls eL4 hI4 h hl => ?_)
  have ex1_4e : x1_4e = (f_X6_tiesNow_L4 σ (7) (0 : Int32) (0 : Int32)).1 := by rw [eL4]
  have ex2_4e : x2_4e = (f_X6_tiesNow_L4 σ (7) (0 : Int32) (0 : Int32)).2 := by rw [eL4]
  refine lv_iload_n hx hb dX6_tiesNow_67 rfl (lv_at hl 0 rfl) ?_
  have he : f_X6_tiesNow σ = x1_4e := (by subst ex1_4e; subst ex2_4e; exact rfl)
  exact M_reti C h hr hlocks rfl he trivial dX6_tiesNow_68
def f_X6_ties (σ : MS) : MS × Int32 := (let r2 := (f_X6_tiesNow σ); let z5 := (f_X6_gives σ r2); let σ5 := z5.1; let r5 := z5.2; (σ5, r5))
set_option maxHeartbeats 4000000 in
set_option maxRecDepth 100000 in
theorem k_X6_ties (l : Launch) (g : GE) (σ : MS) (hp : 0 ≤ (ga σ 0 (0 : Int32)).toInt ∧ (ga σ 0 (0 : Int32)).toInt ≤ 6) : Met l yX6_ties (ws_ yX6_ties cX6_ties 1 (some .int)) ({ frames := 2, cells := 0, slots := 0, locals := 44 } : Room) (mPc g σ []) (mQi g (f_X6_ties σ).1 (f_X6_ties σ).2 (fun u r => ((ga u 0 (0 : Int32)).toInt = (ga σ 0 (0 : Int32)).toInt))) 0 0 (mA g) := by
  refine met_M (by decide) rfl (Nat.le_of_ble_eq_true rfl) ?_
  intro p e s m args below meth c C hr hlocks h ls hl
  have hx := C.1.1
  have hb := C.1.2.1
  have hml := C.1.2.2.1
  have hown := C.1.2.2.2.1
  have hts := C.1.2.2.2.2
  have hl : lv_has ls 1 [(0, .ref (g.2.1 99))] := hl
  have hpq : (ga σ 0 (0 : Int32)).toInt = (ga σ 0 (0 : Int32)).toInt := rfl
  refine lv_aload_n hx hb dX6_ties_0 rfl (lv_at hl 0 rfl) ?_
  refine lv_aload_n hx hb dX6_ties_1 rfl (lv_at hl 0 rfl) ?_
  refine M_calli (As := []) (rest := [.ref (g.2.1 99)]) 0 C h (k_X6_tiesNow l g σ (by first | assumption | omega)) (lw_V q2085 q2087 qs122 q152 q2088) rfl rfl (by decide +kernel) ⟨Nat.le_of_ble_eq_true rfl, Nat.le_of_ble_eq_true rfl⟩ rfl hl.1 rfl (Nat.le_of_ble_eq_true rfl) ⟨Nat.le_of_ble_eq_true rfl, Nat.le_of_ble_eq_true rfl⟩ dX6_ties_2 (fun r2 σ2 H locs eσ2 er2 hE2 h => ?_)
  rw [eσ2] at h
  clear hE2
  clear eσ2
  refine M_calli (As := [.int r2]) (rest := []) 1 C h (k_X6_gives l g σ r2) (lw_V q1806 q1808 qs91 q152 q1809) rfl rfl (by decide +kernel) ⟨Nat.le_of_ble_eq_true rfl, Nat.le_of_ble_eq_true rfl⟩ rfl hl.1 rfl (Nat.le_of_ble_eq_true rfl) ⟨Nat.le_of_ble_eq_true rfl, Nat.le_of_ble_eq_true rfl⟩ dX6_ties_5 (fun r5 σ5 H locs eσ5 er5 hE5 h => ?_)
  clear hE5
  have hNEW : (0 ≤ (ga σ5 0 (0 : Int32)).toInt ∧ (ga σ5 0 (0 : Int32)).toInt ≤ 6) ∧ ((ga σ5 0 (0 : Int32)).toInt = (ga σ 0 (0 : Int32)).toInt) := ⟨(by rw [eσ5, gives_s] <;> exact hp), (by rw [eσ5, gives_s] <;> exact hpq)⟩
  obtain ⟨hp, hpq⟩ := hNEW
  have he : f_X6_ties σ = (σ5, r5) := (by subst er2; subst eσ5; subst er5; exact rfl)
  exact M_reti C h hr hlocks (congrArg Prod.fst he) (congrArg Prod.snd he) hpq dX6_ties_8
def f_X6_leastLeft_L4 (σ : MS) : Nat → Int32 → Int32 → Int32 × Int32
  | 0, x1_4, x2_4 => (x1_4, x2_4)
  | n + 1, x1_4, x2_4 => if (ga σ 0 (0 : Int32)) ≤ x2_4 then ((x1_4, x2_4)) else (if x1_4 = (-1 : Int32) then (f_X6_leastLeft_L4 σ n x2_4 (x2_4 + (1 : Int32))) else (if (ga σ 25 x1_4) ≤ (ga σ 25 x2_4) then (f_X6_leastLeft_L4 σ n x1_4 (x2_4 + (1 : Int32))) else (f_X6_leastLeft_L4 σ n x2_4 (x2_4 + (1 : Int32)))))
def f_X6_leastLeft (σ : MS) : Int32 := (let zL4 := f_X6_leastLeft_L4 σ (7) (-1 : Int32) (0 : Int32); let x1_4e := zL4.1; let x2_4e := zL4.2; x1_4e)
set_option maxHeartbeats 4000000 in
set_option maxRecDepth 100000 in
theorem k_X6_leastLeft (l : Launch) (g : GE) (σ : MS) (hp : 0 ≤ (ga σ 0 (0 : Int32)).toInt ∧ (ga σ 0 (0 : Int32)).toInt ≤ 6) : Met l yX6_leastLeft (ws_ yX6_leastLeft cX6_leastLeft 3 (some .int)) ({ frames := 0, cells := 0, slots := 0, locals := 0 } : Room) (mPc g σ []) (mQi g σ (f_X6_leastLeft σ) (fun u r => (-1 ≤ r.toInt ∧ r.toInt < (ga u 0 (0 : Int32)).toInt ∧ (0 < (ga u 0 (0 : Int32)).toInt → 0 ≤ r.toInt)))) 0 0 (mA g) := by
  refine met_M (by decide) rfl (Nat.le_of_ble_eq_true rfl) ?_
  intro p e s m args below meth c C hr hlocks h ls hl
  have hx := C.1.1
  have hb := C.1.2.1
  have hml := C.1.2.2.1
  have hown := C.1.2.2.2.1
  have hts := C.1.2.2.2.2
  have hl : lv_has ls 3 [(0, .ref (g.2.1 99))] := hl
  have zlm1 : (-1 : Int32).toInt = -1 := rfl
  have zl0 : (0 : Int32).toInt = 0 := rfl
  have zl1 : (1 : Int32).toInt = 1 := rfl
  refine lv_iconst (v := -1) hx hb dX6_leastLeft_0 (by decide) ?_
  refine lv_istore_n (lv' := [(1, .int (-1 : Int32)), (0, .ref (g.2.1 99))]) hx hb dX6_leastLeft_1 rfl hl (by decide) rfl (fun ls hl => ?_)
  refine lv_iconst (v := 0) hx hb dX6_leastLeft_2 (by decide) ?_
  refine lv_istore_n (lv' := [(2, .int (0 : Int32)), (1, .int (-1 : Int32)), (0, .ref (g.2.1 99))]) hx hb dX6_leastLeft_3 rfl hl (by decide) rfl (fun ls hl => ?_)
  have hL4 : ∀ (n : Nat) (x1_4 : Int32) (x2_4 : Int32) (H : Heap) (locs : List Loc) (ls : Array Slot), (0 ≤ x2_4.toInt ∧ x2_4.toInt ≤ (ga σ 0 (0 : Int32)).toInt ∧ -1 ≤ x1_4.toInt ∧ x1_4.toInt < x2_4.toInt ∧ (0 < x2_4.toInt → 0 ≤ x1_4.toInt)) → ((ga σ 0 (0 : Int32)).toInt - x2_4.toInt).toNat < n → MH g σ s H locs → lv_has ls 3 [(0, .ref (g.2.1 99)), (1, .int x1_4), (2, .int x2_4)] → (∀ (x1_4' : Int32) (x2_4' : Int32) (H : Heap) (locs : List Loc) (ls : Array Slot), f_X6_leastLeft_L4 σ n x1_4 x2_4 = (x1_4', x2_4') → ((-1 ≤ x1_4'.toInt ∧ x1_4'.toInt < (ga σ 0 (0 : Int32)).toInt) ∧ (0 < (ga σ 0 (0 : Int32)).toInt → 0 ≤ x1_4'.toInt)) → MH g σ s H locs → lv_has ls 3 [(1, .int x1_4')] → W p l e ({ frames := 0, cells := 0, slots := 0, locals := 0 } : Room) s m args below meth c H locs 0 0 (MQ below (mQi g σ (f_X6_leastLeft σ) (fun u r => (-1 ≤ r.toInt ∧ r.toInt < (ga u 0 (0 : Int32)).toInt ∧ (0 < (ga u 0 (0 : Int32)).toInt → 0 ≤ r.toInt)))) args s 0 0 (mA g)) (F0 m 42 ls [])) → W p l e ({ frames := 0, cells := 0, slots := 0, locals := 0 } : Room) s m args below meth c H locs 0 0 (MQ below (mQi g σ (f_X6_leastLeft σ) (fun u r => (-1 ≤ r.toInt ∧ r.toInt < (ga u 0 (0 : Int32)).toInt ∧ (0 < (ga u 0 (0 : Int32)).toInt → 0 ≤ r.toInt)))) args s 0 0 (mA g)) (F0 m 4 ls []) := by
    intro n
    induction n with
    | zero =>
      intro x1_4 x2_4 H locs ls _ hm; exact absurd hm (Nat.not_lt_zero _)
    | succ n ih =>
      intro x1_4 x2_4 H locs ls hI4 hm h hl kk
      refine lv_iload_n hx hb dX6_leastLeft_4 rfl (lv_at hl 2 rfl) ?_
      refine lv_aload_n hx hb dX6_leastLeft_5 rfl (lv_at hl 0 rfl) ?_
      refine Mg_0 C h dX6_leastLeft_6 ?_
      refine lv_iconst (v := 0) hx hb dX6_leastLeft_9 (by decide) ?_
      refine Ml_0 C h (ix_of zl0 (by omega)) dX6_leastLeft_10 ?_
      refine lv_icmp_ge (tgt := 42) hx hb dX6_leastLeft_11 (by decide) (fun c11 => ?_) (fun c11 => ?_)
      · have i11 := c_le c11
        exact kk x1_4 x2_4 _ _ _ (show f_X6_leastLeft_L4 σ (n + 1) x1_4 x2_4 = (x1_4, x2_4) from (by exact ((if_pos c11).trans rfl)))  (by first | assumption | omega) h (lv_sub hl [1] rfl)
      · have i11 := c_nle c11
        refine lv_iload_n hx hb dX6_leastLeft_14 rfl (lv_at hl 1 rfl) ?_
        refine lv_iconst (v := -1) hx hb dX6_leastLeft_15 (by decide) ?_
        refine lv_icmp_eq (tgt := 34) hx hb dX6_leastLeft_16 (by decide) (fun c16 => ?_) (fun c16 => ?_)
        · have i16 := c_eq c16
          refine lv_iload_n hx hb dX6_leastLeft_34 rfl (lv_at hl 2 rfl) ?_
          refine lv_istore_n (lv' := [(1, .int x2_4), (0, .ref (g.2.1 99)), (2, .int x2_4)]) hx hb dX6_leastLeft_35 rfl hl (by decide) rfl (fun ls hl => ?_)
          refine lv_iinc (v := (x2_4 + (1 : Int32))) (lv' := [(2, .int (x2_4 + (1 : Int32))), (1, .int x2_4), (0, .ref (g.2.1 99))]) hx hb dX6_leastLeft_36 hl (k := 2) rfl rfl (by decide) rfl (fun ls hl => ?_)
          refine lv_goto (tgt := 4) hx hb dX6_leastLeft_39 (by decide) ?_
          have tt2 : (x2_4 + (1 : Int32)).toInt = (x2_4.toInt + (1)) := (i_add (rfl : x2_4.toInt = x2_4.toInt) zl1 (by omega))
          exact ih x2_4 (x2_4 + (1 : Int32)) _ _ _  (by first | assumption | omega) (by omega) h (lv_sub hl [2, 1, 0] rfl) (fun x1_4' x2_4' H locs ls en hI h hl => kk x1_4' x2_4' H locs ls ((show f_X6_leastLeft_L4 σ (n + 1) x1_4 x2_4 = f_X6_leastLeft_L4 σ n x2_4 (x2_4 + (1 : Int32)) from (by exact ((if_neg c11).trans ((if_pos c16).trans rfl)))).trans en) hI h hl)
        · have i16 := c_ne c16
          refine lv_aload_n hx hb dX6_leastLeft_19 rfl (lv_at hl 0 rfl) ?_
          refine Mg_25 C h dX6_leastLeft_20 ?_
          refine lv_iload_n hx hb dX6_leastLeft_23 rfl (lv_at hl 2 rfl) ?_
          refine Ml_25 C h (ix_of (rfl : x2_4.toInt = x2_4.toInt) (by omega)) dX6_leastLeft_24 ?_
          refine lv_aload_n hx hb dX6_leastLeft_25 rfl (lv_at hl 0 rfl) ?_
          refine Mg_25 C h dX6_leastLeft_26 ?_
          refine lv_iload_n hx hb dX6_leastLeft_29 rfl (lv_at hl 1 rfl) ?_
          refine Ml_25 C h (ix_of (rfl : x1_4.toInt = x1_4.toInt) (by omega)) dX6_leastLeft_30 ?_
          refine lv_icmp_ge (tgt := 36) hx hb dX6_leastLeft_31 (by decide) (fun c31 => ?_) (fun c31 => ?_)
          · have i31 := c_le c31
            refine lv_iinc (v := (x2_4 + (1 : Int32))) (lv' := [(2, .int (x2_4 + (1 : Int32))), (0, .ref (g.2.1 99)), (1, .int x1_4)]) hx hb dX6_leastLeft_36 hl (k := 2) rfl rfl (by decide) rfl (fun ls hl => ?_)
            refine lv_goto (tgt := 4) hx hb dX6_leastLeft_39 (by decide) ?_
            have tt2 : (x2_4 + (1 : Int32)).toInt = (x2_4.toInt + (1)) := (i_add (rfl : x2_4.toInt = x2_4.toInt) zl1 (by omega))
            exact ih x1_4 (x2_4 + (1 : Int32)) _ _ _  (by first | assumption | omega) (by omega) h (lv_sub hl [1, 2, 0] rfl) (fun x1_4' x2_4' H locs ls en hI h hl => kk x1_4' x2_4' H locs ls ((show f_X6_leastLeft_L4 σ (n + 1) x1_4 x2_4 = f_X6_leastLeft_L4 σ n x1_4 (x2_4 + (1 : Int32)) from (by exact ((if_neg c11).trans ((if_neg c16).trans ((if_pos c31).trans rfl))))).trans en) hI h hl)
          · have i31 := c_nle c31
            refine lv_iload_n hx hb dX6_leastLeft_34 rfl (lv_at hl 2 rfl) ?_
            refine lv_istore_n (lv' := [(1, .int x2_4), (0, .ref (g.2.1 99)), (2, .int x2_4)]) hx hb dX6_leastLeft_35 rfl hl (by decide) rfl (fun ls hl => ?_)
            refine lv_iinc (v := (x2_4 + (1 : Int32))) (lv' := [(2, .int (x2_4 + (1 : Int32))), (1, .int x2_4), (0, .ref (g.2.1 99))]) hx hb dX6_leastLeft_36 hl (k := 2) rfl rfl (by decide) rfl (fun ls hl => ?_)
            refine lv_goto (tgt := 4) hx hb dX6_leastLeft_39 (by decide) ?_
            have tt2 : (x2_4 + (1 : Int32)).toInt = (x2_4.toInt + (1)) := (i_add (rfl : x2_4.toInt = x2_4.toInt) zl1 (by omega))
            exact ih x2_4 (x2_4 + (1 : Int32)) _ _ _  (by first | assumption | omega) (by omega) h (lv_sub hl [2, 1, 0] rfl) (fun x1_4' x2_4' H locs ls en hI h hl => kk x1_4' x2_4' H locs ls ((show f_X6_leastLeft_L4 σ (n + 1) x1_4 x2_4 = f_X6_leastLeft_L4 σ n x2_4 (x2_4 + (1 : Int32)) from (by exact ((if_neg c11).trans ((if_neg c16).trans ((if_neg c31).trans rfl))))).trans en) hI h hl)
  refine hL4 (7) (-1 : Int32) (0 : Int32) _ _ _  (by first | assumption | omega) (by omega) h (lv_sub hl [2, 1, 0] rfl) (fun x1_4e x2_4e H locs ls eL4 hI4 h hl => ?_)
  have ex1_4e : x1_4e = (f_X6_leastLeft_L4 σ (7) (-1 : Int32) (0 : Int32)).1 := by rw [eL4]
  have ex2_4e : x2_4e = (f_X6_leastLeft_L4 σ (7) (-1 : Int32) (0 : Int32)).2 := by rw [eL4]
  refine lv_iload_n hx hb dX6_leastLeft_42 rfl (lv_at hl 0 rfl) ?_
  have he : f_X6_leastLeft σ = x1_4e := (by subst ex1_4e; subst ex2_4e; exact rfl)
  exact M_reti C h hr hlocks rfl he (by first | assumption | omega | (unfold Hd; omega)) dX6_leastLeft_43
theorem mx_step {L : Int32 → Int} {b b' p : Int32} (h : ∀ q : Int32, 0 ≤ q.toInt → q.toInt < p.toInt → L q ≤ L b) (hb : L b ≤ L b') (hp : L p ≤ L b') : ∀ q : Int32, 0 ≤ q.toInt → q.toInt ≤ p.toInt → L q ≤ L b' := by
  intro q h0 h1
  rcases (show q.toInt < p.toInt ∨ q.toInt = p.toInt by omega) with z | z
  · exact Int.le_trans (h q h0 z) hb
  · rw [Int32.toInt_inj.mp z]; exact hp
def f_X6_mostLeft_L4 (σ : MS) : Nat → Int32 → Int32 → Int32 × Int32
  | 0, x1_4, x2_4 => (x1_4, x2_4)
  | n + 1, x1_4, x2_4 => if (ga σ 0 (0 : Int32)) ≤ x2_4 then ((x1_4, x2_4)) else (if x1_4 = (-1 : Int32) then (f_X6_mostLeft_L4 σ n x2_4 (x2_4 + (1 : Int32))) else (if (ga σ 25 x2_4) ≤ (ga σ 25 x1_4) then (f_X6_mostLeft_L4 σ n x1_4 (x2_4 + (1 : Int32))) else (f_X6_mostLeft_L4 σ n x2_4 (x2_4 + (1 : Int32)))))
def f_X6_mostLeft (σ : MS) : Int32 := (let zL4 := f_X6_mostLeft_L4 σ (7) (-1 : Int32) (0 : Int32); let x1_4e := zL4.1; let x2_4e := zL4.2; x1_4e)
set_option maxHeartbeats 4000000 in
set_option maxRecDepth 100000 in
theorem k_X6_mostLeft (l : Launch) (g : GE) (σ : MS) (hp : 0 ≤ (ga σ 0 (0 : Int32)).toInt ∧ (ga σ 0 (0 : Int32)).toInt ≤ 6) : Met l yX6_mostLeft (ws_ yX6_mostLeft cX6_mostLeft 3 (some .int)) ({ frames := 0, cells := 0, slots := 0, locals := 0 } : Room) (mPc g σ []) (mQi g σ (f_X6_mostLeft σ) (fun u r => (-1 ≤ r.toInt ∧ r.toInt < (ga u 0 (0 : Int32)).toInt ∧ (0 < (ga u 0 (0 : Int32)).toInt → 0 ≤ r.toInt)) ∧ (∀ q : Int32, 0 ≤ q.toInt → q.toInt < (ga σ 0 (0 : Int32)).toInt → (ga σ 25 q).toInt ≤ (ga σ 25 r).toInt))) 0 0 (mA g) := by
  refine met_M (by decide) rfl (Nat.le_of_ble_eq_true rfl) ?_
  intro p e s m args below meth c C hr hlocks h ls hl
  have hx := C.1.1
  have hb := C.1.2.1
  have hml := C.1.2.2.1
  have hown := C.1.2.2.2.1
  have hts := C.1.2.2.2.2
  have hl : lv_has ls 3 [(0, .ref (g.2.1 99))] := hl
  have zlm1 : (-1 : Int32).toInt = -1 := rfl
  have zl0 : (0 : Int32).toInt = 0 := rfl
  have zl1 : (1 : Int32).toInt = 1 := rfl
  refine lv_iconst (v := -1) hx hb dX6_mostLeft_0 (by decide) ?_
  refine lv_istore_n (lv' := [(1, .int (-1 : Int32)), (0, .ref (g.2.1 99))]) hx hb dX6_mostLeft_1 rfl hl (by decide) rfl (fun ls hl => ?_)
  refine lv_iconst (v := 0) hx hb dX6_mostLeft_2 (by decide) ?_
  refine lv_istore_n (lv' := [(2, .int (0 : Int32)), (1, .int (-1 : Int32)), (0, .ref (g.2.1 99))]) hx hb dX6_mostLeft_3 rfl hl (by decide) rfl (fun ls hl => ?_)
  have hL4 : ∀ (n : Nat) (x1_4 : Int32) (x2_4 : Int32) (H : Heap) (locs : List Loc) (ls : Array Slot), (0 ≤ x2_4.toInt ∧ x2_4.toInt ≤ (ga σ 0 (0 : Int32)).toInt ∧ -1 ≤ x1_4.toInt ∧ x1_4.toInt < x2_4.toInt ∧ (0 < x2_4.toInt → 0 ≤ x1_4.toInt) ∧ (∀ q : Int32, 0 ≤ q.toInt → q.toInt < x2_4.toInt → (ga σ 25 q).toInt ≤ (ga σ 25 x1_4).toInt)) → ((ga σ 0 (0 : Int32)).toInt - x2_4.toInt).toNat < n → MH g σ s H locs → lv_has ls 3 [(0, .ref (g.2.1 99)), (1, .int x1_4), (2, .int x2_4)] → (∀ (x1_4' : Int32) (x2_4' : Int32) (H : Heap) (locs : List Loc) (ls : Array Slot), f_X6_mostLeft_L4 σ n x1_4 x2_4 = (x1_4', x2_4') → ((-1 ≤ x1_4'.toInt ∧ x1_4'.toInt < (ga σ 0 (0 : Int32)).toInt) ∧ (0 < (ga σ 0 (0 : Int32)).toInt → 0 ≤ x1_4'.toInt) ∧ (∀ q : Int32, 0 ≤ q.toInt → q.toInt < (ga σ 0 (0 : Int32)).toInt → (ga σ 25 q).toInt ≤ (ga σ 25 x1_4').toInt)) → MH g σ s H locs → lv_has ls 3 [(1, .int x1_4')] → W p l e ({ frames := 0, cells := 0, slots := 0, locals := 0 } : Room) s m args below meth c H locs 0 0 (MQ below (mQi g σ (f_X6_mostLeft σ) (fun u r => (-1 ≤ r.toInt ∧ r.toInt < (ga u 0 (0 : Int32)).toInt ∧ (0 < (ga u 0 (0 : Int32)).toInt → 0 ≤ r.toInt)) ∧ (∀ q : Int32, 0 ≤ q.toInt → q.toInt < (ga σ 0 (0 : Int32)).toInt → (ga σ 25 q).toInt ≤ (ga σ 25 r).toInt))) args s 0 0 (mA g)) (F0 m 42 ls [])) → W p l e ({ frames := 0, cells := 0, slots := 0, locals := 0 } : Room) s m args below meth c H locs 0 0 (MQ below (mQi g σ (f_X6_mostLeft σ) (fun u r => (-1 ≤ r.toInt ∧ r.toInt < (ga u 0 (0 : Int32)).toInt ∧ (0 < (ga u 0 (0 : Int32)).toInt → 0 ≤ r.toInt)) ∧ (∀ q : Int32, 0 ≤ q.toInt → q.toInt < (ga σ 0 (0 : Int32)).toInt → (ga σ 25 q).toInt ≤ (ga σ 25 r).toInt))) args s 0 0 (mA g)) (F0 m 4 ls []) := by
    intro n
    induction n with
    | zero =>
      intro x1_4 x2_4 H locs ls _ hm; exact absurd hm (Nat.not_lt_zero _)
    | succ n ih =>
      intro x1_4 x2_4 H locs ls hI4 hm h hl kk
      refine lv_iload_n hx hb dX6_mostLeft_4 rfl (lv_at hl 2 rfl) ?_
      refine lv_aload_n hx hb dX6_mostLeft_5 rfl (lv_at hl 0 rfl) ?_
      refine Mg_0 C h dX6_mostLeft_6 ?_
      refine lv_iconst (v := 0) hx hb dX6_mostLeft_9 (by decide) ?_
      refine Ml_0 C h (ix_of zl0 (by omega)) dX6_mostLeft_10 ?_
      refine lv_icmp_ge (tgt := 42) hx hb dX6_mostLeft_11 (by decide) (fun c11 => ?_) (fun c11 => ?_)
      · have i11 := c_le c11
        exact kk x1_4 x2_4 _ _ _ (show f_X6_mostLeft_L4 σ (n + 1) x1_4 x2_4 = (x1_4, x2_4) from (by exact ((if_pos c11).trans rfl)))  ⟨by omega, by omega, fun q h0 h1 => hI4.2.2.2.2.2 q h0 (by omega)⟩ h (lv_sub hl [1] rfl)
      · have i11 := c_nle c11
        refine lv_iload_n hx hb dX6_mostLeft_14 rfl (lv_at hl 1 rfl) ?_
        refine lv_iconst (v := -1) hx hb dX6_mostLeft_15 (by decide) ?_
        refine lv_icmp_eq (tgt := 34) hx hb dX6_mostLeft_16 (by decide) (fun c16 => ?_) (fun c16 => ?_)
        · have i16 := c_eq c16
          refine lv_iload_n hx hb dX6_mostLeft_34 rfl (lv_at hl 2 rfl) ?_
          refine lv_istore_n (lv' := [(1, .int x2_4), (0, .ref (g.2.1 99)), (2, .int x2_4)]) hx hb dX6_mostLeft_35 rfl hl (by decide) rfl (fun ls hl => ?_)
          refine lv_iinc (v := (x2_4 + (1 : Int32))) (lv' := [(2, .int (x2_4 + (1 : Int32))), (1, .int x2_4), (0, .ref (g.2.1 99))]) hx hb dX6_mostLeft_36 hl (k := 2) rfl rfl (by decide) rfl (fun ls hl => ?_)
          refine lv_goto (tgt := 4) hx hb dX6_mostLeft_39 (by decide) ?_
          have tt2 : (x2_4 + (1 : Int32)).toInt = (x2_4.toInt + (1)) := (i_add (rfl : x2_4.toInt = x2_4.toInt) zl1 (by omega))
          exact ih x2_4 (x2_4 + (1 : Int32)) _ _ _  (by first | exact ⟨by omega, by omega, by omega, by omega, by omega, fun q h0 h1 => mx_step (L := fun z => (ga σ 25 z).toInt) (b := x2_4) (b' := x2_4) (p := x2_4) (fun q h0 h1 => absurd h1 (by omega)) (Int.le_refl _) (Int.le_refl _) q h0 (by omega)⟩ | exact ⟨by omega, by omega, by omega, by omega, by omega, fun q h0 h1 => mx_step (L := fun z => (ga σ 25 z).toInt) (b := x1_4) (b' := x1_4) (p := x2_4) hI4.2.2.2.2.2 (Int.le_refl _) (by show (ga σ 25 x2_4).toInt ≤ (ga σ 25 x1_4).toInt; omega) q h0 (by omega)⟩ | exact ⟨by omega, by omega, by omega, by omega, by omega, fun q h0 h1 => mx_step (L := fun z => (ga σ 25 z).toInt) (b := x1_4) (b' := x2_4) (p := x2_4) hI4.2.2.2.2.2 (by show (ga σ 25 x1_4).toInt ≤ (ga σ 25 x2_4).toInt; omega) (Int.le_refl _) q h0 (by omega)⟩) (by omega) h (lv_sub hl [2, 1, 0] rfl) (fun x1_4' x2_4' H locs ls en hI h hl => kk x1_4' x2_4' H locs ls ((show f_X6_mostLeft_L4 σ (n + 1) x1_4 x2_4 = f_X6_mostLeft_L4 σ n x2_4 (x2_4 + (1 : Int32)) from (by exact ((if_neg c11).trans ((if_pos c16).trans rfl)))).trans en) hI h hl)
        · have i16 := c_ne c16
          refine lv_aload_n hx hb dX6_mostLeft_19 rfl (lv_at hl 0 rfl) ?_
          refine Mg_25 C h dX6_mostLeft_20 ?_
          refine lv_iload_n hx hb dX6_mostLeft_23 rfl (lv_at hl 2 rfl) ?_
          refine Ml_25 C h (ix_of (rfl : x2_4.toInt = x2_4.toInt) (by omega)) dX6_mostLeft_24 ?_
          refine lv_aload_n hx hb dX6_mostLeft_25 rfl (lv_at hl 0 rfl) ?_
          refine Mg_25 C h dX6_mostLeft_26 ?_
          refine lv_iload_n hx hb dX6_mostLeft_29 rfl (lv_at hl 1 rfl) ?_
          refine Ml_25 C h (ix_of (rfl : x1_4.toInt = x1_4.toInt) (by omega)) dX6_mostLeft_30 ?_
          refine lv_icmp_le (tgt := 36) hx hb dX6_mostLeft_31 (by decide) (fun c31 => ?_) (fun c31 => ?_)
          · have i31 := c_le c31
            refine lv_iinc (v := (x2_4 + (1 : Int32))) (lv' := [(2, .int (x2_4 + (1 : Int32))), (0, .ref (g.2.1 99)), (1, .int x1_4)]) hx hb dX6_mostLeft_36 hl (k := 2) rfl rfl (by decide) rfl (fun ls hl => ?_)
            refine lv_goto (tgt := 4) hx hb dX6_mostLeft_39 (by decide) ?_
            have tt2 : (x2_4 + (1 : Int32)).toInt = (x2_4.toInt + (1)) := (i_add (rfl : x2_4.toInt = x2_4.toInt) zl1 (by omega))
            exact ih x1_4 (x2_4 + (1 : Int32)) _ _ _  (by first | exact ⟨by omega, by omega, by omega, by omega, by omega, fun q h0 h1 => mx_step (L := fun z => (ga σ 25 z).toInt) (b := x2_4) (b' := x2_4) (p := x2_4) (fun q h0 h1 => absurd h1 (by omega)) (Int.le_refl _) (Int.le_refl _) q h0 (by omega)⟩ | exact ⟨by omega, by omega, by omega, by omega, by omega, fun q h0 h1 => mx_step (L := fun z => (ga σ 25 z).toInt) (b := x1_4) (b' := x1_4) (p := x2_4) hI4.2.2.2.2.2 (Int.le_refl _) (by show (ga σ 25 x2_4).toInt ≤ (ga σ 25 x1_4).toInt; omega) q h0 (by omega)⟩ | exact ⟨by omega, by omega, by omega, by omega, by omega, fun q h0 h1 => mx_step (L := fun z => (ga σ 25 z).toInt) (b := x1_4) (b' := x2_4) (p := x2_4) hI4.2.2.2.2.2 (by show (ga σ 25 x1_4).toInt ≤ (ga σ 25 x2_4).toInt; omega) (Int.le_refl _) q h0 (by omega)⟩) (by omega) h (lv_sub hl [1, 2, 0] rfl) (fun x1_4' x2_4' H locs ls en hI h hl => kk x1_4' x2_4' H locs ls ((show f_X6_mostLeft_L4 σ (n + 1) x1_4 x2_4 = f_X6_mostLeft_L4 σ n x1_4 (x2_4 + (1 : Int32)) from (by exact ((if_neg c11).trans ((if_neg c16).trans ((if_pos c31).trans rfl))))).trans en) hI h hl)
          · have i31 := c_nle c31
            refine lv_iload_n hx hb dX6_mostLeft_34 rfl (lv_at hl 2 rfl) ?_
            refine lv_istore_n (lv' := [(1, .int x2_4), (0, .ref (g.2.1 99)), (2, .int x2_4)]) hx hb dX6_mostLeft_35 rfl hl (by decide) rfl (fun ls hl => ?_)
            refine lv_iinc (v := (x2_4 + (1 : Int32))) (lv' := [(2, .int (x2_4 + (1 : Int32))), (1, .int x2_4), (0, .ref (g.2.1 99))]) hx hb dX6_mostLeft_36 hl (k := 2) rfl rfl (by decide) rfl (fun ls hl => ?_)
            refine lv_goto (tgt := 4) hx hb dX6_mostLeft_39 (by decide) ?_
            have tt2 : (x2_4 + (1 : Int32)).toInt = (x2_4.toInt + (1)) := (i_add (rfl : x2_4.toInt = x2_4.toInt) zl1 (by omega))
            exact ih x2_4 (x2_4 + (1 : Int32)) _ _ _  (by first | exact ⟨by omega, by omega, by omega, by omega, by omega, fun q h0 h1 => mx_step (L := fun z => (ga σ 25 z).toInt) (b := x2_4) (b' := x2_4) (p := x2_4) (fun q h0 h1 => absurd h1 (by omega)) (Int.le_refl _) (Int.le_refl _) q h0 (by omega)⟩ | exact ⟨by omega, by omega, by omega, by omega, by omega, fun q h0 h1 => mx_step (L := fun z => (ga σ 25 z).toInt) (b := x1_4) (b' := x1_4) (p := x2_4) hI4.2.2.2.2.2 (Int.le_refl _) (by show (ga σ 25 x2_4).toInt ≤ (ga σ 25 x1_4).toInt; omega) q h0 (by omega)⟩ | exact ⟨by omega, by omega, by omega, by omega, by omega, fun q h0 h1 => mx_step (L := fun z => (ga σ 25 z).toInt) (b := x1_4) (b' := x2_4) (p := x2_4) hI4.2.2.2.2.2 (by show (ga σ 25 x1_4).toInt ≤ (ga σ 25 x2_4).toInt; omega) (Int.le_refl _) q h0 (by omega)⟩) (by omega) h (lv_sub hl [2, 1, 0] rfl) (fun x1_4' x2_4' H locs ls en hI h hl => kk x1_4' x2_4' H locs ls ((show f_X6_mostLeft_L4 σ (n + 1) x1_4 x2_4 = f_X6_mostLeft_L4 σ n x2_4 (x2_4 + (1 : Int32)) from (by exact ((if_neg c11).trans ((if_neg c16).trans ((if_neg c31).trans rfl))))).trans en) hI h hl)
  refine hL4 (7) (-1 : Int32) (0 : Int32) _ _ _  ⟨by omega, by omega, by omega, by omega, by omega, fun q h0 h1 => absurd h1 (by omega)⟩ (by omega) h (lv_sub hl [2, 1, 0] rfl) (fun x1_4e x2_4e H locs ls eL4 hI4 h hl => ?_)
  have ex1_4e : x1_4e = (f_X6_mostLeft_L4 σ (7) (-1 : Int32) (0 : Int32)).1 := by rw [eL4]
  have ex2_4e : x2_4e = (f_X6_mostLeft_L4 σ (7) (-1 : Int32) (0 : Int32)).2 := by rw [eL4]
  refine lv_iload_n hx hb dX6_mostLeft_42 rfl (lv_at hl 0 rfl) ?_
  have he : f_X6_mostLeft σ = x1_4e := (by subst ex1_4e; subst ex2_4e; exact rfl)
  exact M_reti C h hr hlocks rfl he ⟨⟨hI4.1.1, hI4.1.2, hI4.2.1⟩, hI4.2.2⟩ dX6_mostLeft_43
theorem lays_sa {σ : MS} {f : Int32 → Int32} {x v : Int32} (hx : 0 ≤ x.toInt) (hv : v = f x) (h : ∀ q : Int32, 0 ≤ q.toInt → q.toInt < x.toInt → ga σ 25 q = f q) : ∀ q : Int32, 0 ≤ q.toInt → q.toInt < x.toInt + 1 → ga (sa σ 25 x v) 25 q = f q := by
  intro q h0 h1
  rcases (show q.toInt < x.toInt ∨ q.toInt = x.toInt by omega) with z | z
  · rw [ga_sa_ne (i := x) rfl rfl (by omega)]; exact h q h0 z
  · rw [Int32.toInt_inj.mp z, ga_sa_eq]; exact hv
def f_X6_laysBalances_L2 : Nat → Int32 → MS → Int32 × MS
  | 0, x1_2, σL2 => (x1_2, σL2)
  | n + 1, x1_2, σL2 => if (ga σL2 0 (0 : Int32)) ≤ x1_2 then ((x1_2, σL2)) else ((let r19 := (f_X6_balanceOf σL2 x1_2); let σ22 := sa σL2 25 x1_2 r19; f_X6_laysBalances_L2 n (x1_2 + (1 : Int32)) σ22))
def f_X6_laysBalances (σ : MS) : MS := (let zL2 := f_X6_laysBalances_L2 (7) (0 : Int32) σ; let x1_2e := zL2.1; let σL2e := zL2.2; σL2e)
set_option maxHeartbeats 4000000 in
set_option maxRecDepth 100000 in
theorem k_X6_laysBalances (l : Launch) (g : GE) (σ : MS) (hp : 0 ≤ (ga σ 0 (0 : Int32)).toInt ∧ (ga σ 0 (0 : Int32)).toInt ≤ 6) : Met l yX6_laysBalances (ws_ yX6_laysBalances cX6_laysBalances 2 none) ({ frames := 2, cells := 0, slots := 0, locals := 44 } : Room) (mPc g σ []) (mQv g (f_X6_laysBalances σ) (fun u => ((ga u 0 (0 : Int32)).toInt = (ga σ 0 (0 : Int32)).toInt) ∧ (∀ j : Int32, ga u 0 j = ga σ 0 j) ∧ (MFr σ u) ∧ (∀ q : Int32, 0 ≤ q.toInt → q.toInt < (ga σ 0 (0 : Int32)).toInt → ga u 25 q = f_X6_balanceOf σ q))) 0 0 (mA g) := by
  refine met_M (by decide) rfl (Nat.le_of_ble_eq_true rfl) ?_
  intro p e s m args below meth c C hr hlocks h ls hl
  have hx := C.1.1
  have hb := C.1.2.1
  have hml := C.1.2.2.1
  have hown := C.1.2.2.2.1
  have hts := C.1.2.2.2.2
  have hl : lv_has ls 2 [(0, .ref (g.2.1 99))] := hl
  have hpq : (ga σ 0 (0 : Int32)).toInt = (ga σ 0 (0 : Int32)).toInt := rfl
  have hA0 : ∀ j : Int32, ga σ 0 j = ga σ 0 j := fun _ => rfl
  have hLF : MFr σ σ := Fr.rf
  have zl0 : (0 : Int32).toInt = 0 := rfl
  have zl1 : (1 : Int32).toInt = 1 := rfl
  refine lv_iconst (v := 0) hx hb dX6_laysBalances_0 (by decide) ?_
  refine lv_istore_n (lv' := [(1, .int (0 : Int32)), (0, .ref (g.2.1 99))]) hx hb dX6_laysBalances_1 rfl hl (by decide) rfl (fun ls hl => ?_)
  have hL2 : ∀ (n : Nat) (x1_2 : Int32) (σL2 : MS) (H : Heap) (locs : List Loc) (ls : Array Slot), (0 ≤ (ga σL2 0 (0 : Int32)).toInt ∧ (ga σL2 0 (0 : Int32)).toInt ≤ 6) → ((ga σL2 0 (0 : Int32)).toInt = (ga σ 0 (0 : Int32)).toInt) → (∀ j : Int32, ga σL2 0 j = ga σ 0 j) → (MFr σ σL2) → (0 ≤ x1_2.toInt ∧ x1_2.toInt ≤ (ga σL2 0 (0 : Int32)).toInt ∧ (∀ q : Int32, 0 ≤ q.toInt → q.toInt < x1_2.toInt → ga σL2 25 q = f_X6_balanceOf σ q)) → ((ga σL2 0 (0 : Int32)).toInt - x1_2.toInt).toNat < n → MH g σL2 s H locs → lv_has ls 2 [(0, .ref (g.2.1 99)), (1, .int x1_2)] → (∀ (x1_2' : Int32) (σL2' : MS) (H : Heap) (locs : List Loc) (ls : Array Slot), f_X6_laysBalances_L2 n x1_2 σL2 = (x1_2', σL2') → (0 ≤ (ga σL2' 0 (0 : Int32)).toInt ∧ (ga σL2' 0 (0 : Int32)).toInt ≤ 6) → ((ga σL2' 0 (0 : Int32)).toInt = (ga σ 0 (0 : Int32)).toInt) → (∀ j : Int32, ga σL2' 0 j = ga σ 0 j) → (MFr σ σL2') → (x1_2'.toInt = (ga σL2' 0 (0 : Int32)).toInt ∧ True ∧ (∀ q : Int32, 0 ≤ q.toInt → q.toInt < x1_2'.toInt → ga σL2' 25 q = f_X6_balanceOf σ q)) → MH g σL2' s H locs → lv_has ls 2 [] → W p l e ({ frames := 2, cells := 0, slots := 0, locals := 44 } : Room) s m args below meth c H locs 0 0 (MQ below (mQv g (f_X6_laysBalances σ) (fun u => ((ga u 0 (0 : Int32)).toInt = (ga σ 0 (0 : Int32)).toInt) ∧ (∀ j : Int32, ga u 0 j = ga σ 0 j) ∧ (MFr σ u) ∧ (∀ q : Int32, 0 ≤ q.toInt → q.toInt < (ga σ 0 (0 : Int32)).toInt → ga u 25 q = f_X6_balanceOf σ q))) args s 0 0 (mA g)) (F0 m 29 ls [])) → W p l e ({ frames := 2, cells := 0, slots := 0, locals := 44 } : Room) s m args below meth c H locs 0 0 (MQ below (mQv g (f_X6_laysBalances σ) (fun u => ((ga u 0 (0 : Int32)).toInt = (ga σ 0 (0 : Int32)).toInt) ∧ (∀ j : Int32, ga u 0 j = ga σ 0 j) ∧ (MFr σ u) ∧ (∀ q : Int32, 0 ≤ q.toInt → q.toInt < (ga σ 0 (0 : Int32)).toInt → ga u 25 q = f_X6_balanceOf σ q))) args s 0 0 (mA g)) (F0 m 2 ls []) := by
    intro n
    induction n with
    | zero =>
      intro x1_2 σL2 H locs ls hp hpq hA0 hLF _ hm; exact absurd hm (Nat.not_lt_zero _)
    | succ n ih =>
      intro x1_2 σL2 H locs ls hp hpq hA0 hLF hI2 hm h hl kk
      have hAs := hA0
      refine lv_iload_n hx hb dX6_laysBalances_2 rfl (lv_at hl 1 rfl) ?_
      refine lv_aload_n hx hb dX6_laysBalances_3 rfl (lv_at hl 0 rfl) ?_
      refine Mg_0 C h dX6_laysBalances_4 ?_
      refine lv_iconst (v := 0) hx hb dX6_laysBalances_7 (by decide) ?_
      refine Ml_0 C h (ix_of zl0 (by omega)) dX6_laysBalances_8 ?_
      refine lv_icmp_ge (tgt := 29) hx hb dX6_laysBalances_9 (by decide) (fun c9 => ?_) (fun c9 => ?_)
      · have i9 := c_le c9
        exact kk x1_2 σL2 _ _ _ (show f_X6_laysBalances_L2 (n + 1) x1_2 σL2 = (x1_2, σL2) from (by exact ((if_pos c9).trans rfl))) hp hpq hA0 hLF ⟨by omega, trivial, hI2.2.2⟩ h (lv_sub hl [] rfl)
      · have i9 := c_nle c9
        refine lv_aload_n hx hb dX6_laysBalances_12 rfl (lv_at hl 0 rfl) ?_
        refine Mg_25 C h dX6_laysBalances_13 ?_
        refine lv_iload_n hx hb dX6_laysBalances_16 rfl (lv_at hl 1 rfl) ?_
        refine lv_aload_n hx hb dX6_laysBalances_17 rfl (lv_at hl 0 rfl) ?_
        refine lv_iload_n hx hb dX6_laysBalances_18 rfl (lv_at hl 1 rfl) ?_
        refine M_calli (As := [.int x1_2]) (rest := [.int x1_2, .ref (g.2.1 25)]) 1 C h (k_X6_balanceOf l g σL2 x1_2 (by first | assumption | omega) (by first | assumption | omega)) (lw_V q1986 q1988 qs112 q152 q1989) rfl rfl (by decide +kernel) ⟨Nat.le_of_ble_eq_true rfl, Nat.le_of_ble_eq_true rfl⟩ rfl hl.1 rfl (Nat.le_of_ble_eq_true rfl) ⟨Nat.le_of_ble_eq_true rfl, Nat.le_of_ble_eq_true rfl⟩ dX6_laysBalances_19 (fun r19 σ19 H locs eσ19 er19 hE19 h => ?_)
        rw [eσ19] at h
        clear hE19
        clear eσ19
        refine Ms_25 C h (ix_of (rfl : x1_2.toInt = x1_2.toInt) (by omega)) dX6_laysBalances_22 (fun σ22 H locs eσ22 h => ?_)
        have hNEW : (0 ≤ (ga σ22 0 (0 : Int32)).toInt ∧ (ga σ22 0 (0 : Int32)).toInt ≤ 6) ∧ ((ga σ22 0 (0 : Int32)).toInt = (ga σ 0 (0 : Int32)).toInt) ∧ (∀ j : Int32, ga σ22 0 j = ga σ 0 j) ∧ (MFr σ σ22) := ⟨(by rw [eσ22] <;> exact hp), (by rw [eσ22] <;> exact hpq), (by rw [eσ22] <;> exact hA0), (by rw [eσ22]; exact (Fr_xa (by decide) (by decide) hLF))⟩
        obtain ⟨hp, hpq, hA0, hLF⟩ := hNEW
        refine lv_iinc (v := (x1_2 + (1 : Int32))) (lv' := [(1, .int (x1_2 + (1 : Int32))), (0, .ref (g.2.1 99))]) hx hb dX6_laysBalances_23 hl (k := 1) rfl rfl (by decide) rfl (fun ls hl => ?_)
        refine lv_goto (tgt := 2) hx hb dX6_laysBalances_26 (by decide) ?_
        have tt1 : (x1_2 + (1 : Int32)).toInt = (x1_2.toInt + (1)) := (i_add (rfl : x1_2.toInt = x1_2.toInt) zl1 (by omega))
        exact ih (x1_2 + (1 : Int32)) σ22 _ _ _ hp hpq hA0 hLF ⟨by omega, by omega, fun q h0 h1 => by rw [eσ22]; exact lays_sa (by omega) (er19.trans (balanceOf_A0 hAs _)) hI2.2.2 q h0 (by omega)⟩ (by omega) h (lv_sub hl [1, 0] rfl) (fun x1_2' σL2' H locs ls en hp hpq hA0 hLF hI h hl => kk x1_2' σL2' H locs ls ((show f_X6_laysBalances_L2 (n + 1) x1_2 σL2 = f_X6_laysBalances_L2 n (x1_2 + (1 : Int32)) σ22 from (by subst er19; subst eσ22; exact ((if_neg c9).trans rfl))).trans en) hp hpq hA0 hLF hI h hl)
  refine hL2 (7) (0 : Int32) σ _ _ _ hp hpq hA0 hLF ⟨by omega, by omega, fun q h0 h1 => absurd h1 (by omega)⟩ (by omega) h (lv_sub hl [1, 0] rfl) (fun x1_2e σL2e H locs ls eL2 hp hpq hA0 hLF hI2 h hl => ?_)
  have ex1_2e : x1_2e = (f_X6_laysBalances_L2 (7) (0 : Int32) σ).1 := by rw [eL2]
  have eσL2e : σL2e = (f_X6_laysBalances_L2 (7) (0 : Int32) σ).2 := by rw [eL2]
  have he : f_X6_laysBalances σ = σL2e := (by subst ex1_2e; subst eσL2e; exact rfl)
  exact M_retv C h hr hlocks he ⟨hpq, hA0, hLF, (fun q h0 h1 => hI2.2.2 q h0 (by omega))⟩ dX6_laysBalances_29
def f_X6_extreme (σ : MS) (p1 : Int32) : MS × Int32 := if p1 < (0 : Int32) then ((let z11 := (f_X6_refuse σ (1 : Int32)); let σ11 := z11.1; let r11 := z11.2; (σ11, r11))) else (if p1 ≤ (1 : Int32) then ((let σ16 := (f_X6_laysBalances σ); (let z35_ : Int32 := (if p1 = (0 : Int32) then ((let r25 := (f_X6_leastLeft σ16); r25)) else ((let r32 := (f_X6_mostLeft σ16); r32))); let t0_35 := z35_; (let z35 := (f_X6_orNone σ16 t0_35); let σ35 := z35.1; let r35 := z35.2; (σ35, r35))))) else ((let z11 := (f_X6_refuse σ (1 : Int32)); let σ11 := z11.1; let r11 := z11.2; (σ11, r11))))
set_option maxHeartbeats 4000000 in
set_option maxRecDepth 100000 in
theorem k_X6_extreme (l : Launch) (g : GE) (σ : MS) (p1 : Int32) (hp : 0 ≤ (ga σ 0 (0 : Int32)).toInt ∧ (ga σ 0 (0 : Int32)).toInt ≤ 6) : Met l yX6_extreme (ws_ yX6_extreme cX6_extreme 2 (some .int)) ({ frames := 3, cells := 0, slots := 0, locals := 65 } : Room) (mPc g σ [.int p1]) (mQi g (f_X6_extreme σ p1).1 (f_X6_extreme σ p1).2 (fun u r => ((ga u 0 (0 : Int32)).toInt = (ga σ 0 (0 : Int32)).toInt) ∧ (MFr σ u))) 0 0 (mA g) := by
  refine met_M (by decide) rfl (Nat.le_of_ble_eq_true rfl) ?_
  intro p e s m args below meth c C hr hlocks h ls hl
  have hx := C.1.1
  have hb := C.1.2.1
  have hml := C.1.2.2.1
  have hown := C.1.2.2.2.1
  have hts := C.1.2.2.2.2
  have hl : lv_has ls 2 [(0, .ref (g.2.1 99)), (1, .int p1)] := hl
  have hpq : (ga σ 0 (0 : Int32)).toInt = (ga σ 0 (0 : Int32)).toInt := rfl
  have hLF : MFr σ σ := Fr.rf
  have zl0 : (0 : Int32).toInt = 0 := rfl
  have zl1 : (1 : Int32).toInt = 1 := rfl
  refine lv_iload_n hx hb dX6_extreme_0 rfl (lv_at hl 1 rfl) ?_
  refine lv_if_lt (tgt := 9) hx hb dX6_extreme_1 (by decide) (fun c1 => ?_) (fun c1 => ?_)
  · have i1 := c_lt c1
    refine lv_aload_n hx hb dX6_extreme_9 rfl (lv_at hl 0 rfl) ?_
    refine lv_iconst (v := 1) hx hb dX6_extreme_10 (by decide) ?_
    refine M_calli (As := [.int (1 : Int32)]) (rest := []) 1 C h (k_X6_refuse l g σ (1 : Int32)) (lw_V q1723 q1725 qs71 q152 q1726) rfl rfl (by decide +kernel) ⟨Nat.le_of_ble_eq_true rfl, Nat.le_of_ble_eq_true rfl⟩ rfl hl.1 rfl (Nat.le_of_ble_eq_true rfl) ⟨Nat.le_of_ble_eq_true rfl, Nat.le_of_ble_eq_true rfl⟩ dX6_extreme_11 (fun r11 σ11 H locs eσ11 er11 hE11 h => ?_)
    clear hE11
    have hNEW : (0 ≤ (ga σ11 0 (0 : Int32)).toInt ∧ (ga σ11 0 (0 : Int32)).toInt ≤ 6) ∧ ((ga σ11 0 (0 : Int32)).toInt = (ga σ 0 (0 : Int32)).toInt) ∧ (MFr σ σ11) := ⟨(by rw [eσ11, refuse_s] <;> exact hp), (by rw [eσ11, refuse_s] <;> exact hpq), (by rw [eσ11, refuse_s]; exact Fr_si (by decide) hLF)⟩
    obtain ⟨hp, hpq, hLF⟩ := hNEW
    have he : f_X6_extreme σ p1 = (σ11, r11) := (by subst eσ11; subst er11; exact ((if_pos c1).trans rfl))
    exact M_reti C h hr hlocks (congrArg Prod.fst he) (congrArg Prod.snd he) ⟨hpq, hLF⟩ dX6_extreme_14
  · have i1 := c_nlt c1
    refine lv_iload_n hx hb dX6_extreme_4 rfl (lv_at hl 1 rfl) ?_
    refine lv_iconst (v := 1) hx hb dX6_extreme_5 (by decide) ?_
    refine lv_icmp_le (tgt := 15) hx hb dX6_extreme_6 (by decide) (fun c6 => ?_) (fun c6 => ?_)
    · have i6 := c_le c6
      refine lv_aload_n hx hb dX6_extreme_15 rfl (lv_at hl 0 rfl) ?_
      refine M_callv (As := []) (rest := []) 0 C h (k_X6_laysBalances l g σ (by first | assumption | omega)) (lw_V q2093 q2095 qs123 q152 q2096) rfl rfl (by decide +kernel) ⟨Nat.le_of_ble_eq_true rfl, Nat.le_of_ble_eq_true rfl⟩ rfl hl.1 rfl (Nat.le_of_ble_eq_true rfl) ⟨Nat.le_of_ble_eq_true rfl, Nat.le_of_ble_eq_true rfl⟩ dX6_extreme_16 (fun σ16 H locs eσ16 hE16 h => ?_)
      have hE16 : ((ga σ16 0 (0 : Int32)).toInt = (ga σ 0 (0 : Int32)).toInt) ∧ (∀ j : Int32, ga σ16 0 j = ga σ 0 j) ∧ (MFr σ σ16) ∧ (∀ q : Int32, 0 ≤ q.toInt → q.toInt < (ga σ 0 (0 : Int32)).toInt → ga σ16 25 q = f_X6_balanceOf σ q) := hE16
      obtain ⟨hpq_16, hA0_16, hLF_16, lb_16⟩ := hE16
      have hNEW : (0 ≤ (ga σ16 0 (0 : Int32)).toInt ∧ (ga σ16 0 (0 : Int32)).toInt ≤ 6) ∧ ((ga σ16 0 (0 : Int32)).toInt = (ga σ 0 (0 : Int32)).toInt) ∧ (MFr σ σ16) := ⟨(by simp only [hA0_16] <;> exact hp), (by simp only [hA0_16] <;> exact hpq), (Fr.tr hLF hLF_16)⟩
      obtain ⟨hp, hpq, hLF⟩ := hNEW
      refine lv_aload_n hx hb dX6_extreme_19 rfl (lv_at hl 0 rfl) ?_
      refine lv_iload_n hx hb dX6_extreme_20 rfl (lv_at hl 1 rfl) ?_
      have j35 : ∀ (t0_35 : Int32) (H : Heap) (locs : List Loc) (ls : Array Slot) (ej35 : (if p1 = (0 : Int32) then ((let r25 := (f_X6_leastLeft σ16); r25)) else ((let r32 := (f_X6_mostLeft σ16); r32))) = t0_35) (h : MH g σ16 s H locs) (hl : lv_has ls 2 []), W p l e ({ frames := 3, cells := 0, slots := 0, locals := 65 } : Room) s m args below meth c H locs 0 0 (MQ below (mQi g (f_X6_extreme σ p1).1 (f_X6_extreme σ p1).2 (fun u r => ((ga u 0 (0 : Int32)).toInt = (ga σ 0 (0 : Int32)).toInt) ∧ (MFr σ u))) args s 0 0 (mA g)) (F0 m 35 ls [.int t0_35, .ref (g.2.1 99)]) := by
        intro t0_35 H locs ls ej35 h hl
        have et0_35 := ej35.symm
        refine M_calli (As := [.int t0_35]) (rest := []) 1 C h (k_X6_orNone l g σ16 t0_35) (lw_V q1868 q1870 qs102 q152 q1871) rfl rfl (by decide +kernel) ⟨Nat.le_of_ble_eq_true rfl, Nat.le_of_ble_eq_true rfl⟩ rfl hl.1 rfl (Nat.le_of_ble_eq_true rfl) ⟨Nat.le_of_ble_eq_true rfl, Nat.le_of_ble_eq_true rfl⟩ dX6_extreme_35 (fun r35 σ35 H locs eσ35 er35 hE35 h => ?_)
        clear hE35
        have hNEW : (0 ≤ (ga σ35 0 (0 : Int32)).toInt ∧ (ga σ35 0 (0 : Int32)).toInt ≤ 6) ∧ ((ga σ35 0 (0 : Int32)).toInt = (ga σ 0 (0 : Int32)).toInt) ∧ (MFr σ σ35) := ⟨(by rw [eσ35, orNone_s] <;> exact hp), (by rw [eσ35, orNone_s] <;> exact hpq), (by rw [eσ35, orNone_s]; exact Fr_si (by decide) hLF)⟩
        obtain ⟨hp, hpq, hLF⟩ := hNEW
        have he : f_X6_extreme σ p1 = (σ35, r35) := (by subst eσ16; subst et0_35; subst eσ35; subst er35; exact ((if_neg c1).trans ((if_pos c6).trans rfl)))
        exact M_reti C h hr hlocks (congrArg Prod.fst he) (congrArg Prod.snd he) ⟨hpq, hLF⟩ dX6_extreme_38
      refine lv_if_ne (tgt := 31) hx hb dX6_extreme_21 (by decide) (fun c21 => ?_) (fun c21 => ?_)
      · have i21 := c_ne c21
        refine lv_aload_n hx hb dX6_extreme_31 rfl (lv_at hl 0 rfl) ?_
        refine M_calli (As := []) (rest := [.ref (g.2.1 99)]) 0 C h (k_X6_mostLeft l g σ16 (by first | assumption | omega)) (lw_V q2101 q2103 qs125 q152 q2104) rfl rfl (by decide +kernel) ⟨Nat.le_of_ble_eq_true rfl, Nat.le_of_ble_eq_true rfl⟩ rfl hl.1 rfl (Nat.le_of_ble_eq_true rfl) ⟨Nat.le_of_ble_eq_true rfl, Nat.le_of_ble_eq_true rfl⟩ dX6_extreme_32 (fun r32 σ32 H locs eσ32 er32 hE32 h => ?_)
        rw [eσ32] at h
        rw [eσ32] at hE32
        have hE32 : (-1 ≤ r32.toInt ∧ r32.toInt < (ga σ16 0 (0 : Int32)).toInt ∧ (0 < (ga σ16 0 (0 : Int32)).toInt → 0 ≤ r32.toInt)) ∧ (∀ q : Int32, 0 ≤ q.toInt → q.toInt < (ga σ16 0 (0 : Int32)).toInt → (ga σ16 25 q).toInt ≤ (ga σ16 25 r32).toInt) := hE32
        obtain ⟨brng_32, mx_32⟩ := hE32
        clear eσ32
        exact j35 _ _ _ _ (by subst er32; exact ((if_neg c21).trans rfl)) h (lv_sub hl [] rfl)
      · have i21 := c_eq c21
        refine lv_aload_n hx hb dX6_extreme_24 rfl (lv_at hl 0 rfl) ?_
        refine M_calli (As := []) (rest := [.ref (g.2.1 99)]) 0 C h (k_X6_leastLeft l g σ16 (by first | assumption | omega)) (lw_V q2097 q2099 qs124 q152 q2100) rfl rfl (by decide +kernel) ⟨Nat.le_of_ble_eq_true rfl, Nat.le_of_ble_eq_true rfl⟩ rfl hl.1 rfl (Nat.le_of_ble_eq_true rfl) ⟨Nat.le_of_ble_eq_true rfl, Nat.le_of_ble_eq_true rfl⟩ dX6_extreme_25 (fun r25 σ25 H locs eσ25 er25 hE25 h => ?_)
        rw [eσ25] at h
        rw [eσ25] at hE25
        have hE25 : (-1 ≤ r25.toInt ∧ r25.toInt < (ga σ16 0 (0 : Int32)).toInt ∧ (0 < (ga σ16 0 (0 : Int32)).toInt → 0 ≤ r25.toInt)) := hE25
        have brng_25 := hE25
        clear eσ25
        refine lv_goto (tgt := 35) hx hb dX6_extreme_28 (by decide) ?_
        exact j35 _ _ _ _ (by subst er25; exact ((if_pos c21).trans rfl)) h (lv_sub hl [] rfl)
    · have i6 := c_nle c6
      refine lv_aload_n hx hb dX6_extreme_9 rfl (lv_at hl 0 rfl) ?_
      refine lv_iconst (v := 1) hx hb dX6_extreme_10 (by decide) ?_
      refine M_calli (As := [.int (1 : Int32)]) (rest := []) 1 C h (k_X6_refuse l g σ (1 : Int32)) (lw_V q1723 q1725 qs71 q152 q1726) rfl rfl (by decide +kernel) ⟨Nat.le_of_ble_eq_true rfl, Nat.le_of_ble_eq_true rfl⟩ rfl hl.1 rfl (Nat.le_of_ble_eq_true rfl) ⟨Nat.le_of_ble_eq_true rfl, Nat.le_of_ble_eq_true rfl⟩ dX6_extreme_11 (fun r11 σ11 H locs eσ11 er11 hE11 h => ?_)
      clear hE11
      have hNEW : (0 ≤ (ga σ11 0 (0 : Int32)).toInt ∧ (ga σ11 0 (0 : Int32)).toInt ≤ 6) ∧ ((ga σ11 0 (0 : Int32)).toInt = (ga σ 0 (0 : Int32)).toInt) ∧ (MFr σ σ11) := ⟨(by rw [eσ11, refuse_s] <;> exact hp), (by rw [eσ11, refuse_s] <;> exact hpq), (by rw [eσ11, refuse_s]; exact Fr_si (by decide) hLF)⟩
      obtain ⟨hp, hpq, hLF⟩ := hNEW
      have he : f_X6_extreme σ p1 = (σ11, r11) := (by subst eσ11; subst er11; exact ((if_neg c1).trans ((if_neg c6).trans rfl)))
      exact M_reti C h hr hlocks (congrArg Prod.fst he) (congrArg Prod.snd he) ⟨hpq, hLF⟩ dX6_extreme_14
def f_X6_chain_L44 (σ : MS) (y1_44 : Int32) (y3_44 : Int32) (y4_44 : Int32) : Nat → Int32 → Int32 → Int32 × Int32
  | 0, x2_44, x5_44 => (x2_44, x5_44)
  | n + 1, x2_44, x5_44 => if (ga σ 0 (0 : Int32)) ≤ x5_44 then ((x2_44, x5_44)) else ((let r59 := (f_X6_isIn σ x2_44 y4_44); if r59 = (0 : Int32) then (f_X6_chain_L44 σ y1_44 y3_44 y4_44 n x2_44 (x5_44 + (1 : Int32))) else ((let r73 := (f_X6_debtRow y4_44 x5_44); if (ga σ 0 r73) ≤ (0 : Int32) then (f_X6_chain_L44 σ y1_44 y3_44 y4_44 n x2_44 (x5_44 + (1 : Int32))) else ((let v86 := (x2_44 ||| ((1 : Int32) <<< (x5_44 &&& (31 : Int32)))); f_X6_chain_L44 σ y1_44 y3_44 y4_44 n v86 (x5_44 + (1 : Int32))))))))
def f_X6_chain_L30 (σ : MS) (y1_30 : Int32) (y3_30 : Int32) : Nat → Int32 → Int32 → Int32 × Int32
  | 0, x2_30, x4_30 => (x2_30, x4_30)
  | n + 1, x2_30, x4_30 => if (ga σ 0 (0 : Int32)) ≤ x4_30 then ((x2_30, x4_30)) else ((let zL44 := f_X6_chain_L44 σ y1_30 y3_30 x4_30 (7) x2_30 (0 : Int32); let x2_44e := zL44.1; let x5_44e := zL44.2; f_X6_chain_L30 σ y1_30 y3_30 n x2_44e (x4_30 + (1 : Int32))))
def f_X6_chain_L20 (σ : MS) (y1_20 : Int32) : Nat → Int32 → Int32 → Int32 × Int32
  | 0, x2_20, x3_20 => (x2_20, x3_20)
  | n + 1, x2_20, x3_20 => if x2_20 = x3_20 then ((x2_20, x3_20)) else ((let zL30 := f_X6_chain_L30 σ y1_20 x2_20 (7) x2_20 (0 : Int32); let x2_30e := zL30.1; let x4_30e := zL30.2; f_X6_chain_L20 σ y1_20 n x2_30e x2_20))
def f_X6_chain (σ : MS) (p1 : Int32) : MS × Int32 := (let r2 := (f_X6_isPerson σ p1); if r2 = (0 : Int32) then ((let z10 := (f_X6_refuse σ (1 : Int32)); let σ10 := z10.1; let r10 := z10.2; (σ10, r10))) else ((let v17 := ((1 : Int32) <<< (p1 &&& (31 : Int32))); (let zL20 := f_X6_chain_L20 σ p1 (131) v17 (0 : Int32); let x2_20e := zL20.1; let x3_20e := zL20.2; (let z110 := (f_X6_gives σ (x2_20e &&& (((1 : Int32) <<< (p1 &&& (31 : Int32))) ^^^ (-1 : Int32)))); let σ110 := z110.1; let r110 := z110.2; (σ110, r110))))))
set_option maxHeartbeats 4000000 in
set_option maxRecDepth 100000 in
theorem k_X6_chain (l : Launch) (g : GE) (σ : MS) (p1 : Int32) (hp : 0 ≤ (ga σ 0 (0 : Int32)).toInt ∧ (ga σ 0 (0 : Int32)).toInt ≤ 6) : Met l yX6_chain (ws_ yX6_chain cX6_chain 6 (some .int)) ({ frames := 1, cells := 0, slots := 0, locals := 22 } : Room) (mPc g σ [.int p1]) (mQi g (f_X6_chain σ p1).1 (f_X6_chain σ p1).2 (fun u r => ((ga u 0 (0 : Int32)).toInt = (ga σ 0 (0 : Int32)).toInt))) 0 0 (mA g) := by
  refine met_M (by decide) rfl (Nat.le_of_ble_eq_true rfl) ?_
  intro p e s m args below meth c C hr hlocks h ls hl
  have hx := C.1.1
  have hb := C.1.2.1
  have hml := C.1.2.2.1
  have hown := C.1.2.2.2.1
  have hts := C.1.2.2.2.2
  have hl : lv_has ls 6 [(0, .ref (g.2.1 99)), (1, .int p1)] := hl
  have hpq : (ga σ 0 (0 : Int32)).toInt = (ga σ 0 (0 : Int32)).toInt := rfl
  have zlm1 : (-1 : Int32).toInt = -1 := rfl
  have zl0 : (0 : Int32).toInt = 0 := rfl
  have zl1 : (1 : Int32).toInt = 1 := rfl
  have zl6 : (6 : Int32).toInt = 6 := rfl
  have zl92 : (92 : Int32).toInt = 92 := rfl
  refine lv_aload_n hx hb dX6_chain_0 rfl (lv_at hl 0 rfl) ?_
  refine lv_iload_n hx hb dX6_chain_1 rfl (lv_at hl 1 rfl) ?_
  refine M_callz (As := [.int p1]) (rest := []) 1 C h (k_X6_isPerson l g σ p1) (lw_V q1864 q1866 qs101 q152 q1867) rfl rfl (by decide +kernel) ⟨Nat.le_of_ble_eq_true rfl, Nat.le_of_ble_eq_true rfl⟩ rfl hl.1 rfl (Nat.le_of_ble_eq_true rfl) ⟨Nat.le_of_ble_eq_true rfl, Nat.le_of_ble_eq_true rfl⟩ dX6_chain_2 (fun r2 σ2 H locs eσ2 er2 br2 hE2 h => ?_)
  rw [eσ2] at h
  clear hE2
  clear eσ2
  refine lv_if_ne (tgt := 14) hx hb dX6_chain_5 (by decide) (fun c5 => ?_) (fun c5 => ?_)
  · have i5 := c_ne c5
    have okr2 := isPerson_ok er2 c5
    have hs1 := shl5_rng (b := p1) (by omega)
    refine lv_iconst (v := 1) hx hb dX6_chain_14 (by decide) ?_
    refine lv_iload_n hx hb dX6_chain_15 rfl (lv_at hl 1 rfl) ?_
    refine lv_ishl hx hb dX6_chain_16 ?_
    refine lv_topi (fun v17 ev17 => ?_)
    refine lv_istore_n (lv' := [(2, .int v17), (0, .ref (g.2.1 99)), (1, .int p1)]) hx hb dX6_chain_17 rfl hl (by decide) rfl (fun ls hl => ?_)
    have w17 : 1 ≤ v17.toInt ∧ v17.toInt ≤ 63 := by rw [ev17]; exact hs1
    refine lv_iconst (v := 0) hx hb dX6_chain_18 (by decide) ?_
    refine lv_istore_n (lv' := [(3, .int (0 : Int32)), (2, .int v17), (0, .ref (g.2.1 99)), (1, .int p1)]) hx hb dX6_chain_19 rfl hl (by decide) rfl (fun ls hl => ?_)
    have hL20 : ∀ (n : Nat) (x2_20 : Int32) (x3_20 : Int32) (H : Heap) (locs : List Loc) (ls : Array Slot), (1 ≤ x2_20.toInt ∧ x2_20.toInt ≤ 63 ∧ 0 ≤ x3_20.toInt ∧ x3_20.toInt ≤ x2_20.toInt) → (130 - x2_20.toInt - x3_20.toInt).toNat < n → MH g σ s H locs → lv_has ls 6 [(0, .ref (g.2.1 99)), (1, .int p1), (2, .int x2_20), (3, .int x3_20)] → (∀ (x2_20' : Int32) (x3_20' : Int32) (H : Heap) (locs : List Loc) (ls : Array Slot), f_X6_chain_L20 σ p1 n x2_20 x3_20 = (x2_20', x3_20') → (1 ≤ x2_20'.toInt ∧ x2_20'.toInt ≤ 63 ∧ 0 ≤ x3_20'.toInt ∧ x3_20'.toInt ≤ x2_20'.toInt) → MH g σ s H locs → lv_has ls 6 [(0, .ref (g.2.1 99)), (1, .int p1), (2, .int x2_20')] → W p l e ({ frames := 1, cells := 0, slots := 0, locals := 22 } : Room) s m args below meth c H locs 0 0 (MQ below (mQi g (f_X6_chain σ p1).1 (f_X6_chain σ p1).2 (fun u r => ((ga u 0 (0 : Int32)).toInt = (ga σ 0 (0 : Int32)).toInt))) args s 0 0 (mA g)) (F0 m 102 ls [])) → W p l e ({ frames := 1, cells := 0, slots := 0, locals := 22 } : Room) s m args below meth c H locs 0 0 (MQ below (mQi g (f_X6_chain σ p1).1 (f_X6_chain σ p1).2 (fun u r => ((ga u 0 (0 : Int32)).toInt = (ga σ 0 (0 : Int32)).toInt))) args s 0 0 (mA g)) (F0 m 20 ls []) := by
      intro n
      induction n with
      | zero =>
        intro x2_20 x3_20 H locs ls _ hm; exact absurd hm (Nat.not_lt_zero _)
      | succ n ih =>
        intro x2_20 x3_20 H locs ls hI20 hm h hl kk
        refine lv_iload_n hx hb dX6_chain_20 rfl (lv_at hl 2 rfl) ?_
        refine lv_iload_n hx hb dX6_chain_21 rfl (lv_at hl 3 rfl) ?_
        refine lv_icmp_eq (tgt := 102) hx hb dX6_chain_22 (by decide) (fun c22 => ?_) (fun c22 => ?_)
        · have i22 := c_eq c22
          exact kk x2_20 x3_20 _ _ _ (show f_X6_chain_L20 σ p1 (n + 1) x2_20 x3_20 = (x2_20, x3_20) from (by exact ((if_pos c22).trans rfl)))  (by first | assumption | omega) h (lv_sub hl [0, 1, 2] rfl)
        · have i22 := c_ne c22
          refine lv_iload_n hx hb dX6_chain_25 rfl (lv_at hl 2 rfl) ?_
          refine lv_istore_n (lv' := [(3, .int x2_20), (0, .ref (g.2.1 99)), (1, .int p1), (2, .int x2_20)]) hx hb dX6_chain_26 rfl hl (by decide) rfl (fun ls hl => ?_)
          refine lv_iconst (v := 0) hx hb dX6_chain_27 (by decide) ?_
          refine lv_istore (lv' := [(4, .int (0 : Int32)), (3, .int x2_20), (0, .ref (g.2.1 99)), (1, .int p1), (2, .int x2_20)]) hx hb dX6_chain_28 hl (by decide) rfl (fun ls hl => ?_)
          have hL30 : ∀ (n : Nat) (x2_30 : Int32) (x4_30 : Int32) (H : Heap) (locs : List Loc) (ls : Array Slot), (0 ≤ x4_30.toInt ∧ x4_30.toInt ≤ (ga σ 0 (0 : Int32)).toInt ∧ 1 ≤ x2_30.toInt ∧ x2_30.toInt ≤ 63 ∧ x2_20.toInt ≤ x2_30.toInt) → ((ga σ 0 (0 : Int32)).toInt - x4_30.toInt).toNat < n → MH g σ s H locs → lv_has ls 6 [(0, .ref (g.2.1 99)), (1, .int p1), (2, .int x2_30), (3, .int x2_20), (4, .int x4_30)] → (∀ (x2_30' : Int32) (x4_30' : Int32) (H : Heap) (locs : List Loc) (ls : Array Slot), f_X6_chain_L30 σ p1 x2_20 n x2_30 x4_30 = (x2_30', x4_30') → (0 ≤ x4_30'.toInt ∧ x4_30'.toInt ≤ (ga σ 0 (0 : Int32)).toInt ∧ 1 ≤ x2_30'.toInt ∧ x2_30'.toInt ≤ 63 ∧ x2_20.toInt ≤ x2_30'.toInt) → MH g σ s H locs → lv_has ls 6 [(0, .ref (g.2.1 99)), (1, .int p1), (2, .int x2_30'), (3, .int x2_20)] → W p l e ({ frames := 1, cells := 0, slots := 0, locals := 22 } : Room) s m args below meth c H locs 0 0 (MQ below (mQi g (f_X6_chain σ p1).1 (f_X6_chain σ p1).2 (fun u r => ((ga u 0 (0 : Int32)).toInt = (ga σ 0 (0 : Int32)).toInt))) args s 0 0 (mA g)) (F0 m 99 ls [])) → W p l e ({ frames := 1, cells := 0, slots := 0, locals := 22 } : Room) s m args below meth c H locs 0 0 (MQ below (mQi g (f_X6_chain σ p1).1 (f_X6_chain σ p1).2 (fun u r => ((ga u 0 (0 : Int32)).toInt = (ga σ 0 (0 : Int32)).toInt))) args s 0 0 (mA g)) (F0 m 30 ls []) := by
            intro n
            induction n with
            | zero =>
              intro x2_30 x4_30 H locs ls _ hm; exact absurd hm (Nat.not_lt_zero _)
            | succ n ih =>
              intro x2_30 x4_30 H locs ls hI30 hm h hl kk
              refine lv_iload hx hb dX6_chain_30 (lv_at hl 4 rfl) ?_
              refine lv_aload_n hx hb dX6_chain_32 rfl (lv_at hl 0 rfl) ?_
              refine Mg_0 C h dX6_chain_33 ?_
              refine lv_iconst (v := 0) hx hb dX6_chain_36 (by decide) ?_
              refine Ml_0 C h (ix_of zl0 (by omega)) dX6_chain_37 ?_
              refine lv_icmp_ge (tgt := 99) hx hb dX6_chain_38 (by decide) (fun c38 => ?_) (fun c38 => ?_)
              · have i38 := c_le c38
                exact kk x2_30 x4_30 _ _ _ (show f_X6_chain_L30 σ p1 x2_20 (n + 1) x2_30 x4_30 = (x2_30, x4_30) from (by exact ((if_pos c38).trans rfl)))  (by first | assumption | omega) h (lv_sub hl [0, 1, 2, 3] rfl)
              · have i38 := c_nle c38
                refine lv_iconst (v := 0) hx hb dX6_chain_41 (by decide) ?_
                refine lv_istore (lv' := [(5, .int (0 : Int32)), (0, .ref (g.2.1 99)), (1, .int p1), (2, .int x2_30), (3, .int x2_20), (4, .int x4_30)]) hx hb dX6_chain_42 hl (by decide) rfl (fun ls hl => ?_)
                have hL44 : ∀ (n : Nat) (x2_44 : Int32) (x5_44 : Int32) (H : Heap) (locs : List Loc) (ls : Array Slot), (0 ≤ x5_44.toInt ∧ x5_44.toInt ≤ (ga σ 0 (0 : Int32)).toInt ∧ 1 ≤ x2_44.toInt ∧ x2_44.toInt ≤ 63 ∧ x2_20.toInt ≤ x2_44.toInt) → ((ga σ 0 (0 : Int32)).toInt - x5_44.toInt).toNat < n → MH g σ s H locs → lv_has ls 6 [(0, .ref (g.2.1 99)), (1, .int p1), (2, .int x2_44), (3, .int x2_20), (4, .int x4_30), (5, .int x5_44)] → (∀ (x2_44' : Int32) (x5_44' : Int32) (H : Heap) (locs : List Loc) (ls : Array Slot), f_X6_chain_L44 σ p1 x2_20 x4_30 n x2_44 x5_44 = (x2_44', x5_44') → (0 ≤ x5_44'.toInt ∧ x5_44'.toInt ≤ (ga σ 0 (0 : Int32)).toInt ∧ 1 ≤ x2_44'.toInt ∧ x2_44'.toInt ≤ 63 ∧ x2_20.toInt ≤ x2_44'.toInt) → MH g σ s H locs → lv_has ls 6 [(0, .ref (g.2.1 99)), (1, .int p1), (2, .int x2_44'), (3, .int x2_20), (4, .int x4_30)] → W p l e ({ frames := 1, cells := 0, slots := 0, locals := 22 } : Room) s m args below meth c H locs 0 0 (MQ below (mQi g (f_X6_chain σ p1).1 (f_X6_chain σ p1).2 (fun u r => ((ga u 0 (0 : Int32)).toInt = (ga σ 0 (0 : Int32)).toInt))) args s 0 0 (mA g)) (F0 m 93 ls [])) → W p l e ({ frames := 1, cells := 0, slots := 0, locals := 22 } : Room) s m args below meth c H locs 0 0 (MQ below (mQi g (f_X6_chain σ p1).1 (f_X6_chain σ p1).2 (fun u r => ((ga u 0 (0 : Int32)).toInt = (ga σ 0 (0 : Int32)).toInt))) args s 0 0 (mA g)) (F0 m 44 ls []) := by
                  intro n
                  induction n with
                  | zero =>
                    intro x2_44 x5_44 H locs ls _ hm; exact absurd hm (Nat.not_lt_zero _)
                  | succ n ih =>
                    intro x2_44 x5_44 H locs ls hI44 hm h hl kk
                    refine lv_iload hx hb dX6_chain_44 (lv_at hl 5 rfl) ?_
                    refine lv_aload_n hx hb dX6_chain_46 rfl (lv_at hl 0 rfl) ?_
                    refine Mg_0 C h dX6_chain_47 ?_
                    refine lv_iconst (v := 0) hx hb dX6_chain_50 (by decide) ?_
                    refine Ml_0 C h (ix_of zl0 (by omega)) dX6_chain_51 ?_
                    refine lv_icmp_ge (tgt := 93) hx hb dX6_chain_52 (by decide) (fun c52 => ?_) (fun c52 => ?_)
                    · have i52 := c_le c52
                      exact kk x2_44 x5_44 _ _ _ (show f_X6_chain_L44 σ p1 x2_20 x4_30 (n + 1) x2_44 x5_44 = (x2_44, x5_44) from (by exact ((if_pos c52).trans rfl)))  (by first | assumption | omega) h (lv_sub hl [0, 1, 2, 3, 4] rfl)
                    · have i52 := c_nle c52
                      refine lv_aload_n hx hb dX6_chain_55 rfl (lv_at hl 0 rfl) ?_
                      refine lv_iload_n hx hb dX6_chain_56 rfl (lv_at hl 2 rfl) ?_
                      refine lv_iload hx hb dX6_chain_57 (lv_at hl 4 rfl) ?_
                      refine M_callz (As := [.int x2_44, .int x4_30]) (rest := []) 2 C h (k_X6_isIn l g σ x2_44 x4_30) (lw_V q1906 q1908 qs107 q152 q1909) rfl rfl (by decide +kernel) ⟨Nat.le_of_ble_eq_true rfl, Nat.le_of_ble_eq_true rfl⟩ rfl hl.1 rfl (Nat.le_of_ble_eq_true rfl) ⟨Nat.le_of_ble_eq_true rfl, Nat.le_of_ble_eq_true rfl⟩ dX6_chain_59 (fun r59 σ59 H locs eσ59 er59 br59 hE59 h => ?_)
                      rw [eσ59] at h
                      clear hE59
                      clear eσ59
                      refine lv_if_eq (tgt := 87) hx hb dX6_chain_62 (by decide) (fun c62 => ?_) (fun c62 => ?_)
                      · have i62 := c_eq c62
                        refine lv_iinc (v := (x5_44 + (1 : Int32))) (lv' := [(5, .int (x5_44 + (1 : Int32))), (0, .ref (g.2.1 99)), (1, .int p1), (2, .int x2_44), (3, .int x2_20), (4, .int x4_30)]) hx hb dX6_chain_87 hl (k := 5) rfl rfl (by decide) rfl (fun ls hl => ?_)
                        refine lv_goto (tgt := 44) hx hb dX6_chain_90 (by decide) ?_
                        have tt5 : (x5_44 + (1 : Int32)).toInt = (x5_44.toInt + (1)) := (i_add (rfl : x5_44.toInt = x5_44.toInt) zl1 (by omega))
                        exact ih x2_44 (x5_44 + (1 : Int32)) _ _ _  (by first | assumption | omega) (by omega) h (lv_sub hl [1, 2, 3, 4, 5, 0] rfl) (fun x2_44' x5_44' H locs ls en hI h hl => kk x2_44' x5_44' H locs ls ((show f_X6_chain_L44 σ p1 x2_20 x4_30 (n + 1) x2_44 x5_44 = f_X6_chain_L44 σ p1 x2_20 x4_30 n x2_44 (x5_44 + (1 : Int32)) from (by subst er59; exact ((if_neg c52).trans ((if_pos c62).trans rfl)))).trans en) hI h hl)
                      · have i62 := c_ne c62
                        have okr59 := isIn_ok er59 c62
                        refine lv_aload_n hx hb dX6_chain_65 rfl (lv_at hl 0 rfl) ?_
                        refine Mg_0 C h dX6_chain_66 ?_
                        refine lv_iload hx hb dX6_chain_69 (lv_at hl 4 rfl) ?_
                        refine lv_iload hx hb dX6_chain_71 (lv_at hl 5 rfl) ?_
                        refine s_calli (As := [.int x4_30, .int x5_44]) (rest := [.ref (g.2.1 0)]) 2 C.1 (k_X6_debtRow l x4_30 x5_44) (lw_S q1970 q1971 q152 q1972) rfl rfl (by decide +kernel) ⟨Nat.le_of_ble_eq_true rfl, Nat.le_of_ble_eq_true rfl⟩ rfl hl.1 rfl (Nat.le_of_ble_eq_true rfl) ⟨Nat.le_of_ble_eq_true rfl, Nat.le_of_ble_eq_true rfl⟩ dX6_chain_73 h.2.2 (fun r73 H locs er73 hz1 hk1 hS1 => ?_)
                        have h := h.same hk1 hS1
                        clear hz1 hk1 hS1
                        have tr73 : r73.toInt = (((92) + ((6) * x4_30.toInt)) + x5_44.toInt) := by rw [er73]; exact (i_add (i_add zl92 (i_mul zl6 (rfl : x4_30.toInt = x4_30.toInt) (by omega)) (by omega)) (rfl : x5_44.toInt = x5_44.toInt) (by omega))
                        refine Ml_0 C h (ix_of tr73 (by omega)) dX6_chain_76 ?_
                        refine lv_if_le (tgt := 87) hx hb dX6_chain_77 (by decide) (fun c77 => ?_) (fun c77 => ?_)
                        · have i77 := c_le c77
                          refine lv_iinc (v := (x5_44 + (1 : Int32))) (lv' := [(5, .int (x5_44 + (1 : Int32))), (0, .ref (g.2.1 99)), (1, .int p1), (2, .int x2_44), (3, .int x2_20), (4, .int x4_30)]) hx hb dX6_chain_87 hl (k := 5) rfl rfl (by decide) rfl (fun ls hl => ?_)
                          refine lv_goto (tgt := 44) hx hb dX6_chain_90 (by decide) ?_
                          have tt5 : (x5_44 + (1 : Int32)).toInt = (x5_44.toInt + (1)) := (i_add (rfl : x5_44.toInt = x5_44.toInt) zl1 (by omega))
                          exact ih x2_44 (x5_44 + (1 : Int32)) _ _ _  (by first | assumption | omega) (by omega) h (lv_sub hl [1, 2, 3, 4, 5, 0] rfl) (fun x2_44' x5_44' H locs ls en hI h hl => kk x2_44' x5_44' H locs ls ((show f_X6_chain_L44 σ p1 x2_20 x4_30 (n + 1) x2_44 x5_44 = f_X6_chain_L44 σ p1 x2_20 x4_30 n x2_44 (x5_44 + (1 : Int32)) from (by subst er59; subst er73; exact ((if_neg c52).trans ((if_neg c62).trans ((if_pos c77).trans rfl))))).trans en) hI h hl)
                        · have i77 := c_nle c77
                          refine lv_iload_n hx hb dX6_chain_80 rfl (lv_at hl 2 rfl) ?_
                          refine lv_iconst (v := 1) hx hb dX6_chain_81 (by decide) ?_
                          refine lv_iload hx hb dX6_chain_82 (lv_at hl 5 rfl) ?_
                          refine lv_ishl hx hb dX6_chain_84 ?_
                          refine lv_ior hx hb dX6_chain_85 ?_
                          refine lv_topi (fun v86 ev86 => ?_)
                          refine lv_istore_n (lv' := [(2, .int v86), (0, .ref (g.2.1 99)), (1, .int p1), (3, .int x2_20), (4, .int x4_30), (5, .int x5_44)]) hx hb dX6_chain_86 rfl hl (by decide) rfl (fun ls hl => ?_)
                          have w86 : x2_44.toInt ≤ v86.toInt ∧ v86.toInt ≤ 63 := by rw [ev86]; exact or_rng (by omega) (by omega)
                          refine lv_iinc (v := (x5_44 + (1 : Int32))) (lv' := [(5, .int (x5_44 + (1 : Int32))), (2, .int v86), (0, .ref (g.2.1 99)), (1, .int p1), (3, .int x2_20), (4, .int x4_30)]) hx hb dX6_chain_87 hl (k := 5) rfl rfl (by decide) rfl (fun ls hl => ?_)
                          refine lv_goto (tgt := 44) hx hb dX6_chain_90 (by decide) ?_
                          have tt5 : (x5_44 + (1 : Int32)).toInt = (x5_44.toInt + (1)) := (i_add (rfl : x5_44.toInt = x5_44.toInt) zl1 (by omega))
                          exact ih v86 (x5_44 + (1 : Int32)) _ _ _  (by first | assumption | omega) (by omega) h (lv_sub hl [2, 3, 1, 4, 5, 0] rfl) (fun x2_44' x5_44' H locs ls en hI h hl => kk x2_44' x5_44' H locs ls ((show f_X6_chain_L44 σ p1 x2_20 x4_30 (n + 1) x2_44 x5_44 = f_X6_chain_L44 σ p1 x2_20 x4_30 n v86 (x5_44 + (1 : Int32)) from (by subst er59; subst er73; subst ev86; exact ((if_neg c52).trans ((if_neg c62).trans ((if_neg c77).trans rfl))))).trans en) hI h hl)
                refine hL44 (7) x2_30 (0 : Int32) _ _ _  (by first | assumption | omega) (by omega) h (lv_sub hl [1, 2, 3, 4, 5, 0] rfl) (fun x2_44e x5_44e H locs ls eL44 hI44 h hl => ?_)
                have ex2_44e : x2_44e = (f_X6_chain_L44 σ p1 x2_20 x4_30 (7) x2_30 (0 : Int32)).1 := by rw [eL44]
                have ex5_44e : x5_44e = (f_X6_chain_L44 σ p1 x2_20 x4_30 (7) x2_30 (0 : Int32)).2 := by rw [eL44]
                refine lv_iinc (v := (x4_30 + (1 : Int32))) (lv' := [(4, .int (x4_30 + (1 : Int32))), (0, .ref (g.2.1 99)), (1, .int p1), (2, .int x2_44e), (3, .int x2_20)]) hx hb dX6_chain_93 hl (k := 4) rfl rfl (by decide) rfl (fun ls hl => ?_)
                refine lv_goto (tgt := 30) hx hb dX6_chain_96 (by decide) ?_
                have tt4 : (x4_30 + (1 : Int32)).toInt = (x4_30.toInt + (1)) := (i_add (rfl : x4_30.toInt = x4_30.toInt) zl1 (by omega))
                exact ih x2_44e (x4_30 + (1 : Int32)) _ _ _  (by first | assumption | omega) (by omega) h (lv_sub hl [1, 2, 3, 4, 0] rfl) (fun x2_30' x4_30' H locs ls en hI h hl => kk x2_30' x4_30' H locs ls ((show f_X6_chain_L30 σ p1 x2_20 (n + 1) x2_30 x4_30 = f_X6_chain_L30 σ p1 x2_20 n x2_44e (x4_30 + (1 : Int32)) from (by subst ex2_44e; subst ex5_44e; exact ((if_neg c38).trans rfl))).trans en) hI h hl)
          refine hL30 (7) x2_20 (0 : Int32) _ _ _  (by first | assumption | omega) (by omega) h (lv_sub hl [2, 3, 4, 1, 0] rfl) (fun x2_30e x4_30e H locs ls eL30 hI30 h hl => ?_)
          have ex2_30e : x2_30e = (f_X6_chain_L30 σ p1 x2_20 (7) x2_20 (0 : Int32)).1 := by rw [eL30]
          have ex4_30e : x4_30e = (f_X6_chain_L30 σ p1 x2_20 (7) x2_20 (0 : Int32)).2 := by rw [eL30]
          refine lv_goto (tgt := 20) hx hb dX6_chain_99 (by decide) ?_
          exact ih x2_30e x2_20 _ _ _  (by first | assumption | omega) (by omega) h hl (fun x2_20' x3_20' H locs ls en hI h hl => kk x2_20' x3_20' H locs ls ((show f_X6_chain_L20 σ p1 (n + 1) x2_20 x3_20 = f_X6_chain_L20 σ p1 n x2_30e x2_20 from (by subst ex2_30e; subst ex4_30e; exact ((if_neg c22).trans rfl))).trans en) hI h hl)
    refine hL20 (131) v17 (0 : Int32) _ _ _  (by first | assumption | omega) (by omega) h (lv_sub hl [2, 3, 1, 0] rfl) (fun x2_20e x3_20e H locs ls eL20 hI20 h hl => ?_)
    have ex2_20e : x2_20e = (f_X6_chain_L20 σ p1 (131) v17 (0 : Int32)).1 := by rw [eL20]
    have ex3_20e : x3_20e = (f_X6_chain_L20 σ p1 (131) v17 (0 : Int32)).2 := by rw [eL20]
    refine lv_aload_n hx hb dX6_chain_102 rfl (lv_at hl 0 rfl) ?_
    refine lv_iload_n hx hb dX6_chain_103 rfl (lv_at hl 2 rfl) ?_
    refine lv_iconst (v := 1) hx hb dX6_chain_104 (by decide) ?_
    refine lv_iload_n hx hb dX6_chain_105 rfl (lv_at hl 1 rfl) ?_
    refine lv_ishl hx hb dX6_chain_106 ?_
    refine lv_iconst (v := -1) hx hb dX6_chain_107 (by decide) ?_
    refine lv_ixor hx hb dX6_chain_108 ?_
    refine lv_iand hx hb dX6_chain_109 ?_
    refine M_calli (As := [.int (x2_20e &&& (((1 : Int32) <<< (p1 &&& (31 : Int32))) ^^^ (-1 : Int32)))]) (rest := []) 1 C h (k_X6_gives l g σ (x2_20e &&& (((1 : Int32) <<< (p1 &&& (31 : Int32))) ^^^ (-1 : Int32)))) (lw_V q1806 q1808 qs91 q152 q1809) rfl rfl (by decide +kernel) ⟨Nat.le_of_ble_eq_true rfl, Nat.le_of_ble_eq_true rfl⟩ rfl hl.1 rfl (Nat.le_of_ble_eq_true rfl) ⟨Nat.le_of_ble_eq_true rfl, Nat.le_of_ble_eq_true rfl⟩ dX6_chain_110 (fun r110 σ110 H locs eσ110 er110 hE110 h => ?_)
    clear hE110
    have hNEW : (0 ≤ (ga σ110 0 (0 : Int32)).toInt ∧ (ga σ110 0 (0 : Int32)).toInt ≤ 6) ∧ ((ga σ110 0 (0 : Int32)).toInt = (ga σ 0 (0 : Int32)).toInt) := ⟨(by rw [eσ110, gives_s] <;> exact hp), (by rw [eσ110, gives_s] <;> exact hpq)⟩
    obtain ⟨hp, hpq⟩ := hNEW
    have he : f_X6_chain σ p1 = (σ110, r110) := (by subst er2; subst ev17; subst ex2_20e; subst ex3_20e; subst eσ110; subst er110; exact ((if_neg c5).trans rfl))
    exact M_reti C h hr hlocks (congrArg Prod.fst he) (congrArg Prod.snd he) hpq dX6_chain_113
  · have i5 := c_eq c5
    refine lv_aload_n hx hb dX6_chain_8 rfl (lv_at hl 0 rfl) ?_
    refine lv_iconst (v := 1) hx hb dX6_chain_9 (by decide) ?_
    refine M_calli (As := [.int (1 : Int32)]) (rest := []) 1 C h (k_X6_refuse l g σ (1 : Int32)) (lw_V q1723 q1725 qs71 q152 q1726) rfl rfl (by decide +kernel) ⟨Nat.le_of_ble_eq_true rfl, Nat.le_of_ble_eq_true rfl⟩ rfl hl.1 rfl (Nat.le_of_ble_eq_true rfl) ⟨Nat.le_of_ble_eq_true rfl, Nat.le_of_ble_eq_true rfl⟩ dX6_chain_10 (fun r10 σ10 H locs eσ10 er10 hE10 h => ?_)
    clear hE10
    have hNEW : (0 ≤ (ga σ10 0 (0 : Int32)).toInt ∧ (ga σ10 0 (0 : Int32)).toInt ≤ 6) ∧ ((ga σ10 0 (0 : Int32)).toInt = (ga σ 0 (0 : Int32)).toInt) := ⟨(by rw [eσ10, refuse_s] <;> exact hp), (by rw [eσ10, refuse_s] <;> exact hpq)⟩
    obtain ⟨hp, hpq⟩ := hNEW
    have he : f_X6_chain σ p1 = (σ10, r10) := (by subst er2; subst eσ10; subst er10; exact ((if_pos c5).trans rfl))
    exact M_reti C h hr hlocks (congrArg Prod.fst he) (congrArg Prod.snd he) hpq dX6_chain_13
def f_X6_evenPays (σ : MS) (p1 : Int32) (p2 : Int32) (p3 : Int32) : Int32 := (let r1 := (f_X6_heads σ); let r4 := (f_X6_bits r1); let r11 := (f_X6_balanceOf σ p3); if (r11 - ((r11 / p1) * p1)) = (0 : Int32) then (if ((p2 - (r11 / p1)) - (((p2 - (r11 / p1)) / r4) * r4)) = (0 : Int32) then (if (r11 / p1) ≤ p2 then (((p2 - (r11 / p1)) / r4)) else ((-1 : Int32))) else ((-1 : Int32))) else ((-1 : Int32)))
set_option maxHeartbeats 4000000 in
set_option maxRecDepth 100000 in
theorem k_X6_evenPays (l : Launch) (g : GE) (σ : MS) (p1 : Int32) (p2 : Int32) (p3 : Int32) (hp : 0 ≤ (ga σ 0 (0 : Int32)).toInt ∧ (ga σ 0 (0 : Int32)).toInt ≤ 6) (h3r : 0 ≤ p3.toInt ∧ p3.toInt ≤ 5) (hn : 1 ≤ p1.toInt) (hbn : ¬ f_X6_bits (f_X6_heads σ) = 0) : Met l yX6_evenPays (ws_ yX6_evenPays cX6_evenPays 6 (some .int)) ({ frames := 2, cells := 0, slots := 0, locals := 44 } : Room) (mPc g σ [.int p1, .int p2, .int p3]) (mQi g σ (f_X6_evenPays σ p1 p2 p3) (fun u r => True)) 0 0 (mA g) := by
  refine met_M (by decide) rfl (Nat.le_of_ble_eq_true rfl) ?_
  intro p e s m args below meth c C hr hlocks h ls hl
  have hx := C.1.1
  have hb := C.1.2.1
  have hml := C.1.2.2.1
  have hown := C.1.2.2.2.1
  have hts := C.1.2.2.2.2
  have hl : lv_has ls 6 [(0, .ref (g.2.1 99)), (1, .int p1), (2, .int p2), (3, .int p3)] := hl
  have zlm1 : (-1 : Int32).toInt = -1 := rfl
  have zl0 : (0 : Int32).toInt = 0 := rfl
  refine lv_aload_n hx hb dX6_evenPays_0 rfl (lv_at hl 0 rfl) ?_
  refine M_calli (As := []) (rest := []) 0 C h (k_X6_heads l g σ) (lw_V q1842 q1844 qs98 q152 q1845) rfl rfl (by decide +kernel) ⟨Nat.le_of_ble_eq_true rfl, Nat.le_of_ble_eq_true rfl⟩ rfl hl.1 rfl (Nat.le_of_ble_eq_true rfl) ⟨Nat.le_of_ble_eq_true rfl, Nat.le_of_ble_eq_true rfl⟩ dX6_evenPays_1 (fun r1 σ1 H locs eσ1 er1 hE1 h => ?_)
  rw [eσ1] at h
  clear hE1
  clear eσ1
  have rgr1 := heads_rng hp er1
  refine s_calli (As := [.int r1]) (rest := []) 1 C.1 (k_X6_bits l r1) (lw_S q1850 q1851 q152 q1852) rfl rfl (by decide +kernel) ⟨Nat.le_of_ble_eq_true rfl, Nat.le_of_ble_eq_true rfl⟩ rfl hl.1 rfl (Nat.le_of_ble_eq_true rfl) ⟨Nat.le_of_ble_eq_true rfl, Nat.le_of_ble_eq_true rfl⟩ dX6_evenPays_4 h.2.2 (fun r4 H locs er4 hz1 hk1 hS1 => ?_)
  have h := h.same hk1 hS1
  clear hz1 hk1 hS1
  refine lv_istore (lv' := [(4, .int r4), (0, .ref (g.2.1 99)), (1, .int p1), (2, .int p2), (3, .int p3)]) hx hb dX6_evenPays_7 hl (by decide) rfl (fun ls hl => ?_)
  refine lv_aload_n hx hb dX6_evenPays_9 rfl (lv_at hl 1 rfl) ?_
  refine lv_iload_n hx hb dX6_evenPays_10 rfl (lv_at hl 4 rfl) ?_
  refine M_calli (As := [.int p3]) (rest := []) 1 C h (k_X6_balanceOf l g σ p3 (by first | assumption | omega) (by first | assumption | omega)) (lw_V q1986 q1988 qs112 q152 q1989) rfl rfl (by decide +kernel) ⟨Nat.le_of_ble_eq_true rfl, Nat.le_of_ble_eq_true rfl⟩ rfl hl.1 rfl (Nat.le_of_ble_eq_true rfl) ⟨Nat.le_of_ble_eq_true rfl, Nat.le_of_ble_eq_true rfl⟩ dX6_evenPays_11 (fun r11 σ11 H locs eσ11 er11 hE11 h => ?_)
  rw [eσ11] at h
  clear hE11
  clear eσ11
  refine lv_istore (lv' := [(5, .int r11), (4, .int r4), (0, .ref (g.2.1 99)), (1, .int p1), (2, .int p2), (3, .int p3)]) hx hb dX6_evenPays_14 hl (by decide) rfl (fun ls hl => ?_)
  refine lv_iload hx hb dX6_evenPays_16 (lv_at hl 0 rfl) ?_
  refine lv_iload_n hx hb dX6_evenPays_18 rfl (lv_at hl 3 rfl) ?_
  refine lv_irem hx hb dX6_evenPays_19 (ne_pos hn) ?_
  refine lv_if_ne (tgt := 43) hx hb dX6_evenPays_20 (by decide) (fun c20 => ?_) (fun c20 => ?_)
  · have i20 := c_ne c20
    refine lv_iconst (v := -1) hx hb dX6_evenPays_43 (by decide) ?_
    have he : f_X6_evenPays σ p1 p2 p3 = (-1 : Int32) := (by subst er1; subst er4; subst er11; exact ((if_neg c20).trans rfl))
    exact M_reti C h hr hlocks rfl he trivial dX6_evenPays_44
  · have i20 := c_eq c20
    refine lv_iload_n hx hb dX6_evenPays_23 rfl (lv_at hl 4 rfl) ?_
    refine lv_iload hx hb dX6_evenPays_24 (lv_at hl 0 rfl) ?_
    refine lv_iload_n hx hb dX6_evenPays_26 rfl (lv_at hl 3 rfl) ?_
    refine lv_idiv hx hb dX6_evenPays_27 (ne_pos hn) ?_
    refine lv_isub hx hb dX6_evenPays_28 ?_
    refine lv_iload hx hb dX6_evenPays_29 (lv_at hl 1 rfl) ?_
    refine lv_irem hx hb dX6_evenPays_31 (by rw [er4, er1]; exact hbn) ?_
    refine lv_if_ne (tgt := 43) hx hb dX6_evenPays_32 (by decide) (fun c32 => ?_) (fun c32 => ?_)
    · have i32 := c_ne c32
      refine lv_iconst (v := -1) hx hb dX6_evenPays_43 (by decide) ?_
      have he : f_X6_evenPays σ p1 p2 p3 = (-1 : Int32) := (by subst er1; subst er4; subst er11; exact ((if_pos c20).trans ((if_neg c32).trans rfl)))
      exact M_reti C h hr hlocks rfl he trivial dX6_evenPays_44
    · have i32 := c_eq c32
      refine lv_iload_n hx hb dX6_evenPays_35 rfl (lv_at hl 4 rfl) ?_
      refine lv_iload hx hb dX6_evenPays_36 (lv_at hl 0 rfl) ?_
      refine lv_iload_n hx hb dX6_evenPays_38 rfl (lv_at hl 3 rfl) ?_
      refine lv_idiv hx hb dX6_evenPays_39 (ne_pos hn) ?_
      refine lv_icmp_ge (tgt := 45) hx hb dX6_evenPays_40 (by decide) (fun c40 => ?_) (fun c40 => ?_)
      · have i40 := c_le c40
        refine lv_iload_n hx hb dX6_evenPays_45 rfl (lv_at hl 4 rfl) ?_
        refine lv_iload hx hb dX6_evenPays_46 (lv_at hl 0 rfl) ?_
        refine lv_iload_n hx hb dX6_evenPays_48 rfl (lv_at hl 3 rfl) ?_
        refine lv_idiv hx hb dX6_evenPays_49 (ne_pos hn) ?_
        refine lv_isub hx hb dX6_evenPays_50 ?_
        refine lv_iload hx hb dX6_evenPays_51 (lv_at hl 1 rfl) ?_
        refine lv_idiv hx hb dX6_evenPays_53 (by rw [er4, er1]; exact hbn) ?_
        have he : f_X6_evenPays σ p1 p2 p3 = ((p2 - (r11 / p1)) / r4) := (by subst er1; subst er4; subst er11; exact ((if_pos c20).trans ((if_pos c32).trans ((if_pos c40).trans rfl))))
        exact M_reti C h hr hlocks rfl he trivial dX6_evenPays_54
      · have i40 := c_nle c40
        refine lv_iconst (v := -1) hx hb dX6_evenPays_43 (by decide) ?_
        have he : f_X6_evenPays σ p1 p2 p3 = (-1 : Int32) := (by subst er1; subst er4; subst er11; exact ((if_pos c20).trans ((if_pos c32).trans ((if_neg c40).trans rfl))))
        exact M_reti C h hr hlocks rfl he trivial dX6_evenPays_44
def f_X6_evenIn_L13 (σ : MS) (y1_13 : Int32) (y2_13 : Int32) : Nat → Int32 → Int32 → Int32 × Int32
  | 0, x3_13, x4_13 => (x3_13, x4_13)
  | n + 1, x3_13, x4_13 => if (ga σ 0 (0 : Int32)) ≤ x4_13 then ((x3_13, x4_13)) else (if x3_13 = (-1 : Int32) then ((x3_13, x4_13)) else ((let r31 := (f_X6_heads σ); let r36 := (f_X6_isIn σ r31 x4_13); if r36 = (0 : Int32) then (f_X6_evenIn_L13 σ y1_13 y2_13 n x3_13 (x4_13 + (1 : Int32))) else ((let r50 := (f_X6_evenPays σ y1_13 y2_13 x4_13); (let z69_ : Int32 := (if r50 = (-1 : Int32) then ((-1 : Int32)) else ((x3_13 + r50))); let t0_69 := z69_; f_X6_evenIn_L13 σ y1_13 y2_13 n t0_69 (x4_13 + (1 : Int32))))))))
def f_X6_evenIn_L2 (σ : MS) (y1_2 : Int32) : Nat → Int32 → Int32
  | 0, x2_2 => 0
  | n + 1, x2_2 => if (100 : Int32) ≤ x2_2 then ((-1 : Int32)) else ((let zL13 := f_X6_evenIn_L13 σ y1_2 x2_2 (7) (0 : Int32) (0 : Int32); let x3_13e := zL13.1; let x4_13e := zL13.2; if x3_13e = x2_2 then (x2_2) else (f_X6_evenIn_L2 σ y1_2 n (x2_2 + (1 : Int32)))))
def f_X6_evenIn (σ : MS) (p1 : Int32) : Int32 := f_X6_evenIn_L2 σ p1 (101) (0 : Int32)
set_option maxHeartbeats 4000000 in
set_option maxRecDepth 100000 in
theorem k_X6_evenIn (l : Launch) (g : GE) (σ : MS) (p1 : Int32) (hp : 0 ≤ (ga σ 0 (0 : Int32)).toInt ∧ (ga σ 0 (0 : Int32)).toInt ≤ 6) (hn : 1 ≤ p1.toInt) : Met l yX6_evenIn (ws_ yX6_evenIn cX6_evenIn 6 (some .int)) ({ frames := 3, cells := 0, slots := 0, locals := 69 } : Room) (mPc g σ [.int p1]) (mQi g σ (f_X6_evenIn σ p1) (fun u r => True)) 0 0 (mA g) := by
  refine met_M (by decide) rfl (Nat.le_of_ble_eq_true rfl) ?_
  intro p e s m args below meth c C hr hlocks h ls hl
  have hx := C.1.1
  have hb := C.1.2.1
  have hml := C.1.2.2.1
  have hown := C.1.2.2.2.1
  have hts := C.1.2.2.2.2
  have hl : lv_has ls 6 [(0, .ref (g.2.1 99)), (1, .int p1)] := hl
  have zlm1 : (-1 : Int32).toInt = -1 := rfl
  have zl0 : (0 : Int32).toInt = 0 := rfl
  have zl1 : (1 : Int32).toInt = 1 := rfl
  have zl100 : (100 : Int32).toInt = 100 := rfl
  refine lv_iconst (v := 0) hx hb dX6_evenIn_0 (by decide) ?_
  refine lv_istore_n (lv' := [(2, .int (0 : Int32)), (0, .ref (g.2.1 99)), (1, .int p1)]) hx hb dX6_evenIn_1 rfl hl (by decide) rfl (fun ls hl => ?_)
  have hL2 : ∀ (n : Nat) (x2_2 : Int32) (H : Heap) (locs : List Loc) (ls : Array Slot), (0 ≤ x2_2.toInt ∧ x2_2.toInt ≤ 100) → (100 - x2_2.toInt).toNat < n → f_X6_evenIn σ p1 = f_X6_evenIn_L2 σ p1 n x2_2 → MH g σ s H locs → lv_has ls 6 [(0, .ref (g.2.1 99)), (1, .int p1), (2, .int x2_2)] → W p l e ({ frames := 3, cells := 0, slots := 0, locals := 69 } : Room) s m args below meth c H locs 0 0 (MQ below (mQi g σ (f_X6_evenIn σ p1) (fun u r => True)) args s 0 0 (mA g)) (F0 m 2 ls []) := by
    intro n
    induction n with
    | zero =>
      intro x2_2 H locs ls _ hm; exact absurd hm (Nat.not_lt_zero _)
    | succ n ih =>
      intro x2_2 H locs ls hI2 hm hf2 h hl
      refine lv_iload_n hx hb dX6_evenIn_2 rfl (lv_at hl 2 rfl) ?_
      refine lv_bipush (v := 100) hx hb dX6_evenIn_3 (by decide) ?_
      refine lv_icmp_ge (tgt := 89) hx hb dX6_evenIn_5 (by decide) (fun c5 => ?_) (fun c5 => ?_)
      · have i5 := c_le c5
        refine lv_iconst (v := -1) hx hb dX6_evenIn_89 (by decide) ?_
        have he : f_X6_evenIn σ p1 = (-1 : Int32) := (by exact (hf2.trans ((if_pos c5).trans rfl)))
        exact M_reti C h hr hlocks rfl he trivial dX6_evenIn_90
      · have i5 := c_nle c5
        refine lv_iconst (v := 0) hx hb dX6_evenIn_8 (by decide) ?_
        refine lv_istore_n (lv' := [(3, .int (0 : Int32)), (0, .ref (g.2.1 99)), (1, .int p1), (2, .int x2_2)]) hx hb dX6_evenIn_9 rfl hl (by decide) rfl (fun ls hl => ?_)
        refine lv_iconst (v := 0) hx hb dX6_evenIn_10 (by decide) ?_
        refine lv_istore (lv' := [(4, .int (0 : Int32)), (3, .int (0 : Int32)), (0, .ref (g.2.1 99)), (1, .int p1), (2, .int x2_2)]) hx hb dX6_evenIn_11 hl (by decide) rfl (fun ls hl => ?_)
        have hL13 : ∀ (n : Nat) (x3_13 : Int32) (x4_13 : Int32) (H : Heap) (locs : List Loc) (ls : Array Slot), (0 ≤ x4_13.toInt ∧ x4_13.toInt ≤ (ga σ 0 (0 : Int32)).toInt) → ((ga σ 0 (0 : Int32)).toInt - x4_13.toInt).toNat < n → MH g σ s H locs → lv_has ls 6 [(0, .ref (g.2.1 99)), (1, .int p1), (2, .int x2_2), (3, .int x3_13), (4, .int x4_13)] → (∀ (x3_13' : Int32) (x4_13' : Int32) (H : Heap) (locs : List Loc) (ls : Array Slot), f_X6_evenIn_L13 σ p1 x2_2 n x3_13 x4_13 = (x3_13', x4_13') → (0 ≤ x4_13'.toInt ∧ x4_13'.toInt ≤ (ga σ 0 (0 : Int32)).toInt) → MH g σ s H locs → lv_has ls 6 [(0, .ref (g.2.1 99)), (1, .int p1), (2, .int x2_2), (3, .int x3_13')] → W p l e ({ frames := 3, cells := 0, slots := 0, locals := 69 } : Room) s m args below meth c H locs 0 0 (MQ below (mQi g σ (f_X6_evenIn σ p1) (fun u r => True)) args s 0 0 (mA g)) (F0 m 76 ls [])) → W p l e ({ frames := 3, cells := 0, slots := 0, locals := 69 } : Room) s m args below meth c H locs 0 0 (MQ below (mQi g σ (f_X6_evenIn σ p1) (fun u r => True)) args s 0 0 (mA g)) (F0 m 13 ls []) := by
          intro n
          induction n with
          | zero =>
            intro x3_13 x4_13 H locs ls _ hm; exact absurd hm (Nat.not_lt_zero _)
          | succ n ih =>
            intro x3_13 x4_13 H locs ls hI13 hm h hl kk
            refine lv_iload hx hb dX6_evenIn_13 (lv_at hl 4 rfl) ?_
            refine lv_aload_n hx hb dX6_evenIn_15 rfl (lv_at hl 0 rfl) ?_
            refine Mg_0 C h dX6_evenIn_16 ?_
            refine lv_iconst (v := 0) hx hb dX6_evenIn_19 (by decide) ?_
            refine Ml_0 C h (ix_of zl0 (by omega)) dX6_evenIn_20 ?_
            refine lv_icmp_ge (tgt := 76) hx hb dX6_evenIn_21 (by decide) (fun c21 => ?_) (fun c21 => ?_)
            · have i21 := c_le c21
              exact kk x3_13 x4_13 _ _ _ (show f_X6_evenIn_L13 σ p1 x2_2 (n + 1) x3_13 x4_13 = (x3_13, x4_13) from (by exact ((if_pos c21).trans rfl)))  (by first | assumption | omega) h (lv_sub hl [0, 1, 2, 3] rfl)
            · have i21 := c_nle c21
              refine lv_iload_n hx hb dX6_evenIn_24 rfl (lv_at hl 3 rfl) ?_
              refine lv_iconst (v := -1) hx hb dX6_evenIn_25 (by decide) ?_
              refine lv_icmp_eq (tgt := 76) hx hb dX6_evenIn_26 (by decide) (fun c26 => ?_) (fun c26 => ?_)
              · have i26 := c_eq c26
                exact kk x3_13 x4_13 _ _ _ (show f_X6_evenIn_L13 σ p1 x2_2 (n + 1) x3_13 x4_13 = (x3_13, x4_13) from (by exact ((if_neg c21).trans ((if_pos c26).trans rfl))))  (by first | assumption | omega) h (lv_sub hl [0, 1, 2, 3] rfl)
              · have i26 := c_ne c26
                refine lv_aload_n hx hb dX6_evenIn_29 rfl (lv_at hl 0 rfl) ?_
                refine lv_aload_n hx hb dX6_evenIn_30 rfl (lv_at hl 0 rfl) ?_
                refine M_calli (As := []) (rest := [.ref (g.2.1 99)]) 0 C h (k_X6_heads l g σ) (lw_V q1842 q1844 qs98 q152 q1845) rfl rfl (by decide +kernel) ⟨Nat.le_of_ble_eq_true rfl, Nat.le_of_ble_eq_true rfl⟩ rfl hl.1 rfl (Nat.le_of_ble_eq_true rfl) ⟨Nat.le_of_ble_eq_true rfl, Nat.le_of_ble_eq_true rfl⟩ dX6_evenIn_31 (fun r31 σ31 H locs eσ31 er31 hE31 h => ?_)
                rw [eσ31] at h
                clear hE31
                clear eσ31
                have rgr31 := heads_rng hp er31
                refine lv_iload hx hb dX6_evenIn_34 (lv_at hl 4 rfl) ?_
                refine M_callz (As := [.int r31, .int x4_13]) (rest := []) 2 C h (k_X6_isIn l g σ r31 x4_13) (lw_V q1906 q1908 qs107 q152 q1909) rfl rfl (by decide +kernel) ⟨Nat.le_of_ble_eq_true rfl, Nat.le_of_ble_eq_true rfl⟩ rfl hl.1 rfl (Nat.le_of_ble_eq_true rfl) ⟨Nat.le_of_ble_eq_true rfl, Nat.le_of_ble_eq_true rfl⟩ dX6_evenIn_36 (fun r36 σ36 H locs eσ36 er36 br36 hE36 h => ?_)
                rw [eσ36] at h
                clear hE36
                clear eσ36
                refine lv_if_ne (tgt := 45) hx hb dX6_evenIn_39 (by decide) (fun c39 => ?_) (fun c39 => ?_)
                · have i39 := c_ne c39
                  have okr36 := isIn_ok er36 c39
                  refine lv_aload_n hx hb dX6_evenIn_45 rfl (lv_at hl 0 rfl) ?_
                  refine lv_iload_n hx hb dX6_evenIn_46 rfl (lv_at hl 1 rfl) ?_
                  refine lv_iload_n hx hb dX6_evenIn_47 rfl (lv_at hl 2 rfl) ?_
                  refine lv_iload hx hb dX6_evenIn_48 (lv_at hl 4 rfl) ?_
                  refine M_calli (As := [.int p1, .int x2_2, .int x4_13]) (rest := []) 3 C h (k_X6_evenPays l g σ p1 x2_2 x4_13 (by first | assumption | omega) (by first | assumption | omega) (by first | assumption | omega) (heads_bits hp er31 (by omega) okr36)) (lw_V q2122 q2124 qs127 q152 q2125) rfl rfl (by decide +kernel) ⟨Nat.le_of_ble_eq_true rfl, Nat.le_of_ble_eq_true rfl⟩ rfl hl.1 rfl (Nat.le_of_ble_eq_true rfl) ⟨Nat.le_of_ble_eq_true rfl, Nat.le_of_ble_eq_true rfl⟩ dX6_evenIn_50 (fun r50 σ50 H locs eσ50 er50 hE50 h => ?_)
                  rw [eσ50] at h
                  clear hE50
                  clear eσ50
                  refine lv_istore (lv' := [(5, .int r50), (0, .ref (g.2.1 99)), (1, .int p1), (2, .int x2_2), (3, .int x3_13), (4, .int x4_13)]) hx hb dX6_evenIn_53 hl (by decide) rfl (fun ls hl => ?_)
                  refine lv_iload hx hb dX6_evenIn_55 (lv_at hl 0 rfl) ?_
                  refine lv_iconst (v := -1) hx hb dX6_evenIn_57 (by decide) ?_
                  have j69 : ∀ (t0_69 : Int32) (H : Heap) (locs : List Loc) (ls : Array Slot) (ej69 : (if r50 = (-1 : Int32) then ((-1 : Int32)) else ((x3_13 + r50))) = t0_69) (h : MH g σ s H locs) (hl : lv_has ls 6 [(0, .ref (g.2.1 99)), (1, .int p1), (2, .int x2_2), (4, .int x4_13)]), W p l e ({ frames := 3, cells := 0, slots := 0, locals := 69 } : Room) s m args below meth c H locs 0 0 (MQ below (mQi g σ (f_X6_evenIn σ p1) (fun u r => True)) args s 0 0 (mA g)) (F0 m 69 ls [.int t0_69]) := by
                    intro t0_69 H locs ls ej69 h hl
                    have et0_69 := ej69.symm
                    refine lv_istore_n (lv' := [(3, .int t0_69), (0, .ref (g.2.1 99)), (1, .int p1), (2, .int x2_2), (4, .int x4_13)]) hx hb dX6_evenIn_69 rfl hl (by decide) rfl (fun ls hl => ?_)
                    refine lv_iinc (v := (x4_13 + (1 : Int32))) (lv' := [(4, .int (x4_13 + (1 : Int32))), (3, .int t0_69), (0, .ref (g.2.1 99)), (1, .int p1), (2, .int x2_2)]) hx hb dX6_evenIn_70 hl (k := 4) rfl rfl (by decide) rfl (fun ls hl => ?_)
                    refine lv_goto (tgt := 13) hx hb dX6_evenIn_73 (by decide) ?_
                    have tt4 : (x4_13 + (1 : Int32)).toInt = (x4_13.toInt + (1)) := (i_add (rfl : x4_13.toInt = x4_13.toInt) zl1 (by omega))
                    exact ih t0_69 (x4_13 + (1 : Int32)) _ _ _  (by first | assumption | omega) (by omega) h (lv_sub hl [2, 3, 4, 1, 0] rfl) (fun x3_13' x4_13' H locs ls en hI h hl => kk x3_13' x4_13' H locs ls ((show f_X6_evenIn_L13 σ p1 x2_2 (n + 1) x3_13 x4_13 = f_X6_evenIn_L13 σ p1 x2_2 n t0_69 (x4_13 + (1 : Int32)) from (by subst er31; subst er36; subst er50; subst et0_69; exact ((if_neg c21).trans ((if_neg c26).trans ((if_neg c39).trans rfl))))).trans en) hI h hl)
                  refine lv_icmp_ne (tgt := 65) hx hb dX6_evenIn_58 (by decide) (fun c58 => ?_) (fun c58 => ?_)
                  · have i58 := c_ne c58
                    refine lv_iload_n hx hb dX6_evenIn_65 rfl (lv_at hl 4 rfl) ?_
                    refine lv_iload hx hb dX6_evenIn_66 (lv_at hl 0 rfl) ?_
                    refine lv_iadd hx hb dX6_evenIn_68 ?_
                    exact j69 _ _ _ _ (by exact ((if_neg c58).trans rfl)) h (lv_sub hl [1, 2, 3, 5] rfl)
                  · have i58 := c_eq c58
                    refine lv_iconst (v := -1) hx hb dX6_evenIn_61 (by decide) ?_
                    refine lv_goto (tgt := 69) hx hb dX6_evenIn_62 (by decide) ?_
                    exact j69 _ _ _ _ (by exact ((if_pos c58).trans rfl)) h (lv_sub hl [1, 2, 3, 5] rfl)
                · have i39 := c_eq c39
                  refine lv_goto (tgt := 70) hx hb dX6_evenIn_42 (by decide) ?_
                  refine lv_iinc (v := (x4_13 + (1 : Int32))) (lv' := [(4, .int (x4_13 + (1 : Int32))), (0, .ref (g.2.1 99)), (1, .int p1), (2, .int x2_2), (3, .int x3_13)]) hx hb dX6_evenIn_70 hl (k := 4) rfl rfl (by decide) rfl (fun ls hl => ?_)
                  refine lv_goto (tgt := 13) hx hb dX6_evenIn_73 (by decide) ?_
                  have tt4 : (x4_13 + (1 : Int32)).toInt = (x4_13.toInt + (1)) := (i_add (rfl : x4_13.toInt = x4_13.toInt) zl1 (by omega))
                  exact ih x3_13 (x4_13 + (1 : Int32)) _ _ _  (by first | assumption | omega) (by omega) h (lv_sub hl [1, 2, 3, 4, 0] rfl) (fun x3_13' x4_13' H locs ls en hI h hl => kk x3_13' x4_13' H locs ls ((show f_X6_evenIn_L13 σ p1 x2_2 (n + 1) x3_13 x4_13 = f_X6_evenIn_L13 σ p1 x2_2 n x3_13 (x4_13 + (1 : Int32)) from (by subst er31; subst er36; exact ((if_neg c21).trans ((if_neg c26).trans ((if_pos c39).trans rfl))))).trans en) hI h hl)
        refine hL13 (7) (0 : Int32) (0 : Int32) _ _ _  (by first | assumption | omega) (by omega) h (lv_sub hl [2, 3, 4, 1, 0] rfl) (fun x3_13e x4_13e H locs ls eL13 hI13 h hl => ?_)
        have ex3_13e : x3_13e = (f_X6_evenIn_L13 σ p1 x2_2 (7) (0 : Int32) (0 : Int32)).1 := by rw [eL13]
        have ex4_13e : x4_13e = (f_X6_evenIn_L13 σ p1 x2_2 (7) (0 : Int32) (0 : Int32)).2 := by rw [eL13]
        refine lv_iload_n hx hb dX6_evenIn_76 rfl (lv_at hl 3 rfl) ?_
        refine lv_iload_n hx hb dX6_evenIn_77 rfl (lv_at hl 2 rfl) ?_
        refine lv_icmp_ne (tgt := 83) hx hb dX6_evenIn_78 (by decide) (fun c78 => ?_) (fun c78 => ?_)
        · have i78 := c_ne c78
          refine lv_iinc (v := (x2_2 + (1 : Int32))) (lv' := [(2, .int (x2_2 + (1 : Int32))), (0, .ref (g.2.1 99)), (1, .int p1), (3, .int x3_13e)]) hx hb dX6_evenIn_83 hl (k := 2) rfl rfl (by decide) rfl (fun ls hl => ?_)
          refine lv_goto (tgt := 2) hx hb dX6_evenIn_86 (by decide) ?_
          have tt2 : (x2_2 + (1 : Int32)).toInt = (x2_2.toInt + (1)) := (i_add (rfl : x2_2.toInt = x2_2.toInt) zl1 (by omega))
          exact ih (x2_2 + (1 : Int32)) _ _ _  (by first | assumption | omega) (by omega) (by subst ex3_13e; subst ex4_13e; exact (hf2.trans ((if_neg c5).trans ((if_neg c78).trans rfl)))) h (lv_sub hl [1, 2, 0] rfl)
        · have i78 := c_eq c78
          refine lv_iload_n hx hb dX6_evenIn_81 rfl (lv_at hl 2 rfl) ?_
          have he : f_X6_evenIn σ p1 = x2_2 := (by subst ex3_13e; subst ex4_13e; exact (hf2.trans ((if_neg c5).trans ((if_pos c78).trans rfl))))
          exact M_reti C h hr hlocks rfl he trivial dX6_evenIn_82
  exact hL2 (101) (0 : Int32) _ _ _  (by first | assumption | omega) (by omega) (by exact rfl) h (lv_sub hl [1, 2, 0] rfl)
def f_X6_even (σ : MS) (p1 : Int32) : MS × Int32 := (let r6 := (f_X6_isFrom p1.toInt64 (1 : Int64) (99 : Int64)); if r6 = (0 : Int32) then ((let z26 := (f_X6_refuse σ (1 : Int32)); let σ26 := z26.1; let r26 := z26.2; (σ26, r26))) else ((let r15 := (f_X6_evenIn σ p1); let z18 := (f_X6_orNone σ r15); let σ18 := z18.1; let r18 := z18.2; (σ18, r18))))
set_option maxHeartbeats 4000000 in
set_option maxRecDepth 100000 in
theorem k_X6_even (l : Launch) (g : GE) (σ : MS) (p1 : Int32) (hp : 0 ≤ (ga σ 0 (0 : Int32)).toInt ∧ (ga σ 0 (0 : Int32)).toInt ≤ 6) : Met l yX6_even (ws_ yX6_even cX6_even 2 (some .int)) ({ frames := 4, cells := 0, slots := 0, locals := 94 } : Room) (mPc g σ [.int p1]) (mQi g (f_X6_even σ p1).1 (f_X6_even σ p1).2 (fun u r => ((ga u 0 (0 : Int32)).toInt = (ga σ 0 (0 : Int32)).toInt))) 0 0 (mA g) := by
  refine met_M (by decide) rfl (Nat.le_of_ble_eq_true rfl) ?_
  intro p e s m args below meth c C hr hlocks h ls hl
  have hx := C.1.1
  have hb := C.1.2.1
  have hml := C.1.2.2.1
  have hown := C.1.2.2.2.1
  have hts := C.1.2.2.2.2
  have hl : lv_has ls 2 [(0, .ref (g.2.1 99)), (1, .int p1)] := hl
  have hpq : (ga σ 0 (0 : Int32)).toInt = (ga σ 0 (0 : Int32)).toInt := rfl
  have zl0 : (0 : Int32).toInt = 0 := rfl
  have zl1 : (1 : Int32).toInt = 1 := rfl
  refine lv_iload_n hx hb dX6_even_0 rfl (lv_at hl 1 rfl) ?_
  refine lv_i2l (v := p1.toInt64) hx hb dX6_even_1 rfl ?_
  refine lv_lconst (v := 1) hx hb dX6_even_2 (by decide) ?_
  refine lv_ldc2 hx hb hown (hts _ q2117) dX6_even_3 ?_
  refine s_callz (As := [.long p1.toInt64, .long (1 : Int64), .long (99 : Int64)]) (rest := []) 3 C.1 (k_X6_isFrom l p1.toInt64 (1 : Int64) (99 : Int64)) (lw_S q1936 q1937 q152 q1938) rfl rfl (by decide +kernel) ⟨Nat.le_of_ble_eq_true rfl, Nat.le_of_ble_eq_true rfl⟩ rfl hl.1 rfl (Nat.le_of_ble_eq_true rfl) ⟨Nat.le_of_ble_eq_true rfl, Nat.le_of_ble_eq_true rfl⟩ dX6_even_6 h.2.2 (fun r6 H locs er6 br6 hz1 hk1 hS1 => ?_)
  have h := h.same hk1 hS1
  clear hz1 hk1 hS1
  refine lv_if_eq (tgt := 24) hx hb dX6_even_9 (by decide) (fun c9 => ?_) (fun c9 => ?_)
  · have i9 := c_eq c9
    refine lv_aload_n hx hb dX6_even_24 rfl (lv_at hl 0 rfl) ?_
    refine lv_iconst (v := 1) hx hb dX6_even_25 (by decide) ?_
    refine M_calli (As := [.int (1 : Int32)]) (rest := []) 1 C h (k_X6_refuse l g σ (1 : Int32)) (lw_V q1723 q1725 qs71 q152 q1726) rfl rfl (by decide +kernel) ⟨Nat.le_of_ble_eq_true rfl, Nat.le_of_ble_eq_true rfl⟩ rfl hl.1 rfl (Nat.le_of_ble_eq_true rfl) ⟨Nat.le_of_ble_eq_true rfl, Nat.le_of_ble_eq_true rfl⟩ dX6_even_26 (fun r26 σ26 H locs eσ26 er26 hE26 h => ?_)
    clear hE26
    have hNEW : (0 ≤ (ga σ26 0 (0 : Int32)).toInt ∧ (ga σ26 0 (0 : Int32)).toInt ≤ 6) ∧ ((ga σ26 0 (0 : Int32)).toInt = (ga σ 0 (0 : Int32)).toInt) := ⟨(by rw [eσ26, refuse_s] <;> exact hp), (by rw [eσ26, refuse_s] <;> exact hpq)⟩
    obtain ⟨hp, hpq⟩ := hNEW
    have he : f_X6_even σ p1 = (σ26, r26) := (by subst er6; subst eσ26; subst er26; exact ((if_pos c9).trans rfl))
    exact M_reti C h hr hlocks (congrArg Prod.fst he) (congrArg Prod.snd he) hpq dX6_even_29
  · have i9 := c_ne c9
    have okr6 := isFrom_ok er6 c9
    have kk9 := isFrom_i (A := 1) (B := 99) rfl rfl okr6
    refine lv_aload_n hx hb dX6_even_12 rfl (lv_at hl 0 rfl) ?_
    refine lv_aload_n hx hb dX6_even_13 rfl (lv_at hl 0 rfl) ?_
    refine lv_iload_n hx hb dX6_even_14 rfl (lv_at hl 1 rfl) ?_
    refine M_calli (As := [.int p1]) (rest := [.ref (g.2.1 99)]) 1 C h (k_X6_evenIn l g σ p1 (by first | assumption | omega) (by first | assumption | omega)) (lw_V q2118 q2120 qs126 q152 q2121) rfl rfl (by decide +kernel) ⟨Nat.le_of_ble_eq_true rfl, Nat.le_of_ble_eq_true rfl⟩ rfl hl.1 rfl (Nat.le_of_ble_eq_true rfl) ⟨Nat.le_of_ble_eq_true rfl, Nat.le_of_ble_eq_true rfl⟩ dX6_even_15 (fun r15 σ15 H locs eσ15 er15 hE15 h => ?_)
    rw [eσ15] at h
    clear hE15
    clear eσ15
    refine M_calli (As := [.int r15]) (rest := []) 1 C h (k_X6_orNone l g σ r15) (lw_V q1868 q1870 qs102 q152 q1871) rfl rfl (by decide +kernel) ⟨Nat.le_of_ble_eq_true rfl, Nat.le_of_ble_eq_true rfl⟩ rfl hl.1 rfl (Nat.le_of_ble_eq_true rfl) ⟨Nat.le_of_ble_eq_true rfl, Nat.le_of_ble_eq_true rfl⟩ dX6_even_18 (fun r18 σ18 H locs eσ18 er18 hE18 h => ?_)
    clear hE18
    have hNEW : (0 ≤ (ga σ18 0 (0 : Int32)).toInt ∧ (ga σ18 0 (0 : Int32)).toInt ≤ 6) ∧ ((ga σ18 0 (0 : Int32)).toInt = (ga σ 0 (0 : Int32)).toInt) := ⟨(by rw [eσ18, orNone_s] <;> exact hp), (by rw [eσ18, orNone_s] <;> exact hpq)⟩
    obtain ⟨hp, hpq⟩ := hNEW
    refine lv_goto (tgt := 29) hx hb dX6_even_21 (by decide) ?_
    have he : f_X6_even σ p1 = (σ18, r18) := (by subst er6; subst er15; subst eσ18; subst er18; exact ((if_neg c9).trans rfl))
    exact M_reti C h hr hlocks (congrArg Prod.fst he) (congrArg Prod.snd he) hpq dX6_even_29
def f_X6_evenBy (σ : MS) (p1 : Int32) (p2 : Int32) : MS × Int32 := (let r6 := (f_X6_isFrom p1.toInt64 (1 : Int64) (99 : Int64)); if r6 = (0 : Int32) then ((let z22 := (f_X6_refuse σ (1 : Int32)); let σ22 := z22.1; let r22 := z22.2; (σ22, r22))) else ((let r14 := (f_X6_isPerson σ p2); if r14 = (0 : Int32) then ((let z22 := (f_X6_refuse σ (1 : Int32)); let σ22 := z22.1; let r22 := z22.2; (σ22, r22))) else ((let r28 := (f_X6_evenIn σ p1); if r28 = (-1 : Int32) then ((let z40 := (f_X6_refuse σ (6 : Int32)); let σ40 := z40.1; let r40 := z40.2; (σ40, r40))) else ((let r47 := (f_X6_heads σ); let r51 := (f_X6_isIn σ r47 p2); (let z68_ : Int32 := (if r51 = (0 : Int32) then ((0 : Int32)) else ((let r61 := (f_X6_evenPays σ p1 r28 p2); r61))); let t0_68 := z68_; (let z68 := (f_X6_gives σ t0_68); let σ68 := z68.1; let r68 := z68.2; (σ68, r68))))))))))
set_option maxHeartbeats 4000000 in
set_option maxRecDepth 100000 in
theorem k_X6_evenBy (l : Launch) (g : GE) (σ : MS) (p1 : Int32) (p2 : Int32) (hp : 0 ≤ (ga σ 0 (0 : Int32)).toInt ∧ (ga σ 0 (0 : Int32)).toInt ≤ 6) : Met l yX6_evenBy (ws_ yX6_evenBy cX6_evenBy 4 (some .int)) ({ frames := 4, cells := 0, slots := 0, locals := 94 } : Room) (mPc g σ [.int p1, .int p2]) (mQi g (f_X6_evenBy σ p1 p2).1 (f_X6_evenBy σ p1 p2).2 (fun u r => ((ga u 0 (0 : Int32)).toInt = (ga σ 0 (0 : Int32)).toInt))) 0 0 (mA g) := by
  refine met_M (by decide) rfl (Nat.le_of_ble_eq_true rfl) ?_
  intro p e s m args below meth c C hr hlocks h ls hl
  have hx := C.1.1
  have hb := C.1.2.1
  have hml := C.1.2.2.1
  have hown := C.1.2.2.2.1
  have hts := C.1.2.2.2.2
  have hl : lv_has ls 4 [(0, .ref (g.2.1 99)), (1, .int p1), (2, .int p2)] := hl
  have hpq : (ga σ 0 (0 : Int32)).toInt = (ga σ 0 (0 : Int32)).toInt := rfl
  have zlm1 : (-1 : Int32).toInt = -1 := rfl
  have zl0 : (0 : Int32).toInt = 0 := rfl
  have zl1 : (1 : Int32).toInt = 1 := rfl
  have zl6 : (6 : Int32).toInt = 6 := rfl
  refine lv_iload_n hx hb dX6_evenBy_0 rfl (lv_at hl 1 rfl) ?_
  refine lv_i2l (v := p1.toInt64) hx hb dX6_evenBy_1 rfl ?_
  refine lv_lconst (v := 1) hx hb dX6_evenBy_2 (by decide) ?_
  refine lv_ldc2 hx hb hown (hts _ q2117) dX6_evenBy_3 ?_
  refine s_callz (As := [.long p1.toInt64, .long (1 : Int64), .long (99 : Int64)]) (rest := []) 3 C.1 (k_X6_isFrom l p1.toInt64 (1 : Int64) (99 : Int64)) (lw_S q1936 q1937 q152 q1938) rfl rfl (by decide +kernel) ⟨Nat.le_of_ble_eq_true rfl, Nat.le_of_ble_eq_true rfl⟩ rfl hl.1 rfl (Nat.le_of_ble_eq_true rfl) ⟨Nat.le_of_ble_eq_true rfl, Nat.le_of_ble_eq_true rfl⟩ dX6_evenBy_6 h.2.2 (fun r6 H locs er6 br6 hz1 hk1 hS1 => ?_)
  have h := h.same hk1 hS1
  clear hz1 hk1 hS1
  refine lv_if_eq (tgt := 20) hx hb dX6_evenBy_9 (by decide) (fun c9 => ?_) (fun c9 => ?_)
  · have i9 := c_eq c9
    refine lv_aload_n hx hb dX6_evenBy_20 rfl (lv_at hl 0 rfl) ?_
    refine lv_iconst (v := 1) hx hb dX6_evenBy_21 (by decide) ?_
    refine M_calli (As := [.int (1 : Int32)]) (rest := []) 1 C h (k_X6_refuse l g σ (1 : Int32)) (lw_V q1723 q1725 qs71 q152 q1726) rfl rfl (by decide +kernel) ⟨Nat.le_of_ble_eq_true rfl, Nat.le_of_ble_eq_true rfl⟩ rfl hl.1 rfl (Nat.le_of_ble_eq_true rfl) ⟨Nat.le_of_ble_eq_true rfl, Nat.le_of_ble_eq_true rfl⟩ dX6_evenBy_22 (fun r22 σ22 H locs eσ22 er22 hE22 h => ?_)
    clear hE22
    have hNEW : (0 ≤ (ga σ22 0 (0 : Int32)).toInt ∧ (ga σ22 0 (0 : Int32)).toInt ≤ 6) ∧ ((ga σ22 0 (0 : Int32)).toInt = (ga σ 0 (0 : Int32)).toInt) := ⟨(by rw [eσ22, refuse_s] <;> exact hp), (by rw [eσ22, refuse_s] <;> exact hpq)⟩
    obtain ⟨hp, hpq⟩ := hNEW
    have he : f_X6_evenBy σ p1 p2 = (σ22, r22) := (by subst er6; subst eσ22; subst er22; exact ((if_pos c9).trans rfl))
    exact M_reti C h hr hlocks (congrArg Prod.fst he) (congrArg Prod.snd he) hpq dX6_evenBy_25
  · have i9 := c_ne c9
    have okr6 := isFrom_ok er6 c9
    have kk9 := isFrom_i (A := 1) (B := 99) rfl rfl okr6
    refine lv_aload_n hx hb dX6_evenBy_12 rfl (lv_at hl 0 rfl) ?_
    refine lv_iload_n hx hb dX6_evenBy_13 rfl (lv_at hl 2 rfl) ?_
    refine M_callz (As := [.int p2]) (rest := []) 1 C h (k_X6_isPerson l g σ p2) (lw_V q1864 q1866 qs101 q152 q1867) rfl rfl (by decide +kernel) ⟨Nat.le_of_ble_eq_true rfl, Nat.le_of_ble_eq_true rfl⟩ rfl hl.1 rfl (Nat.le_of_ble_eq_true rfl) ⟨Nat.le_of_ble_eq_true rfl, Nat.le_of_ble_eq_true rfl⟩ dX6_evenBy_14 (fun r14 σ14 H locs eσ14 er14 br14 hE14 h => ?_)
    rw [eσ14] at h
    clear hE14
    clear eσ14
    refine lv_if_ne (tgt := 26) hx hb dX6_evenBy_17 (by decide) (fun c17 => ?_) (fun c17 => ?_)
    · have i17 := c_ne c17
      have okr14 := isPerson_ok er14 c17
      refine lv_aload_n hx hb dX6_evenBy_26 rfl (lv_at hl 0 rfl) ?_
      refine lv_iload_n hx hb dX6_evenBy_27 rfl (lv_at hl 1 rfl) ?_
      refine M_calli (As := [.int p1]) (rest := []) 1 C h (k_X6_evenIn l g σ p1 (by first | assumption | omega) (by first | assumption | omega)) (lw_V q2118 q2120 qs126 q152 q2121) rfl rfl (by decide +kernel) ⟨Nat.le_of_ble_eq_true rfl, Nat.le_of_ble_eq_true rfl⟩ rfl hl.1 rfl (Nat.le_of_ble_eq_true rfl) ⟨Nat.le_of_ble_eq_true rfl, Nat.le_of_ble_eq_true rfl⟩ dX6_evenBy_28 (fun r28 σ28 H locs eσ28 er28 hE28 h => ?_)
      rw [eσ28] at h
      clear hE28
      clear eσ28
      refine lv_istore_n (lv' := [(3, .int r28), (0, .ref (g.2.1 99)), (1, .int p1), (2, .int p2)]) hx hb dX6_evenBy_31 rfl hl (by decide) rfl (fun ls hl => ?_)
      refine lv_iload_n hx hb dX6_evenBy_32 rfl (lv_at hl 0 rfl) ?_
      refine lv_iconst (v := -1) hx hb dX6_evenBy_33 (by decide) ?_
      refine lv_icmp_ne (tgt := 44) hx hb dX6_evenBy_34 (by decide) (fun c34 => ?_) (fun c34 => ?_)
      · have i34 := c_ne c34
        refine lv_aload_n hx hb dX6_evenBy_44 rfl (lv_at hl 1 rfl) ?_
        refine lv_aload_n hx hb dX6_evenBy_45 rfl (lv_at hl 1 rfl) ?_
        refine lv_aload_n hx hb dX6_evenBy_46 rfl (lv_at hl 1 rfl) ?_
        refine M_calli (As := []) (rest := [.ref (g.2.1 99), .ref (g.2.1 99)]) 0 C h (k_X6_heads l g σ) (lw_V q1842 q1844 qs98 q152 q1845) rfl rfl (by decide +kernel) ⟨Nat.le_of_ble_eq_true rfl, Nat.le_of_ble_eq_true rfl⟩ rfl hl.1 rfl (Nat.le_of_ble_eq_true rfl) ⟨Nat.le_of_ble_eq_true rfl, Nat.le_of_ble_eq_true rfl⟩ dX6_evenBy_47 (fun r47 σ47 H locs eσ47 er47 hE47 h => ?_)
        rw [eσ47] at h
        clear hE47
        clear eσ47
        have rgr47 := heads_rng hp er47
        refine lv_iload_n hx hb dX6_evenBy_50 rfl (lv_at hl 3 rfl) ?_
        refine M_callz (As := [.int r47, .int p2]) (rest := [.ref (g.2.1 99)]) 2 C h (k_X6_isIn l g σ r47 p2) (lw_V q1906 q1908 qs107 q152 q1909) rfl rfl (by decide +kernel) ⟨Nat.le_of_ble_eq_true rfl, Nat.le_of_ble_eq_true rfl⟩ rfl hl.1 rfl (Nat.le_of_ble_eq_true rfl) ⟨Nat.le_of_ble_eq_true rfl, Nat.le_of_ble_eq_true rfl⟩ dX6_evenBy_51 (fun r51 σ51 H locs eσ51 er51 br51 hE51 h => ?_)
        rw [eσ51] at h
        clear hE51
        clear eσ51
        have j68 : ∀ (t0_68 : Int32) (H : Heap) (locs : List Loc) (ls : Array Slot) (ej68 : (if r51 = (0 : Int32) then ((0 : Int32)) else ((let r61 := (f_X6_evenPays σ p1 r28 p2); r61))) = t0_68) (h : MH g σ s H locs) (hl : lv_has ls 4 []), W p l e ({ frames := 4, cells := 0, slots := 0, locals := 94 } : Room) s m args below meth c H locs 0 0 (MQ below (mQi g (f_X6_evenBy σ p1 p2).1 (f_X6_evenBy σ p1 p2).2 (fun u r => ((ga u 0 (0 : Int32)).toInt = (ga σ 0 (0 : Int32)).toInt))) args s 0 0 (mA g)) (F0 m 68 ls [.int t0_68, .ref (g.2.1 99)]) := by
          intro t0_68 H locs ls ej68 h hl
          have et0_68 := ej68.symm
          refine M_calli (As := [.int t0_68]) (rest := []) 1 C h (k_X6_gives l g σ t0_68) (lw_V q1806 q1808 qs91 q152 q1809) rfl rfl (by decide +kernel) ⟨Nat.le_of_ble_eq_true rfl, Nat.le_of_ble_eq_true rfl⟩ rfl hl.1 rfl (Nat.le_of_ble_eq_true rfl) ⟨Nat.le_of_ble_eq_true rfl, Nat.le_of_ble_eq_true rfl⟩ dX6_evenBy_68 (fun r68 σ68 H locs eσ68 er68 hE68 h => ?_)
          clear hE68
          have hNEW : (0 ≤ (ga σ68 0 (0 : Int32)).toInt ∧ (ga σ68 0 (0 : Int32)).toInt ≤ 6) ∧ ((ga σ68 0 (0 : Int32)).toInt = (ga σ 0 (0 : Int32)).toInt) := ⟨(by rw [eσ68, gives_s] <;> exact hp), (by rw [eσ68, gives_s] <;> exact hpq)⟩
          obtain ⟨hp, hpq⟩ := hNEW
          have he : f_X6_evenBy σ p1 p2 = (σ68, r68) := (by subst er6; subst er14; subst er28; subst er47; subst er51; subst et0_68; subst eσ68; subst er68; exact ((if_neg c9).trans ((if_neg c17).trans ((if_neg c34).trans rfl))))
          exact M_reti C h hr hlocks (congrArg Prod.fst he) (congrArg Prod.snd he) hpq dX6_evenBy_71
        refine lv_if_eq (tgt := 67) hx hb dX6_evenBy_54 (by decide) (fun c54 => ?_) (fun c54 => ?_)
        · have i54 := c_eq c54
          refine lv_iconst (v := 0) hx hb dX6_evenBy_67 (by decide) ?_
          exact j68 _ _ _ _ (by exact ((if_pos c54).trans rfl)) h (lv_sub hl [] rfl)
        · have i54 := c_ne c54
          have okr51 := isIn_ok er51 c54
          refine lv_aload_n hx hb dX6_evenBy_57 rfl (lv_at hl 1 rfl) ?_
          refine lv_iload_n hx hb dX6_evenBy_58 rfl (lv_at hl 2 rfl) ?_
          refine lv_iload_n hx hb dX6_evenBy_59 rfl (lv_at hl 0 rfl) ?_
          refine lv_iload_n hx hb dX6_evenBy_60 rfl (lv_at hl 3 rfl) ?_
          refine M_calli (As := [.int p1, .int r28, .int p2]) (rest := [.ref (g.2.1 99)]) 3 C h (k_X6_evenPays l g σ p1 r28 p2 (by first | assumption | omega) (by first | assumption | omega) (by first | assumption | omega) (heads_bits hp er47 (by omega) okr51)) (lw_V q2122 q2124 qs127 q152 q2125) rfl rfl (by decide +kernel) ⟨Nat.le_of_ble_eq_true rfl, Nat.le_of_ble_eq_true rfl⟩ rfl hl.1 rfl (Nat.le_of_ble_eq_true rfl) ⟨Nat.le_of_ble_eq_true rfl, Nat.le_of_ble_eq_true rfl⟩ dX6_evenBy_61 (fun r61 σ61 H locs eσ61 er61 hE61 h => ?_)
          rw [eσ61] at h
          clear hE61
          clear eσ61
          refine lv_goto (tgt := 68) hx hb dX6_evenBy_64 (by decide) ?_
          exact j68 _ _ _ _ (by subst er61; exact ((if_neg c54).trans rfl)) h (lv_sub hl [] rfl)
      · have i34 := c_eq c34
        refine lv_aload_n hx hb dX6_evenBy_37 rfl (lv_at hl 1 rfl) ?_
        refine lv_bipush (v := 6) hx hb dX6_evenBy_38 (by decide) ?_
        refine M_calli (As := [.int (6 : Int32)]) (rest := []) 1 C h (k_X6_refuse l g σ (6 : Int32)) (lw_V q1723 q1725 qs71 q152 q1726) rfl rfl (by decide +kernel) ⟨Nat.le_of_ble_eq_true rfl, Nat.le_of_ble_eq_true rfl⟩ rfl hl.1 rfl (Nat.le_of_ble_eq_true rfl) ⟨Nat.le_of_ble_eq_true rfl, Nat.le_of_ble_eq_true rfl⟩ dX6_evenBy_40 (fun r40 σ40 H locs eσ40 er40 hE40 h => ?_)
        clear hE40
        have hNEW : (0 ≤ (ga σ40 0 (0 : Int32)).toInt ∧ (ga σ40 0 (0 : Int32)).toInt ≤ 6) ∧ ((ga σ40 0 (0 : Int32)).toInt = (ga σ 0 (0 : Int32)).toInt) := ⟨(by rw [eσ40, refuse_s] <;> exact hp), (by rw [eσ40, refuse_s] <;> exact hpq)⟩
        obtain ⟨hp, hpq⟩ := hNEW
        have he : f_X6_evenBy σ p1 p2 = (σ40, r40) := (by subst er6; subst er14; subst er28; subst eσ40; subst er40; exact ((if_neg c9).trans ((if_neg c17).trans ((if_pos c34).trans rfl))))
        exact M_reti C h hr hlocks (congrArg Prod.fst he) (congrArg Prod.snd he) hpq dX6_evenBy_43
    · have i17 := c_eq c17
      refine lv_aload_n hx hb dX6_evenBy_20 rfl (lv_at hl 0 rfl) ?_
      refine lv_iconst (v := 1) hx hb dX6_evenBy_21 (by decide) ?_
      refine M_calli (As := [.int (1 : Int32)]) (rest := []) 1 C h (k_X6_refuse l g σ (1 : Int32)) (lw_V q1723 q1725 qs71 q152 q1726) rfl rfl (by decide +kernel) ⟨Nat.le_of_ble_eq_true rfl, Nat.le_of_ble_eq_true rfl⟩ rfl hl.1 rfl (Nat.le_of_ble_eq_true rfl) ⟨Nat.le_of_ble_eq_true rfl, Nat.le_of_ble_eq_true rfl⟩ dX6_evenBy_22 (fun r22 σ22 H locs eσ22 er22 hE22 h => ?_)
      clear hE22
      have hNEW : (0 ≤ (ga σ22 0 (0 : Int32)).toInt ∧ (ga σ22 0 (0 : Int32)).toInt ≤ 6) ∧ ((ga σ22 0 (0 : Int32)).toInt = (ga σ 0 (0 : Int32)).toInt) := ⟨(by rw [eσ22, refuse_s] <;> exact hp), (by rw [eσ22, refuse_s] <;> exact hpq)⟩
      obtain ⟨hp, hpq⟩ := hNEW
      have he : f_X6_evenBy σ p1 p2 = (σ22, r22) := (by subst er6; subst er14; subst eσ22; subst er22; exact ((if_neg c9).trans ((if_pos c17).trans rfl)))
      exact M_reti C h hr hlocks (congrArg Prod.fst he) (congrArg Prod.snd he) hpq dX6_evenBy_25
def f_X6_comes (σ : MS) (p1 : Int32) (p2 : Int32) : MS × Int32 := (let r2 := (f_X6_isPerson σ p1); if r2 = (0 : Int32) then ((let z19 := (f_X6_refuse σ (1 : Int32)); let σ19 := z19.1; let r19 := z19.2; (σ19, r19))) else (if p2 < (0 : Int32) then ((let z19 := (f_X6_refuse σ (1 : Int32)); let σ19 := z19.1; let r19 := z19.2; (σ19, r19))) else (if p2 ≤ (1 : Int32) then ((let r32 := (f_X6_isIn σ (ga σ 0 (8 : Int32)) p1); (let z45_ : Int32 := (if p2 = (1 : Int32) then ((1 : Int32)) else ((0 : Int32))); let t0_45 := z45_; if r32 = t0_45 then ((let z51 := (f_X6_refuse σ (7 : Int32)); let σ51 := z51.1; let r51 := z51.2; (σ51, r51))) else ((let σ67 := sa σ 0 (8 : Int32) ((ga σ 0 (8 : Int32)) ^^^ ((1 : Int32) <<< (p1 &&& (31 : Int32)))); let r76 := (f_X6_bits (ga σ67 0 (8 : Int32))); let z79 := (f_X6_gives σ67 r76); let σ79 := z79.1; let r79 := z79.2; (σ79, r79)))))) else ((let z19 := (f_X6_refuse σ (1 : Int32)); let σ19 := z19.1; let r19 := z19.2; (σ19, r19))))))
set_option maxHeartbeats 4000000 in
set_option maxRecDepth 100000 in
theorem k_X6_comes (l : Launch) (g : GE) (σ : MS) (p1 : Int32) (p2 : Int32) (hp : 0 ≤ (ga σ 0 (0 : Int32)).toInt ∧ (ga σ 0 (0 : Int32)).toInt ≤ 6) : Met l yX6_comes (ws_ yX6_comes cX6_comes 3 (some .int)) ({ frames := 1, cells := 0, slots := 0, locals := 22 } : Room) (mPc g σ [.int p1, .int p2]) (mQi g (f_X6_comes σ p1 p2).1 (f_X6_comes σ p1 p2).2 (fun u r => ((ga u 0 (0 : Int32)).toInt = (ga σ 0 (0 : Int32)).toInt) ∧ (MFr σ u))) 0 0 (mA g) := by
  refine met_M (by decide) rfl (Nat.le_of_ble_eq_true rfl) ?_
  intro p e s m args below meth c C hr hlocks h ls hl
  have hx := C.1.1
  have hb := C.1.2.1
  have hml := C.1.2.2.1
  have hown := C.1.2.2.2.1
  have hts := C.1.2.2.2.2
  have hl : lv_has ls 3 [(0, .ref (g.2.1 99)), (1, .int p1), (2, .int p2)] := hl
  have hpq : (ga σ 0 (0 : Int32)).toInt = (ga σ 0 (0 : Int32)).toInt := rfl
  have hLF : MFr σ σ := Fr.rf
  have zl0 : (0 : Int32).toInt = 0 := rfl
  have zl1 : (1 : Int32).toInt = 1 := rfl
  have zl7 : (7 : Int32).toInt = 7 := rfl
  have zl8 : (8 : Int32).toInt = 8 := rfl
  refine lv_aload_n hx hb dX6_comes_0 rfl (lv_at hl 0 rfl) ?_
  refine lv_iload_n hx hb dX6_comes_1 rfl (lv_at hl 1 rfl) ?_
  refine M_callz (As := [.int p1]) (rest := []) 1 C h (k_X6_isPerson l g σ p1) (lw_V q1864 q1866 qs101 q152 q1867) rfl rfl (by decide +kernel) ⟨Nat.le_of_ble_eq_true rfl, Nat.le_of_ble_eq_true rfl⟩ rfl hl.1 rfl (Nat.le_of_ble_eq_true rfl) ⟨Nat.le_of_ble_eq_true rfl, Nat.le_of_ble_eq_true rfl⟩ dX6_comes_2 (fun r2 σ2 H locs eσ2 er2 br2 hE2 h => ?_)
  rw [eσ2] at h
  clear hE2
  clear eσ2
  refine lv_if_eq (tgt := 17) hx hb dX6_comes_5 (by decide) (fun c5 => ?_) (fun c5 => ?_)
  · have i5 := c_eq c5
    refine lv_aload_n hx hb dX6_comes_17 rfl (lv_at hl 0 rfl) ?_
    refine lv_iconst (v := 1) hx hb dX6_comes_18 (by decide) ?_
    refine M_calli (As := [.int (1 : Int32)]) (rest := []) 1 C h (k_X6_refuse l g σ (1 : Int32)) (lw_V q1723 q1725 qs71 q152 q1726) rfl rfl (by decide +kernel) ⟨Nat.le_of_ble_eq_true rfl, Nat.le_of_ble_eq_true rfl⟩ rfl hl.1 rfl (Nat.le_of_ble_eq_true rfl) ⟨Nat.le_of_ble_eq_true rfl, Nat.le_of_ble_eq_true rfl⟩ dX6_comes_19 (fun r19 σ19 H locs eσ19 er19 hE19 h => ?_)
    clear hE19
    have hNEW : (0 ≤ (ga σ19 0 (0 : Int32)).toInt ∧ (ga σ19 0 (0 : Int32)).toInt ≤ 6) ∧ ((ga σ19 0 (0 : Int32)).toInt = (ga σ 0 (0 : Int32)).toInt) ∧ (MFr σ σ19) := ⟨(by rw [eσ19, refuse_s] <;> exact hp), (by rw [eσ19, refuse_s] <;> exact hpq), (by rw [eσ19, refuse_s]; exact Fr_si (by decide) hLF)⟩
    obtain ⟨hp, hpq, hLF⟩ := hNEW
    have he : f_X6_comes σ p1 p2 = (σ19, r19) := (by subst er2; subst eσ19; subst er19; exact ((if_pos c5).trans rfl))
    exact M_reti C h hr hlocks (congrArg Prod.fst he) (congrArg Prod.snd he) ⟨hpq, hLF⟩ dX6_comes_22
  · have i5 := c_ne c5
    have okr2 := isPerson_ok er2 c5
    refine lv_iload_n hx hb dX6_comes_8 rfl (lv_at hl 2 rfl) ?_
    refine lv_if_lt (tgt := 17) hx hb dX6_comes_9 (by decide) (fun c9 => ?_) (fun c9 => ?_)
    · have i9 := c_lt c9
      refine lv_aload_n hx hb dX6_comes_17 rfl (lv_at hl 0 rfl) ?_
      refine lv_iconst (v := 1) hx hb dX6_comes_18 (by decide) ?_
      refine M_calli (As := [.int (1 : Int32)]) (rest := []) 1 C h (k_X6_refuse l g σ (1 : Int32)) (lw_V q1723 q1725 qs71 q152 q1726) rfl rfl (by decide +kernel) ⟨Nat.le_of_ble_eq_true rfl, Nat.le_of_ble_eq_true rfl⟩ rfl hl.1 rfl (Nat.le_of_ble_eq_true rfl) ⟨Nat.le_of_ble_eq_true rfl, Nat.le_of_ble_eq_true rfl⟩ dX6_comes_19 (fun r19 σ19 H locs eσ19 er19 hE19 h => ?_)
      clear hE19
      have hNEW : (0 ≤ (ga σ19 0 (0 : Int32)).toInt ∧ (ga σ19 0 (0 : Int32)).toInt ≤ 6) ∧ ((ga σ19 0 (0 : Int32)).toInt = (ga σ 0 (0 : Int32)).toInt) ∧ (MFr σ σ19) := ⟨(by rw [eσ19, refuse_s] <;> exact hp), (by rw [eσ19, refuse_s] <;> exact hpq), (by rw [eσ19, refuse_s]; exact Fr_si (by decide) hLF)⟩
      obtain ⟨hp, hpq, hLF⟩ := hNEW
      have he : f_X6_comes σ p1 p2 = (σ19, r19) := (by subst er2; subst eσ19; subst er19; exact ((if_neg c5).trans ((if_pos c9).trans rfl)))
      exact M_reti C h hr hlocks (congrArg Prod.fst he) (congrArg Prod.snd he) ⟨hpq, hLF⟩ dX6_comes_22
    · have i9 := c_nlt c9
      refine lv_iload_n hx hb dX6_comes_12 rfl (lv_at hl 2 rfl) ?_
      refine lv_iconst (v := 1) hx hb dX6_comes_13 (by decide) ?_
      refine lv_icmp_le (tgt := 23) hx hb dX6_comes_14 (by decide) (fun c14 => ?_) (fun c14 => ?_)
      · have i14 := c_le c14
        refine lv_aload_n hx hb dX6_comes_23 rfl (lv_at hl 0 rfl) ?_
        refine lv_aload_n hx hb dX6_comes_24 rfl (lv_at hl 0 rfl) ?_
        refine Mg_0 C h dX6_comes_25 ?_
        refine lv_bipush (v := 8) hx hb dX6_comes_28 (by decide) ?_
        refine Ml_0 C h (ix_of zl8 (by omega)) dX6_comes_30 ?_
        refine lv_iload_n hx hb dX6_comes_31 rfl (lv_at hl 1 rfl) ?_
        refine M_callz (As := [.int (ga σ 0 (8 : Int32)), .int p1]) (rest := []) 2 C h (k_X6_isIn l g σ (ga σ 0 (8 : Int32)) p1) (lw_V q1906 q1908 qs107 q152 q1909) rfl rfl (by decide +kernel) ⟨Nat.le_of_ble_eq_true rfl, Nat.le_of_ble_eq_true rfl⟩ rfl hl.1 rfl (Nat.le_of_ble_eq_true rfl) ⟨Nat.le_of_ble_eq_true rfl, Nat.le_of_ble_eq_true rfl⟩ dX6_comes_32 (fun r32 σ32 H locs eσ32 er32 br32 hE32 h => ?_)
        rw [eσ32] at h
        clear hE32
        clear eσ32
        refine lv_iload_n hx hb dX6_comes_35 rfl (lv_at hl 2 rfl) ?_
        refine lv_iconst (v := 1) hx hb dX6_comes_36 (by decide) ?_
        have j45 : ∀ (t0_45 : Int32) (H : Heap) (locs : List Loc) (ls : Array Slot) (ej45 : (if p2 = (1 : Int32) then ((1 : Int32)) else ((0 : Int32))) = t0_45) (bt0_45 : t0_45 = 0 ∨ t0_45 = 1) (h : MH g σ s H locs) (hl : lv_has ls 3 [(0, .ref (g.2.1 99)), (1, .int p1)]), W p l e ({ frames := 1, cells := 0, slots := 0, locals := 22 } : Room) s m args below meth c H locs 0 0 (MQ below (mQi g (f_X6_comes σ p1 p2).1 (f_X6_comes σ p1 p2).2 (fun u r => ((ga u 0 (0 : Int32)).toInt = (ga σ 0 (0 : Int32)).toInt) ∧ (MFr σ u))) args s 0 0 (mA g)) (F0 m 45 ls [.int t0_45, .int r32]) := by
          intro t0_45 H locs ls ej45 bt0_45 h hl
          have et0_45 := ej45.symm
          refine lv_icmp_ne (tgt := 55) hx hb dX6_comes_45 (by decide) (fun c45 => ?_) (fun c45 => ?_)
          · have i45 := c_ne c45
            refine lv_aload_n hx hb dX6_comes_55 rfl (lv_at hl 0 rfl) ?_
            refine Mg_0 C h dX6_comes_56 ?_
            refine lv_bipush (v := 8) hx hb dX6_comes_59 (by decide) ?_
            refine lv_dup2_11 hx hb dX6_comes_61 rfl rfl ?_
            refine Ml_0 C h (ix_of zl8 (by omega)) dX6_comes_62 ?_
            refine lv_iconst (v := 1) hx hb dX6_comes_63 (by decide) ?_
            refine lv_iload_n hx hb dX6_comes_64 rfl (lv_at hl 1 rfl) ?_
            refine lv_ishl hx hb dX6_comes_65 ?_
            refine lv_ixor hx hb dX6_comes_66 ?_
            refine Ms_0 C h (ix_of zl8 (by omega)) dX6_comes_67 (fun σ67 H locs eσ67 h => ?_)
            have hNEW : (0 ≤ (ga σ67 0 (0 : Int32)).toInt ∧ (ga σ67 0 (0 : Int32)).toInt ≤ 6) ∧ ((ga σ67 0 (0 : Int32)).toInt = (ga σ 0 (0 : Int32)).toInt) ∧ (MFr σ σ67) := ⟨(by rw [eσ67, ga_sa_ne (j := (0 : Int32)) zl8 zl0 (by omega)] <;> exact hp), (by rw [eσ67, ga_sa_ne (j := (0 : Int32)) zl8 zl0 (by omega)] <;> exact hpq), (by rw [eσ67]; exact (Fr_sa zl8 (by first | omega | (dsimp only; omega)) (by omega) hLF))⟩
            obtain ⟨hp, hpq, hLF⟩ := hNEW
            refine lv_aload_n hx hb dX6_comes_68 rfl (lv_at hl 0 rfl) ?_
            refine lv_aload_n hx hb dX6_comes_69 rfl (lv_at hl 0 rfl) ?_
            refine Mg_0 C h dX6_comes_70 ?_
            refine lv_bipush (v := 8) hx hb dX6_comes_73 (by decide) ?_
            refine Ml_0 C h (ix_of zl8 (by omega)) dX6_comes_75 ?_
            refine s_calli (As := [.int (ga σ67 0 (8 : Int32))]) (rest := [.ref (g.2.1 99)]) 1 C.1 (k_X6_bits l (ga σ67 0 (8 : Int32))) (lw_S q1850 q1851 q152 q1852) rfl rfl (by decide +kernel) ⟨Nat.le_of_ble_eq_true rfl, Nat.le_of_ble_eq_true rfl⟩ rfl hl.1 rfl (Nat.le_of_ble_eq_true rfl) ⟨Nat.le_of_ble_eq_true rfl, Nat.le_of_ble_eq_true rfl⟩ dX6_comes_76 h.2.2 (fun r76 H locs er76 hz1 hk1 hS1 => ?_)
            have h := h.same hk1 hS1
            clear hz1 hk1 hS1
            refine M_calli (As := [.int r76]) (rest := []) 1 C h (k_X6_gives l g σ67 r76) (lw_V q1806 q1808 qs91 q152 q1809) rfl rfl (by decide +kernel) ⟨Nat.le_of_ble_eq_true rfl, Nat.le_of_ble_eq_true rfl⟩ rfl hl.1 rfl (Nat.le_of_ble_eq_true rfl) ⟨Nat.le_of_ble_eq_true rfl, Nat.le_of_ble_eq_true rfl⟩ dX6_comes_79 (fun r79 σ79 H locs eσ79 er79 hE79 h => ?_)
            clear hE79
            have hNEW : (0 ≤ (ga σ79 0 (0 : Int32)).toInt ∧ (ga σ79 0 (0 : Int32)).toInt ≤ 6) ∧ ((ga σ79 0 (0 : Int32)).toInt = (ga σ 0 (0 : Int32)).toInt) ∧ (MFr σ σ79) := ⟨(by rw [eσ79, gives_s] <;> exact hp), (by rw [eσ79, gives_s] <;> exact hpq), (by rw [eσ79, gives_s]; exact Fr_si (by decide) hLF)⟩
            clear hp hpq hLF
            obtain ⟨hp, hpq, hLF⟩ := hNEW
            have he : f_X6_comes σ p1 p2 = (σ79, r79) := (by subst er2; subst er32; subst et0_45; subst eσ67; subst er76; subst eσ79; subst er79; exact ((if_neg c5).trans ((if_neg c9).trans ((if_pos c14).trans ((if_neg c45).trans rfl)))))
            exact M_reti C h hr hlocks (congrArg Prod.fst he) (congrArg Prod.snd he) ⟨hpq, hLF⟩ dX6_comes_82
          · have i45 := c_eq c45
            refine lv_aload_n hx hb dX6_comes_48 rfl (lv_at hl 0 rfl) ?_
            refine lv_bipush (v := 7) hx hb dX6_comes_49 (by decide) ?_
            refine M_calli (As := [.int (7 : Int32)]) (rest := []) 1 C h (k_X6_refuse l g σ (7 : Int32)) (lw_V q1723 q1725 qs71 q152 q1726) rfl rfl (by decide +kernel) ⟨Nat.le_of_ble_eq_true rfl, Nat.le_of_ble_eq_true rfl⟩ rfl hl.1 rfl (Nat.le_of_ble_eq_true rfl) ⟨Nat.le_of_ble_eq_true rfl, Nat.le_of_ble_eq_true rfl⟩ dX6_comes_51 (fun r51 σ51 H locs eσ51 er51 hE51 h => ?_)
            clear hE51
            have hNEW : (0 ≤ (ga σ51 0 (0 : Int32)).toInt ∧ (ga σ51 0 (0 : Int32)).toInt ≤ 6) ∧ ((ga σ51 0 (0 : Int32)).toInt = (ga σ 0 (0 : Int32)).toInt) ∧ (MFr σ σ51) := ⟨(by rw [eσ51, refuse_s] <;> exact hp), (by rw [eσ51, refuse_s] <;> exact hpq), (by rw [eσ51, refuse_s]; exact Fr_si (by decide) hLF)⟩
            obtain ⟨hp, hpq, hLF⟩ := hNEW
            have he : f_X6_comes σ p1 p2 = (σ51, r51) := (by subst er2; subst er32; subst et0_45; subst eσ51; subst er51; exact ((if_neg c5).trans ((if_neg c9).trans ((if_pos c14).trans ((if_pos c45).trans rfl)))))
            exact M_reti C h hr hlocks (congrArg Prod.fst he) (congrArg Prod.snd he) ⟨hpq, hLF⟩ dX6_comes_54
        refine lv_icmp_ne (tgt := 44) hx hb dX6_comes_37 (by decide) (fun c37 => ?_) (fun c37 => ?_)
        · have i37 := c_ne c37
          refine lv_iconst (v := 0) hx hb dX6_comes_44 (by decide) ?_
          exact j45 _ _ _ _ (by exact ((if_neg c37).trans rfl)) (Or.inl rfl) h (lv_sub hl [0, 1] rfl)
        · have i37 := c_eq c37
          refine lv_iconst (v := 1) hx hb dX6_comes_40 (by decide) ?_
          refine lv_goto (tgt := 45) hx hb dX6_comes_41 (by decide) ?_
          exact j45 _ _ _ _ (by exact ((if_pos c37).trans rfl)) (Or.inr rfl) h (lv_sub hl [0, 1] rfl)
      · have i14 := c_nle c14
        refine lv_aload_n hx hb dX6_comes_17 rfl (lv_at hl 0 rfl) ?_
        refine lv_iconst (v := 1) hx hb dX6_comes_18 (by decide) ?_
        refine M_calli (As := [.int (1 : Int32)]) (rest := []) 1 C h (k_X6_refuse l g σ (1 : Int32)) (lw_V q1723 q1725 qs71 q152 q1726) rfl rfl (by decide +kernel) ⟨Nat.le_of_ble_eq_true rfl, Nat.le_of_ble_eq_true rfl⟩ rfl hl.1 rfl (Nat.le_of_ble_eq_true rfl) ⟨Nat.le_of_ble_eq_true rfl, Nat.le_of_ble_eq_true rfl⟩ dX6_comes_19 (fun r19 σ19 H locs eσ19 er19 hE19 h => ?_)
        clear hE19
        have hNEW : (0 ≤ (ga σ19 0 (0 : Int32)).toInt ∧ (ga σ19 0 (0 : Int32)).toInt ≤ 6) ∧ ((ga σ19 0 (0 : Int32)).toInt = (ga σ 0 (0 : Int32)).toInt) ∧ (MFr σ σ19) := ⟨(by rw [eσ19, refuse_s] <;> exact hp), (by rw [eσ19, refuse_s] <;> exact hpq), (by rw [eσ19, refuse_s]; exact Fr_si (by decide) hLF)⟩
        obtain ⟨hp, hpq, hLF⟩ := hNEW
        have he : f_X6_comes σ p1 p2 = (σ19, r19) := (by subst er2; subst eσ19; subst er19; exact ((if_neg c5).trans ((if_neg c9).trans ((if_neg c14).trans rfl))))
        exact M_reti C h hr hlocks (congrArg Prod.fst he) (congrArg Prod.snd he) ⟨hpq, hLF⟩ dX6_comes_22
def f_X6_drinksOf (σ : MS) (p1 : Int32) : Int32 := (let r5 := (f_X6_personRow p1); let r17 := (f_X6_personRow p1); ((ga σ 0 (r5 + (6 : Int32))) - (ga σ 0 (r17 + (7 : Int32)))))
set_option maxHeartbeats 4000000 in
set_option maxRecDepth 100000 in
theorem k_X6_drinksOf (l : Launch) (g : GE) (σ : MS) (p1 : Int32) (h1r : 0 ≤ p1.toInt ∧ p1.toInt ≤ 5) : Met l yX6_drinksOf (ws_ yX6_drinksOf cX6_drinksOf 2 (some .int)) ({ frames := 1, cells := 0, slots := 0, locals := 20 } : Room) (mPc g σ [.int p1]) (mQi g σ (f_X6_drinksOf σ p1) (fun u r => True)) 0 0 (mA g) := by
  refine met_M (by decide) rfl (Nat.le_of_ble_eq_true rfl) ?_
  intro p e s m args below meth c C hr hlocks h ls hl
  have hx := C.1.1
  have hb := C.1.2.1
  have hml := C.1.2.2.1
  have hown := C.1.2.2.2.1
  have hts := C.1.2.2.2.2
  have hl : lv_has ls 2 [(0, .ref (g.2.1 99)), (1, .int p1)] := hl
  have zl6 : (6 : Int32).toInt = 6 := rfl
  have zl7 : (7 : Int32).toInt = 7 := rfl
  have zl8 : (8 : Int32).toInt = 8 := rfl
  have zl12 : (12 : Int32).toInt = 12 := rfl
  refine lv_aload_n hx hb dX6_drinksOf_0 rfl (lv_at hl 0 rfl) ?_
  refine Mg_0 C h dX6_drinksOf_1 ?_
  refine lv_iload_n hx hb dX6_drinksOf_4 rfl (lv_at hl 1 rfl) ?_
  refine s_calli (As := [.int p1]) (rest := [.ref (g.2.1 0)]) 1 C.1 (k_X6_personRow l p1) (lw_S q1857 q1858 q152 q1859) rfl rfl (by decide +kernel) ⟨Nat.le_of_ble_eq_true rfl, Nat.le_of_ble_eq_true rfl⟩ rfl hl.1 rfl (Nat.le_of_ble_eq_true rfl) ⟨Nat.le_of_ble_eq_true rfl, Nat.le_of_ble_eq_true rfl⟩ dX6_drinksOf_5 h.2.2 (fun r5 H locs er5 hz1 hk1 hS1 => ?_)
  have h := h.same hk1 hS1
  clear hz1 hk1 hS1
  have tr5 : r5.toInt = ((12) + ((8) * p1.toInt)) := by rw [er5]; exact (i_add zl12 (i_mul zl8 (rfl : p1.toInt = p1.toInt) (by omega)) (by omega))
  refine lv_bipush (v := 6) hx hb dX6_drinksOf_8 (by decide) ?_
  refine lv_iadd hx hb dX6_drinksOf_10 ?_
  refine Ml_0 C h (ix_of (i_add tr5 zl6 (by omega)) (by omega)) dX6_drinksOf_11 ?_
  refine lv_aload_n hx hb dX6_drinksOf_12 rfl (lv_at hl 0 rfl) ?_
  refine Mg_0 C h dX6_drinksOf_13 ?_
  refine lv_iload_n hx hb dX6_drinksOf_16 rfl (lv_at hl 1 rfl) ?_
  refine s_calli (As := [.int p1]) (rest := [.ref (g.2.1 0), .int (ga σ 0 (r5 + (6 : Int32)))]) 1 C.1 (k_X6_personRow l p1) (lw_S q1857 q1858 q152 q1859) rfl rfl (by decide +kernel) ⟨Nat.le_of_ble_eq_true rfl, Nat.le_of_ble_eq_true rfl⟩ rfl hl.1 rfl (Nat.le_of_ble_eq_true rfl) ⟨Nat.le_of_ble_eq_true rfl, Nat.le_of_ble_eq_true rfl⟩ dX6_drinksOf_17 h.2.2 (fun r17 H locs er17 hz1 hk1 hS1 => ?_)
  have h := h.same hk1 hS1
  clear hz1 hk1 hS1
  have tr17 : r17.toInt = ((12) + ((8) * p1.toInt)) := by rw [er17]; exact (i_add zl12 (i_mul zl8 (rfl : p1.toInt = p1.toInt) (by omega)) (by omega))
  refine lv_bipush (v := 7) hx hb dX6_drinksOf_20 (by decide) ?_
  refine lv_iadd hx hb dX6_drinksOf_22 ?_
  refine Ml_0 C h (ix_of (i_add tr17 zl7 (by omega)) (by omega)) dX6_drinksOf_23 ?_
  refine lv_isub hx hb dX6_drinksOf_24 ?_
  have he : f_X6_drinksOf σ p1 = ((ga σ 0 (r5 + (6 : Int32))) - (ga σ 0 (r17 + (7 : Int32)))) := (by subst er5; subst er17; exact rfl)
  exact M_reti C h hr hlocks rfl he trivial dX6_drinksOf_25
def f_X6_buyer_L4 (σ : MS) : Nat → Int32 → Int32 → Int32 × Int32
  | 0, x1_4, x2_4 => (x1_4, x2_4)
  | n + 1, x1_4, x2_4 => if (ga σ 0 (0 : Int32)) ≤ x2_4 then ((x1_4, x2_4)) else ((let r23 := (f_X6_isIn σ (ga σ 0 (8 : Int32)) x2_4); if r23 = (0 : Int32) then (f_X6_buyer_L4 σ n x1_4 (x2_4 + (1 : Int32))) else (if x1_4 = (-1 : Int32) then (f_X6_buyer_L4 σ n x2_4 (x2_4 + (1 : Int32))) else ((let r36 := (f_X6_drinksOf σ x2_4); let r41 := (f_X6_drinksOf σ x1_4); if r36 ≤ r41 then (f_X6_buyer_L4 σ n x1_4 (x2_4 + (1 : Int32))) else (f_X6_buyer_L4 σ n x2_4 (x2_4 + (1 : Int32))))))))
def f_X6_buyer (σ : MS) : Int32 := (let zL4 := f_X6_buyer_L4 σ (7) (-1 : Int32) (0 : Int32); let x1_4e := zL4.1; let x2_4e := zL4.2; x1_4e)
set_option maxHeartbeats 4000000 in
set_option maxRecDepth 100000 in
theorem k_X6_buyer (l : Launch) (g : GE) (σ : MS) (hp : 0 ≤ (ga σ 0 (0 : Int32)).toInt ∧ (ga σ 0 (0 : Int32)).toInt ≤ 6) : Met l yX6_buyer (ws_ yX6_buyer cX6_buyer 3 (some .int)) ({ frames := 2, cells := 0, slots := 0, locals := 41 } : Room) (mPc g σ []) (mQi g σ (f_X6_buyer σ) (fun u r => (-1 ≤ r.toInt ∧ r.toInt < (ga u 0 (0 : Int32)).toInt))) 0 0 (mA g) := by
  refine met_M (by decide) rfl (Nat.le_of_ble_eq_true rfl) ?_
  intro p e s m args below meth c C hr hlocks h ls hl
  have hx := C.1.1
  have hb := C.1.2.1
  have hml := C.1.2.2.1
  have hown := C.1.2.2.2.1
  have hts := C.1.2.2.2.2
  have hl : lv_has ls 3 [(0, .ref (g.2.1 99))] := hl
  have zlm1 : (-1 : Int32).toInt = -1 := rfl
  have zl0 : (0 : Int32).toInt = 0 := rfl
  have zl1 : (1 : Int32).toInt = 1 := rfl
  have zl8 : (8 : Int32).toInt = 8 := rfl
  refine lv_iconst (v := -1) hx hb dX6_buyer_0 (by decide) ?_
  refine lv_istore_n (lv' := [(1, .int (-1 : Int32)), (0, .ref (g.2.1 99))]) hx hb dX6_buyer_1 rfl hl (by decide) rfl (fun ls hl => ?_)
  refine lv_iconst (v := 0) hx hb dX6_buyer_2 (by decide) ?_
  refine lv_istore_n (lv' := [(2, .int (0 : Int32)), (1, .int (-1 : Int32)), (0, .ref (g.2.1 99))]) hx hb dX6_buyer_3 rfl hl (by decide) rfl (fun ls hl => ?_)
  have hL4 : ∀ (n : Nat) (x1_4 : Int32) (x2_4 : Int32) (H : Heap) (locs : List Loc) (ls : Array Slot), (0 ≤ x2_4.toInt ∧ x2_4.toInt ≤ (ga σ 0 (0 : Int32)).toInt ∧ -1 ≤ x1_4.toInt ∧ x1_4.toInt < x2_4.toInt) → ((ga σ 0 (0 : Int32)).toInt - x2_4.toInt).toNat < n → MH g σ s H locs → lv_has ls 3 [(0, .ref (g.2.1 99)), (1, .int x1_4), (2, .int x2_4)] → (∀ (x1_4' : Int32) (x2_4' : Int32) (H : Heap) (locs : List Loc) (ls : Array Slot), f_X6_buyer_L4 σ n x1_4 x2_4 = (x1_4', x2_4') → (-1 ≤ x1_4'.toInt ∧ x1_4'.toInt < (ga σ 0 (0 : Int32)).toInt) → MH g σ s H locs → lv_has ls 3 [(1, .int x1_4')] → W p l e ({ frames := 2, cells := 0, slots := 0, locals := 41 } : Room) s m args below meth c H locs 0 0 (MQ below (mQi g σ (f_X6_buyer σ) (fun u r => (-1 ≤ r.toInt ∧ r.toInt < (ga u 0 (0 : Int32)).toInt))) args s 0 0 (mA g)) (F0 m 55 ls [])) → W p l e ({ frames := 2, cells := 0, slots := 0, locals := 41 } : Room) s m args below meth c H locs 0 0 (MQ below (mQi g σ (f_X6_buyer σ) (fun u r => (-1 ≤ r.toInt ∧ r.toInt < (ga u 0 (0 : Int32)).toInt))) args s 0 0 (mA g)) (F0 m 4 ls []) := by
    intro n
    induction n with
    | zero =>
      intro x1_4 x2_4 H locs ls _ hm; exact absurd hm (Nat.not_lt_zero _)
    | succ n ih =>
      intro x1_4 x2_4 H locs ls hI4 hm h hl kk
      refine lv_iload_n hx hb dX6_buyer_4 rfl (lv_at hl 2 rfl) ?_
      refine lv_aload_n hx hb dX6_buyer_5 rfl (lv_at hl 0 rfl) ?_
      refine Mg_0 C h dX6_buyer_6 ?_
      refine lv_iconst (v := 0) hx hb dX6_buyer_9 (by decide) ?_
      refine Ml_0 C h (ix_of zl0 (by omega)) dX6_buyer_10 ?_
      refine lv_icmp_ge (tgt := 55) hx hb dX6_buyer_11 (by decide) (fun c11 => ?_) (fun c11 => ?_)
      · have i11 := c_le c11
        exact kk x1_4 x2_4 _ _ _ (show f_X6_buyer_L4 σ (n + 1) x1_4 x2_4 = (x1_4, x2_4) from (by exact ((if_pos c11).trans rfl)))  (by omega) h (lv_sub hl [1] rfl)
      · have i11 := c_nle c11
        refine lv_aload_n hx hb dX6_buyer_14 rfl (lv_at hl 0 rfl) ?_
        refine lv_aload_n hx hb dX6_buyer_15 rfl (lv_at hl 0 rfl) ?_
        refine Mg_0 C h dX6_buyer_16 ?_
        refine lv_bipush (v := 8) hx hb dX6_buyer_19 (by decide) ?_
        refine Ml_0 C h (ix_of zl8 (by omega)) dX6_buyer_21 ?_
        refine lv_iload_n hx hb dX6_buyer_22 rfl (lv_at hl 2 rfl) ?_
        refine M_callz (As := [.int (ga σ 0 (8 : Int32)), .int x2_4]) (rest := []) 2 C h (k_X6_isIn l g σ (ga σ 0 (8 : Int32)) x2_4) (lw_V q1906 q1908 qs107 q152 q1909) rfl rfl (by decide +kernel) ⟨Nat.le_of_ble_eq_true rfl, Nat.le_of_ble_eq_true rfl⟩ rfl hl.1 rfl (Nat.le_of_ble_eq_true rfl) ⟨Nat.le_of_ble_eq_true rfl, Nat.le_of_ble_eq_true rfl⟩ dX6_buyer_23 (fun r23 σ23 H locs eσ23 er23 br23 hE23 h => ?_)
        rw [eσ23] at h
        clear hE23
        clear eσ23
        refine lv_if_eq (tgt := 49) hx hb dX6_buyer_26 (by decide) (fun c26 => ?_) (fun c26 => ?_)
        · have i26 := c_eq c26
          refine lv_iinc (v := (x2_4 + (1 : Int32))) (lv' := [(2, .int (x2_4 + (1 : Int32))), (0, .ref (g.2.1 99)), (1, .int x1_4)]) hx hb dX6_buyer_49 hl (k := 2) rfl rfl (by decide) rfl (fun ls hl => ?_)
          refine lv_goto (tgt := 4) hx hb dX6_buyer_52 (by decide) ?_
          have tt2 : (x2_4 + (1 : Int32)).toInt = (x2_4.toInt + (1)) := (i_add (rfl : x2_4.toInt = x2_4.toInt) zl1 (by omega))
          exact ih x1_4 (x2_4 + (1 : Int32)) _ _ _  (by first | assumption | omega) (by omega) h (lv_sub hl [1, 2, 0] rfl) (fun x1_4' x2_4' H locs ls en hI h hl => kk x1_4' x2_4' H locs ls ((show f_X6_buyer_L4 σ (n + 1) x1_4 x2_4 = f_X6_buyer_L4 σ n x1_4 (x2_4 + (1 : Int32)) from (by subst er23; exact ((if_neg c11).trans ((if_pos c26).trans rfl)))).trans en) hI h hl)
        · have i26 := c_ne c26
          have okr23 := isIn_ok er23 c26
          refine lv_iload_n hx hb dX6_buyer_29 rfl (lv_at hl 1 rfl) ?_
          refine lv_iconst (v := -1) hx hb dX6_buyer_30 (by decide) ?_
          refine lv_icmp_eq (tgt := 47) hx hb dX6_buyer_31 (by decide) (fun c31 => ?_) (fun c31 => ?_)
          · have i31 := c_eq c31
            refine lv_iload_n hx hb dX6_buyer_47 rfl (lv_at hl 2 rfl) ?_
            refine lv_istore_n (lv' := [(1, .int x2_4), (0, .ref (g.2.1 99)), (2, .int x2_4)]) hx hb dX6_buyer_48 rfl hl (by decide) rfl (fun ls hl => ?_)
            refine lv_iinc (v := (x2_4 + (1 : Int32))) (lv' := [(2, .int (x2_4 + (1 : Int32))), (1, .int x2_4), (0, .ref (g.2.1 99))]) hx hb dX6_buyer_49 hl (k := 2) rfl rfl (by decide) rfl (fun ls hl => ?_)
            refine lv_goto (tgt := 4) hx hb dX6_buyer_52 (by decide) ?_
            have tt2 : (x2_4 + (1 : Int32)).toInt = (x2_4.toInt + (1)) := (i_add (rfl : x2_4.toInt = x2_4.toInt) zl1 (by omega))
            exact ih x2_4 (x2_4 + (1 : Int32)) _ _ _  (by first | assumption | omega) (by omega) h (lv_sub hl [2, 1, 0] rfl) (fun x1_4' x2_4' H locs ls en hI h hl => kk x1_4' x2_4' H locs ls ((show f_X6_buyer_L4 σ (n + 1) x1_4 x2_4 = f_X6_buyer_L4 σ n x2_4 (x2_4 + (1 : Int32)) from (by subst er23; exact ((if_neg c11).trans ((if_neg c26).trans ((if_pos c31).trans rfl))))).trans en) hI h hl)
          · have i31 := c_ne c31
            refine lv_aload_n hx hb dX6_buyer_34 rfl (lv_at hl 0 rfl) ?_
            refine lv_iload_n hx hb dX6_buyer_35 rfl (lv_at hl 2 rfl) ?_
            refine M_calli (As := [.int x2_4]) (rest := []) 1 C h (k_X6_drinksOf l g σ x2_4 (by first | assumption | omega)) (lw_V q2142 q2144 qs129 q152 q2145) rfl rfl (by decide +kernel) ⟨Nat.le_of_ble_eq_true rfl, Nat.le_of_ble_eq_true rfl⟩ rfl hl.1 rfl (Nat.le_of_ble_eq_true rfl) ⟨Nat.le_of_ble_eq_true rfl, Nat.le_of_ble_eq_true rfl⟩ dX6_buyer_36 (fun r36 σ36 H locs eσ36 er36 hE36 h => ?_)
            rw [eσ36] at h
            clear hE36
            clear eσ36
            refine lv_aload_n hx hb dX6_buyer_39 rfl (lv_at hl 0 rfl) ?_
            refine lv_iload_n hx hb dX6_buyer_40 rfl (lv_at hl 1 rfl) ?_
            refine M_calli (As := [.int x1_4]) (rest := [.int r36]) 1 C h (k_X6_drinksOf l g σ x1_4 (by first | assumption | omega)) (lw_V q2142 q2144 qs129 q152 q2145) rfl rfl (by decide +kernel) ⟨Nat.le_of_ble_eq_true rfl, Nat.le_of_ble_eq_true rfl⟩ rfl hl.1 rfl (Nat.le_of_ble_eq_true rfl) ⟨Nat.le_of_ble_eq_true rfl, Nat.le_of_ble_eq_true rfl⟩ dX6_buyer_41 (fun r41 σ41 H locs eσ41 er41 hE41 h => ?_)
            rw [eσ41] at h
            clear hE41
            clear eσ41
            refine lv_icmp_le (tgt := 49) hx hb dX6_buyer_44 (by decide) (fun c44 => ?_) (fun c44 => ?_)
            · have i44 := c_le c44
              refine lv_iinc (v := (x2_4 + (1 : Int32))) (lv' := [(2, .int (x2_4 + (1 : Int32))), (0, .ref (g.2.1 99)), (1, .int x1_4)]) hx hb dX6_buyer_49 hl (k := 2) rfl rfl (by decide) rfl (fun ls hl => ?_)
              refine lv_goto (tgt := 4) hx hb dX6_buyer_52 (by decide) ?_
              have tt2 : (x2_4 + (1 : Int32)).toInt = (x2_4.toInt + (1)) := (i_add (rfl : x2_4.toInt = x2_4.toInt) zl1 (by omega))
              exact ih x1_4 (x2_4 + (1 : Int32)) _ _ _  (by first | assumption | omega) (by omega) h (lv_sub hl [1, 2, 0] rfl) (fun x1_4' x2_4' H locs ls en hI h hl => kk x1_4' x2_4' H locs ls ((show f_X6_buyer_L4 σ (n + 1) x1_4 x2_4 = f_X6_buyer_L4 σ n x1_4 (x2_4 + (1 : Int32)) from (by subst er23; subst er36; subst er41; exact ((if_neg c11).trans ((if_neg c26).trans ((if_neg c31).trans ((if_pos c44).trans rfl)))))).trans en) hI h hl)
            · have i44 := c_nle c44
              refine lv_iload_n hx hb dX6_buyer_47 rfl (lv_at hl 2 rfl) ?_
              refine lv_istore_n (lv' := [(1, .int x2_4), (0, .ref (g.2.1 99)), (2, .int x2_4)]) hx hb dX6_buyer_48 rfl hl (by decide) rfl (fun ls hl => ?_)
              refine lv_iinc (v := (x2_4 + (1 : Int32))) (lv' := [(2, .int (x2_4 + (1 : Int32))), (1, .int x2_4), (0, .ref (g.2.1 99))]) hx hb dX6_buyer_49 hl (k := 2) rfl rfl (by decide) rfl (fun ls hl => ?_)
              refine lv_goto (tgt := 4) hx hb dX6_buyer_52 (by decide) ?_
              have tt2 : (x2_4 + (1 : Int32)).toInt = (x2_4.toInt + (1)) := (i_add (rfl : x2_4.toInt = x2_4.toInt) zl1 (by omega))
              exact ih x2_4 (x2_4 + (1 : Int32)) _ _ _  (by first | assumption | omega) (by omega) h (lv_sub hl [2, 1, 0] rfl) (fun x1_4' x2_4' H locs ls en hI h hl => kk x1_4' x2_4' H locs ls ((show f_X6_buyer_L4 σ (n + 1) x1_4 x2_4 = f_X6_buyer_L4 σ n x2_4 (x2_4 + (1 : Int32)) from (by subst er23; subst er36; subst er41; exact ((if_neg c11).trans ((if_neg c26).trans ((if_neg c31).trans ((if_neg c44).trans rfl)))))).trans en) hI h hl)
  refine hL4 (7) (-1 : Int32) (0 : Int32) _ _ _  (by first | assumption | omega) (by omega) h (lv_sub hl [2, 1, 0] rfl) (fun x1_4e x2_4e H locs ls eL4 hI4 h hl => ?_)
  have ex1_4e : x1_4e = (f_X6_buyer_L4 σ (7) (-1 : Int32) (0 : Int32)).1 := by rw [eL4]
  have ex2_4e : x2_4e = (f_X6_buyer_L4 σ (7) (-1 : Int32) (0 : Int32)).2 := by rw [eL4]
  refine lv_iload_n hx hb dX6_buyer_55 rfl (lv_at hl 0 rfl) ?_
  have he : f_X6_buyer σ = x1_4e := (by subst ex1_4e; subst ex2_4e; exact rfl)
  exact M_reti C h hr hlocks rfl he (by first | assumption | omega | (unfold Hd; omega)) dX6_buyer_56
def f_X6_buys (σ : MS) : MS × Int32 := (let r2 := (f_X6_buyer σ); let z5 := (f_X6_orNone σ r2); let σ5 := z5.1; let r5 := z5.2; (σ5, r5))
set_option maxHeartbeats 4000000 in
set_option maxRecDepth 100000 in
theorem k_X6_buys (l : Launch) (g : GE) (σ : MS) (hp : 0 ≤ (ga σ 0 (0 : Int32)).toInt ∧ (ga σ 0 (0 : Int32)).toInt ≤ 6) : Met l yX6_buys (ws_ yX6_buys cX6_buys 1 (some .int)) ({ frames := 3, cells := 0, slots := 0, locals := 63 } : Room) (mPc g σ []) (mQi g (f_X6_buys σ).1 (f_X6_buys σ).2 (fun u r => ((ga u 0 (0 : Int32)).toInt = (ga σ 0 (0 : Int32)).toInt))) 0 0 (mA g) := by
  refine met_M (by decide) rfl (Nat.le_of_ble_eq_true rfl) ?_
  intro p e s m args below meth c C hr hlocks h ls hl
  have hx := C.1.1
  have hb := C.1.2.1
  have hml := C.1.2.2.1
  have hown := C.1.2.2.2.1
  have hts := C.1.2.2.2.2
  have hl : lv_has ls 1 [(0, .ref (g.2.1 99))] := hl
  have hpq : (ga σ 0 (0 : Int32)).toInt = (ga σ 0 (0 : Int32)).toInt := rfl
  refine lv_aload_n hx hb dX6_buys_0 rfl (lv_at hl 0 rfl) ?_
  refine lv_aload_n hx hb dX6_buys_1 rfl (lv_at hl 0 rfl) ?_
  refine M_calli (As := []) (rest := [.ref (g.2.1 99)]) 0 C h (k_X6_buyer l g σ (by first | assumption | omega)) (lw_V q2138 q2140 qs128 q152 q2141) rfl rfl (by decide +kernel) ⟨Nat.le_of_ble_eq_true rfl, Nat.le_of_ble_eq_true rfl⟩ rfl hl.1 rfl (Nat.le_of_ble_eq_true rfl) ⟨Nat.le_of_ble_eq_true rfl, Nat.le_of_ble_eq_true rfl⟩ dX6_buys_2 (fun r2 σ2 H locs eσ2 er2 hE2 h => ?_)
  rw [eσ2] at h
  rw [eσ2] at hE2
  have hE2 : (-1 ≤ r2.toInt ∧ r2.toInt < (ga σ 0 (0 : Int32)).toInt) := hE2
  have brng_2 := hE2
  clear eσ2
  refine M_calli (As := [.int r2]) (rest := []) 1 C h (k_X6_orNone l g σ r2) (lw_V q1868 q1870 qs102 q152 q1871) rfl rfl (by decide +kernel) ⟨Nat.le_of_ble_eq_true rfl, Nat.le_of_ble_eq_true rfl⟩ rfl hl.1 rfl (Nat.le_of_ble_eq_true rfl) ⟨Nat.le_of_ble_eq_true rfl, Nat.le_of_ble_eq_true rfl⟩ dX6_buys_5 (fun r5 σ5 H locs eσ5 er5 hE5 h => ?_)
  clear hE5
  have hNEW : (0 ≤ (ga σ5 0 (0 : Int32)).toInt ∧ (ga σ5 0 (0 : Int32)).toInt ≤ 6) ∧ ((ga σ5 0 (0 : Int32)).toInt = (ga σ 0 (0 : Int32)).toInt) := ⟨(by rw [eσ5, orNone_s] <;> exact hp), (by rw [eσ5, orNone_s] <;> exact hpq)⟩
  obtain ⟨hp, hpq⟩ := hNEW
  have he : f_X6_buys σ = (σ5, r5) := (by subst er2; subst eσ5; subst er5; exact rfl)
  exact M_reti C h hr hlocks (congrArg Prod.fst he) (congrArg Prod.snd he) hpq dX6_buys_8
def f_X6_rounds_L14 (y1_14 : Int32) : Nat → Int32 → MS → Int32 × MS
  | 0, x2_14, σL14 => (x2_14, σL14)
  | n + 1, x2_14, σL14 => if (ga σL14 0 (0 : Int32)) ≤ x2_14 then ((x2_14, σL14)) else ((let r29 := (f_X6_personRow x2_14); let σ49 := sa σL14 0 (r29 + (6 : Int32)) ((ga σL14 0 (r29 + (6 : Int32))) + (((ga σL14 0 (8 : Int32)) >>> (x2_14 &&& (31 : Int32))) &&& (1 : Int32))); f_X6_rounds_L14 y1_14 n (x2_14 + (1 : Int32)) σ49))
def f_X6_rounds (σ : MS) : MS × Int32 := (let r1 := (f_X6_buyer σ); if r1 = (-1 : Int32) then ((σ, (-1 : Int32))) else ((let zL14 := f_X6_rounds_L14 r1 (7) (0 : Int32) σ; let x2_14e := zL14.1; let σL14e := zL14.2; (let r61 := (f_X6_personRow r1); let r76 := (f_X6_bits (ga σL14e 0 (8 : Int32))); let σ80 := sa σL14e 0 (r61 + (7 : Int32)) ((ga σL14e 0 (r61 + (7 : Int32))) + r76); let σ90 := sa σ80 0 (5 : Int32) ((ga σ80 0 (5 : Int32)) + (1 : Int32)); (σ90, r1)))))
set_option maxHeartbeats 4000000 in
set_option maxRecDepth 100000 in
theorem k_X6_rounds (l : Launch) (g : GE) (σ : MS) (hp : 0 ≤ (ga σ 0 (0 : Int32)).toInt ∧ (ga σ 0 (0 : Int32)).toInt ≤ 6) (hd : 0 ≤ (ga σ 0 (2 : Int32)).toInt ∧ (ga σ 0 (2 : Int32)).toInt ≤ 16) : Met l yX6_rounds (ws_ yX6_rounds cX6_rounds 3 (some .int)) ({ frames := 3, cells := 0, slots := 0, locals := 63 } : Room) (mPc g σ []) (mQi g (f_X6_rounds σ).1 (f_X6_rounds σ).2 (fun u r => ((ga u 0 (0 : Int32)).toInt = (ga σ 0 (0 : Int32)).toInt) ∧ ((ga u 0 (2 : Int32)).toInt = (ga σ 0 (2 : Int32)).toInt) ∧ (∀ j : Int32, 130 ≤ j.toInt → ga u 0 j = ga σ 0 j) ∧ ((gi u 29).toInt = (gi σ 29).toInt) ∧ ((ga u 0 (9 : Int32)).toInt = (ga σ 0 (9 : Int32)).toInt) ∧ (∀ x : Int32, (0 ≤ x.toInt ∧ x.toInt ≤ 5) → ga u 0 ((f_X6_personRow x) + (1 : Int32)) = ga σ 0 ((f_X6_personRow x) + (1 : Int32))) ∧ ((gi u 28).toInt = (gi σ 28).toInt) ∧ (MFr σ u))) 0 0 (mA g) := by
  refine met_M (by decide) rfl (Nat.le_of_ble_eq_true rfl) ?_
  intro p e s m args below meth c C hr hlocks h ls hl
  have hx := C.1.1
  have hb := C.1.2.1
  have hml := C.1.2.2.1
  have hown := C.1.2.2.2.1
  have hts := C.1.2.2.2.2
  have hl : lv_has ls 3 [(0, .ref (g.2.1 99))] := hl
  have hpq : (ga σ 0 (0 : Int32)).toInt = (ga σ 0 (0 : Int32)).toInt := rfl
  have hdq : (ga σ 0 (2 : Int32)).toInt = (ga σ 0 (2 : Int32)).toInt := rfl
  have hY : ∀ j : Int32, 130 ≤ j.toInt → ga σ 0 j = ga σ 0 j := fun _ _ => rfl
  have hrq : (gi σ 29).toInt = (gi σ 29).toInt := rfl
  have hsq : (ga σ 0 (9 : Int32)).toInt = (ga σ 0 (9 : Int32)).toInt := rfl
  have hQq : ∀ x : Int32, (0 ≤ x.toInt ∧ x.toInt ≤ 5) → ga σ 0 ((f_X6_personRow x) + (1 : Int32)) = ga σ 0 ((f_X6_personRow x) + (1 : Int32)) := fun _ _ => rfl
  have hdq28 : (gi σ 28).toInt = (gi σ 28).toInt := rfl
  have hLF : MFr σ σ := Fr.rf
  have zlm1 : (-1 : Int32).toInt = -1 := rfl
  have zl0 : (0 : Int32).toInt = 0 := rfl
  have zl1 : (1 : Int32).toInt = 1 := rfl
  have zl2 : (2 : Int32).toInt = 2 := rfl
  have zl5 : (5 : Int32).toInt = 5 := rfl
  have zl6 : (6 : Int32).toInt = 6 := rfl
  have zl7 : (7 : Int32).toInt = 7 := rfl
  have zl8 : (8 : Int32).toInt = 8 := rfl
  have zl9 : (9 : Int32).toInt = 9 := rfl
  have zl12 : (12 : Int32).toInt = 12 := rfl
  refine lv_aload_n hx hb dX6_rounds_0 rfl (lv_at hl 0 rfl) ?_
  refine M_calli (As := []) (rest := []) 0 C h (k_X6_buyer l g σ (by first | assumption | omega)) (lw_V q2138 q2140 qs128 q152 q2141) rfl rfl (by decide +kernel) ⟨Nat.le_of_ble_eq_true rfl, Nat.le_of_ble_eq_true rfl⟩ rfl hl.1 rfl (Nat.le_of_ble_eq_true rfl) ⟨Nat.le_of_ble_eq_true rfl, Nat.le_of_ble_eq_true rfl⟩ dX6_rounds_1 (fun r1 σ1 H locs eσ1 er1 hE1 h => ?_)
  rw [eσ1] at h
  rw [eσ1] at hE1
  have hE1 : (-1 ≤ r1.toInt ∧ r1.toInt < (ga σ 0 (0 : Int32)).toInt) := hE1
  have brng_1 := hE1
  clear eσ1
  refine lv_istore_n (lv' := [(1, .int r1), (0, .ref (g.2.1 99))]) hx hb dX6_rounds_4 rfl hl (by decide) rfl (fun ls hl => ?_)
  refine lv_iload_n hx hb dX6_rounds_5 rfl (lv_at hl 0 rfl) ?_
  refine lv_iconst (v := -1) hx hb dX6_rounds_6 (by decide) ?_
  refine lv_icmp_ne (tgt := 12) hx hb dX6_rounds_7 (by decide) (fun c7 => ?_) (fun c7 => ?_)
  · have i7 := c_ne c7
    refine lv_iconst (v := 0) hx hb dX6_rounds_12 (by decide) ?_
    refine lv_istore_n (lv' := [(2, .int (0 : Int32)), (1, .int r1), (0, .ref (g.2.1 99))]) hx hb dX6_rounds_13 rfl hl (by decide) rfl (fun ls hl => ?_)
    have hL14 : ∀ (n : Nat) (x2_14 : Int32) (σL14 : MS) (H : Heap) (locs : List Loc) (ls : Array Slot), (0 ≤ (ga σL14 0 (0 : Int32)).toInt ∧ (ga σL14 0 (0 : Int32)).toInt ≤ 6) → (0 ≤ (ga σL14 0 (2 : Int32)).toInt ∧ (ga σL14 0 (2 : Int32)).toInt ≤ 16) → ((ga σL14 0 (0 : Int32)).toInt = (ga σ 0 (0 : Int32)).toInt) → ((ga σL14 0 (2 : Int32)).toInt = (ga σ 0 (2 : Int32)).toInt) → (∀ j : Int32, 130 ≤ j.toInt → ga σL14 0 j = ga σ 0 j) → ((gi σL14 29).toInt = (gi σ 29).toInt) → ((ga σL14 0 (9 : Int32)).toInt = (ga σ 0 (9 : Int32)).toInt) → (∀ x : Int32, (0 ≤ x.toInt ∧ x.toInt ≤ 5) → ga σL14 0 ((f_X6_personRow x) + (1 : Int32)) = ga σ 0 ((f_X6_personRow x) + (1 : Int32))) → ((gi σL14 28).toInt = (gi σ 28).toInt) → (MFr σ σL14) → (0 ≤ x2_14.toInt ∧ x2_14.toInt ≤ (ga σL14 0 (0 : Int32)).toInt) → ((ga σL14 0 (0 : Int32)).toInt - x2_14.toInt).toNat < n → MH g σL14 s H locs → lv_has ls 3 [(0, .ref (g.2.1 99)), (1, .int r1), (2, .int x2_14)] → (∀ (x2_14' : Int32) (σL14' : MS) (H : Heap) (locs : List Loc) (ls : Array Slot), f_X6_rounds_L14 r1 n x2_14 σL14 = (x2_14', σL14') → (0 ≤ (ga σL14' 0 (0 : Int32)).toInt ∧ (ga σL14' 0 (0 : Int32)).toInt ≤ 6) → (0 ≤ (ga σL14' 0 (2 : Int32)).toInt ∧ (ga σL14' 0 (2 : Int32)).toInt ≤ 16) → ((ga σL14' 0 (0 : Int32)).toInt = (ga σ 0 (0 : Int32)).toInt) → ((ga σL14' 0 (2 : Int32)).toInt = (ga σ 0 (2 : Int32)).toInt) → (∀ j : Int32, 130 ≤ j.toInt → ga σL14' 0 j = ga σ 0 j) → ((gi σL14' 29).toInt = (gi σ 29).toInt) → ((ga σL14' 0 (9 : Int32)).toInt = (ga σ 0 (9 : Int32)).toInt) → (∀ x : Int32, (0 ≤ x.toInt ∧ x.toInt ≤ 5) → ga σL14' 0 ((f_X6_personRow x) + (1 : Int32)) = ga σ 0 ((f_X6_personRow x) + (1 : Int32))) → ((gi σL14' 28).toInt = (gi σ 28).toInt) → (MFr σ σL14') → (0 ≤ x2_14'.toInt ∧ x2_14'.toInt ≤ (ga σL14' 0 (0 : Int32)).toInt) → MH g σL14' s H locs → lv_has ls 3 [(0, .ref (g.2.1 99)), (1, .int r1)] → W p l e ({ frames := 3, cells := 0, slots := 0, locals := 63 } : Room) s m args below meth c H locs 0 0 (MQ below (mQi g (f_X6_rounds σ).1 (f_X6_rounds σ).2 (fun u r => ((ga u 0 (0 : Int32)).toInt = (ga σ 0 (0 : Int32)).toInt) ∧ ((ga u 0 (2 : Int32)).toInt = (ga σ 0 (2 : Int32)).toInt) ∧ (∀ j : Int32, 130 ≤ j.toInt → ga u 0 j = ga σ 0 j) ∧ ((gi u 29).toInt = (gi σ 29).toInt) ∧ ((ga u 0 (9 : Int32)).toInt = (ga σ 0 (9 : Int32)).toInt) ∧ (∀ x : Int32, (0 ≤ x.toInt ∧ x.toInt ≤ 5) → ga u 0 ((f_X6_personRow x) + (1 : Int32)) = ga σ 0 ((f_X6_personRow x) + (1 : Int32))) ∧ ((gi u 28).toInt = (gi σ 28).toInt) ∧ (MFr σ u))) args s 0 0 (mA g)) (F0 m 56 ls [])) → W p l e ({ frames := 3, cells := 0, slots := 0, locals := 63 } : Room) s m args below meth c H locs 0 0 (MQ below (mQi g (f_X6_rounds σ).1 (f_X6_rounds σ).2 (fun u r => ((ga u 0 (0 : Int32)).toInt = (ga σ 0 (0 : Int32)).toInt) ∧ ((ga u 0 (2 : Int32)).toInt = (ga σ 0 (2 : Int32)).toInt) ∧ (∀ j : Int32, 130 ≤ j.toInt → ga u 0 j = ga σ 0 j) ∧ ((gi u 29).toInt = (gi σ 29).toInt) ∧ ((ga u 0 (9 : Int32)).toInt = (ga σ 0 (9 : Int32)).toInt) ∧ (∀ x : Int32, (0 ≤ x.toInt ∧ x.toInt ≤ 5) → ga u 0 ((f_X6_personRow x) + (1 : Int32)) = ga σ 0 ((f_X6_personRow x) + (1 : Int32))) ∧ ((gi u 28).toInt = (gi σ 28).toInt) ∧ (MFr σ u))) args s 0 0 (mA g)) (F0 m 14 ls []) := by
      intro n
      induction n with
      | zero =>
        intro x2_14 σL14 H locs ls hp hd hpq hdq hY hrq hsq hQq hdq28 hLF _ hm; exact absurd hm (Nat.not_lt_zero _)
      | succ n ih =>
        intro x2_14 σL14 H locs ls hp hd hpq hdq hY hrq hsq hQq hdq28 hLF hI14 hm h hl kk
        refine lv_iload_n hx hb dX6_rounds_14 rfl (lv_at hl 2 rfl) ?_
        refine lv_aload_n hx hb dX6_rounds_15 rfl (lv_at hl 0 rfl) ?_
        refine Mg_0 C h dX6_rounds_16 ?_
        refine lv_iconst (v := 0) hx hb dX6_rounds_19 (by decide) ?_
        refine Ml_0 C h (ix_of zl0 (by omega)) dX6_rounds_20 ?_
        refine lv_icmp_ge (tgt := 56) hx hb dX6_rounds_21 (by decide) (fun c21 => ?_) (fun c21 => ?_)
        · have i21 := c_le c21
          exact kk x2_14 σL14 _ _ _ (show f_X6_rounds_L14 r1 (n + 1) x2_14 σL14 = (x2_14, σL14) from (by exact ((if_pos c21).trans rfl))) hp hd hpq hdq hY hrq hsq hQq hdq28 hLF (by first | assumption | omega) h (lv_sub hl [0, 1] rfl)
        · have i21 := c_nle c21
          refine lv_aload_n hx hb dX6_rounds_24 rfl (lv_at hl 0 rfl) ?_
          refine Mg_0 C h dX6_rounds_25 ?_
          refine lv_iload_n hx hb dX6_rounds_28 rfl (lv_at hl 2 rfl) ?_
          refine s_calli (As := [.int x2_14]) (rest := [.ref (g.2.1 0)]) 1 C.1 (k_X6_personRow l x2_14) (lw_S q1857 q1858 q152 q1859) rfl rfl (by decide +kernel) ⟨Nat.le_of_ble_eq_true rfl, Nat.le_of_ble_eq_true rfl⟩ rfl hl.1 rfl (Nat.le_of_ble_eq_true rfl) ⟨Nat.le_of_ble_eq_true rfl, Nat.le_of_ble_eq_true rfl⟩ dX6_rounds_29 h.2.2 (fun r29 H locs er29 hz1 hk1 hS1 => ?_)
          have h := h.same hk1 hS1
          clear hz1 hk1 hS1
          have tr29 : r29.toInt = ((12) + ((8) * x2_14.toInt)) := by rw [er29]; exact (i_add zl12 (i_mul zl8 (rfl : x2_14.toInt = x2_14.toInt) (by omega)) (by omega))
          refine lv_bipush (v := 6) hx hb dX6_rounds_32 (by decide) ?_
          refine lv_iadd hx hb dX6_rounds_34 ?_
          refine lv_dup2_11 hx hb dX6_rounds_35 rfl rfl ?_
          refine Ml_0 C h (ix_of (i_add tr29 zl6 (by omega)) (by omega)) dX6_rounds_36 ?_
          refine lv_aload_n hx hb dX6_rounds_37 rfl (lv_at hl 0 rfl) ?_
          refine Mg_0 C h dX6_rounds_38 ?_
          refine lv_bipush (v := 8) hx hb dX6_rounds_41 (by decide) ?_
          refine Ml_0 C h (ix_of zl8 (by omega)) dX6_rounds_43 ?_
          refine lv_iload_n hx hb dX6_rounds_44 rfl (lv_at hl 2 rfl) ?_
          refine lv_ishr hx hb dX6_rounds_45 ?_
          refine lv_iconst (v := 1) hx hb dX6_rounds_46 (by decide) ?_
          refine lv_iand hx hb dX6_rounds_47 ?_
          refine lv_iadd hx hb dX6_rounds_48 ?_
          refine Ms_0 C h (ix_of (i_add tr29 zl6 (by omega)) (by omega)) dX6_rounds_49 (fun σ49 H locs eσ49 h => ?_)
          have hNEW : (0 ≤ (ga σ49 0 (0 : Int32)).toInt ∧ (ga σ49 0 (0 : Int32)).toInt ≤ 6) ∧ (0 ≤ (ga σ49 0 (2 : Int32)).toInt ∧ (ga σ49 0 (2 : Int32)).toInt ≤ 16) ∧ ((ga σ49 0 (0 : Int32)).toInt = (ga σ 0 (0 : Int32)).toInt) ∧ ((ga σ49 0 (2 : Int32)).toInt = (ga σ 0 (2 : Int32)).toInt) ∧ (∀ j : Int32, 130 ≤ j.toInt → ga σ49 0 j = ga σ 0 j) ∧ ((gi σ49 29).toInt = (gi σ 29).toInt) ∧ ((ga σ49 0 (9 : Int32)).toInt = (ga σ 0 (9 : Int32)).toInt) ∧ (∀ x : Int32, (0 ≤ x.toInt ∧ x.toInt ≤ 5) → ga σ49 0 ((f_X6_personRow x) + (1 : Int32)) = ga σ 0 ((f_X6_personRow x) + (1 : Int32))) ∧ ((gi σ49 28).toInt = (gi σ 28).toInt) ∧ (MFr σ σ49) := ⟨(by rw [eσ49, ga_sa_ne (j := (0 : Int32)) (i_add tr29 zl6 (by omega)) zl0 (by omega)] <;> exact hp), (by rw [eσ49, ga_sa_ne (j := (2 : Int32)) (i_add tr29 zl6 (by omega)) zl2 (by omega)] <;> exact hd), (by rw [eσ49, ga_sa_ne (j := (0 : Int32)) (i_add tr29 zl6 (by omega)) zl0 (by omega)] <;> exact hpq), (by rw [eσ49, ga_sa_ne (j := (2 : Int32)) (i_add tr29 zl6 (by omega)) zl2 (by omega)] <;> exact hdq), (by rw [eσ49]; exact hY_sa (i_add tr29 zl6 (by omega)) (by omega) hY), (by rw [eσ49, ] <;> exact hrq), (by rw [eσ49, ga_sa_ne (j := (9 : Int32)) (i_add tr29 zl6 (by omega)) zl9 (by omega)] <;> exact hsq), (by rw [eσ49]; exact hQ_sa (i_add tr29 zl6 (by omega)) (by omega) hQq), (by rw [eσ49, ] <;> exact hdq28), (by rw [eσ49]; exact (Fr_sa (i_add tr29 zl6 (by omega)) (by first | omega | (dsimp only; omega)) (by omega) hLF))⟩
          obtain ⟨hp, hd, hpq, hdq, hY, hrq, hsq, hQq, hdq28, hLF⟩ := hNEW
          refine lv_iinc (v := (x2_14 + (1 : Int32))) (lv' := [(2, .int (x2_14 + (1 : Int32))), (0, .ref (g.2.1 99)), (1, .int r1)]) hx hb dX6_rounds_50 hl (k := 2) rfl rfl (by decide) rfl (fun ls hl => ?_)
          refine lv_goto (tgt := 14) hx hb dX6_rounds_53 (by decide) ?_
          have tt2 : (x2_14 + (1 : Int32)).toInt = (x2_14.toInt + (1)) := (i_add (rfl : x2_14.toInt = x2_14.toInt) zl1 (by omega))
          exact ih (x2_14 + (1 : Int32)) σ49 _ _ _ hp hd hpq hdq hY hrq hsq hQq hdq28 hLF (by first | assumption | omega) (by omega) h (lv_sub hl [1, 2, 0] rfl) (fun x2_14' σL14' H locs ls en hp hd hpq hdq hY hrq hsq hQq hdq28 hLF hI h hl => kk x2_14' σL14' H locs ls ((show f_X6_rounds_L14 r1 (n + 1) x2_14 σL14 = f_X6_rounds_L14 r1 n (x2_14 + (1 : Int32)) σ49 from (by subst er29; subst eσ49; exact ((if_neg c21).trans rfl))).trans en) hp hd hpq hdq hY hrq hsq hQq hdq28 hLF hI h hl)
    refine hL14 (7) (0 : Int32) σ _ _ _ hp hd hpq hdq hY hrq hsq hQq hdq28 hLF (by first | assumption | omega) (by omega) h (lv_sub hl [2, 1, 0] rfl) (fun x2_14e σL14e H locs ls eL14 hp hd hpq hdq hY hrq hsq hQq hdq28 hLF hI14 h hl => ?_)
    have ex2_14e : x2_14e = (f_X6_rounds_L14 r1 (7) (0 : Int32) σ).1 := by rw [eL14]
    have eσL14e : σL14e = (f_X6_rounds_L14 r1 (7) (0 : Int32) σ).2 := by rw [eL14]
    refine lv_aload_n hx hb dX6_rounds_56 rfl (lv_at hl 0 rfl) ?_
    refine Mg_0 C h dX6_rounds_57 ?_
    refine lv_iload_n hx hb dX6_rounds_60 rfl (lv_at hl 1 rfl) ?_
    refine s_calli (As := [.int r1]) (rest := [.ref (g.2.1 0)]) 1 C.1 (k_X6_personRow l r1) (lw_S q1857 q1858 q152 q1859) rfl rfl (by decide +kernel) ⟨Nat.le_of_ble_eq_true rfl, Nat.le_of_ble_eq_true rfl⟩ rfl hl.1 rfl (Nat.le_of_ble_eq_true rfl) ⟨Nat.le_of_ble_eq_true rfl, Nat.le_of_ble_eq_true rfl⟩ dX6_rounds_61 h.2.2 (fun r61 H locs er61 hz1 hk1 hS1 => ?_)
    have h := h.same hk1 hS1
    clear hz1 hk1 hS1
    have tr61 : r61.toInt = ((12) + ((8) * r1.toInt)) := by rw [er61]; exact (i_add zl12 (i_mul zl8 (rfl : r1.toInt = r1.toInt) (by omega)) (by omega))
    refine lv_bipush (v := 7) hx hb dX6_rounds_64 (by decide) ?_
    refine lv_iadd hx hb dX6_rounds_66 ?_
    refine lv_dup2_11 hx hb dX6_rounds_67 rfl rfl ?_
    refine Ml_0 C h (ix_of (i_add tr61 zl7 (by omega)) (by omega)) dX6_rounds_68 ?_
    refine lv_aload_n hx hb dX6_rounds_69 rfl (lv_at hl 0 rfl) ?_
    refine Mg_0 C h dX6_rounds_70 ?_
    refine lv_bipush (v := 8) hx hb dX6_rounds_73 (by decide) ?_
    refine Ml_0 C h (ix_of zl8 (by omega)) dX6_rounds_75 ?_
    refine s_calli (As := [.int (ga σL14e 0 (8 : Int32))]) (rest := [.int (ga σL14e 0 (r61 + (7 : Int32))), .int (r61 + (7 : Int32)), .ref (g.2.1 0)]) 1 C.1 (k_X6_bits l (ga σL14e 0 (8 : Int32))) (lw_S q1850 q1851 q152 q1852) rfl rfl (by decide +kernel) ⟨Nat.le_of_ble_eq_true rfl, Nat.le_of_ble_eq_true rfl⟩ rfl hl.1 rfl (Nat.le_of_ble_eq_true rfl) ⟨Nat.le_of_ble_eq_true rfl, Nat.le_of_ble_eq_true rfl⟩ dX6_rounds_76 h.2.2 (fun r76 H locs er76 hz1 hk1 hS1 => ?_)
    have h := h.same hk1 hS1
    clear hz1 hk1 hS1
    refine lv_iadd hx hb dX6_rounds_79 ?_
    refine Ms_0 C h (ix_of (i_add tr61 zl7 (by omega)) (by omega)) dX6_rounds_80 (fun σ80 H locs eσ80 h => ?_)
    have hNEW : (0 ≤ (ga σ80 0 (0 : Int32)).toInt ∧ (ga σ80 0 (0 : Int32)).toInt ≤ 6) ∧ (0 ≤ (ga σ80 0 (2 : Int32)).toInt ∧ (ga σ80 0 (2 : Int32)).toInt ≤ 16) ∧ ((ga σ80 0 (0 : Int32)).toInt = (ga σ 0 (0 : Int32)).toInt) ∧ ((ga σ80 0 (2 : Int32)).toInt = (ga σ 0 (2 : Int32)).toInt) ∧ (∀ j : Int32, 130 ≤ j.toInt → ga σ80 0 j = ga σ 0 j) ∧ ((gi σ80 29).toInt = (gi σ 29).toInt) ∧ ((ga σ80 0 (9 : Int32)).toInt = (ga σ 0 (9 : Int32)).toInt) ∧ (∀ x : Int32, (0 ≤ x.toInt ∧ x.toInt ≤ 5) → ga σ80 0 ((f_X6_personRow x) + (1 : Int32)) = ga σ 0 ((f_X6_personRow x) + (1 : Int32))) ∧ ((gi σ80 28).toInt = (gi σ 28).toInt) ∧ (MFr σ σ80) := ⟨(by rw [eσ80, ga_sa_ne (j := (0 : Int32)) (i_add tr61 zl7 (by omega)) zl0 (by omega)] <;> exact hp), (by rw [eσ80, ga_sa_ne (j := (2 : Int32)) (i_add tr61 zl7 (by omega)) zl2 (by omega)] <;> exact hd), (by rw [eσ80, ga_sa_ne (j := (0 : Int32)) (i_add tr61 zl7 (by omega)) zl0 (by omega)] <;> exact hpq), (by rw [eσ80, ga_sa_ne (j := (2 : Int32)) (i_add tr61 zl7 (by omega)) zl2 (by omega)] <;> exact hdq), (by rw [eσ80]; exact hY_sa (i_add tr61 zl7 (by omega)) (by omega) hY), (by rw [eσ80, ] <;> exact hrq), (by rw [eσ80, ga_sa_ne (j := (9 : Int32)) (i_add tr61 zl7 (by omega)) zl9 (by omega)] <;> exact hsq), (by rw [eσ80]; exact hQ_sa (i_add tr61 zl7 (by omega)) (by omega) hQq), (by rw [eσ80, ] <;> exact hdq28), (by rw [eσ80]; exact (Fr_sa (i_add tr61 zl7 (by omega)) (by first | omega | (dsimp only; omega)) (by omega) hLF))⟩
    obtain ⟨hp, hd, hpq, hdq, hY, hrq, hsq, hQq, hdq28, hLF⟩ := hNEW
    refine lv_aload_n hx hb dX6_rounds_81 rfl (lv_at hl 0 rfl) ?_
    refine Mg_0 C h dX6_rounds_82 ?_
    refine lv_iconst (v := 5) hx hb dX6_rounds_85 (by decide) ?_
    refine lv_dup2_11 hx hb dX6_rounds_86 rfl rfl ?_
    refine Ml_0 C h (ix_of zl5 (by omega)) dX6_rounds_87 ?_
    refine lv_iconst (v := 1) hx hb dX6_rounds_88 (by decide) ?_
    refine lv_iadd hx hb dX6_rounds_89 ?_
    refine Ms_0 C h (ix_of zl5 (by omega)) dX6_rounds_90 (fun σ90 H locs eσ90 h => ?_)
    have hNEW : (0 ≤ (ga σ90 0 (0 : Int32)).toInt ∧ (ga σ90 0 (0 : Int32)).toInt ≤ 6) ∧ (0 ≤ (ga σ90 0 (2 : Int32)).toInt ∧ (ga σ90 0 (2 : Int32)).toInt ≤ 16) ∧ ((ga σ90 0 (0 : Int32)).toInt = (ga σ 0 (0 : Int32)).toInt) ∧ ((ga σ90 0 (2 : Int32)).toInt = (ga σ 0 (2 : Int32)).toInt) ∧ (∀ j : Int32, 130 ≤ j.toInt → ga σ90 0 j = ga σ 0 j) ∧ ((gi σ90 29).toInt = (gi σ 29).toInt) ∧ ((ga σ90 0 (9 : Int32)).toInt = (ga σ 0 (9 : Int32)).toInt) ∧ (∀ x : Int32, (0 ≤ x.toInt ∧ x.toInt ≤ 5) → ga σ90 0 ((f_X6_personRow x) + (1 : Int32)) = ga σ 0 ((f_X6_personRow x) + (1 : Int32))) ∧ ((gi σ90 28).toInt = (gi σ 28).toInt) ∧ (MFr σ σ90) := ⟨(by rw [eσ90, ga_sa_ne (j := (0 : Int32)) zl5 zl0 (by omega)] <;> exact hp), (by rw [eσ90, ga_sa_ne (j := (2 : Int32)) zl5 zl2 (by omega)] <;> exact hd), (by rw [eσ90, ga_sa_ne (j := (0 : Int32)) zl5 zl0 (by omega)] <;> exact hpq), (by rw [eσ90, ga_sa_ne (j := (2 : Int32)) zl5 zl2 (by omega)] <;> exact hdq), (by rw [eσ90]; exact hY_sa zl5 (by omega) hY), (by rw [eσ90, ] <;> exact hrq), (by rw [eσ90, ga_sa_ne (j := (9 : Int32)) zl5 zl9 (by omega)] <;> exact hsq), (by rw [eσ90]; exact hQ_sa zl5 (by omega) hQq), (by rw [eσ90, ] <;> exact hdq28), (by rw [eσ90]; exact (Fr_sa zl5 (by first | omega | (dsimp only; omega)) (by omega) hLF))⟩
    clear hp hd hpq hdq hY hrq hsq hQq hdq28 hLF
    obtain ⟨hp, hd, hpq, hdq, hY, hrq, hsq, hQq, hdq28, hLF⟩ := hNEW
    refine lv_iload_n hx hb dX6_rounds_91 rfl (lv_at hl 1 rfl) ?_
    have he : f_X6_rounds σ = (σ90, r1) := (by subst er1; subst ex2_14e; subst eσL14e; subst er61; subst er76; subst eσ80; subst eσ90; exact ((if_neg c7).trans rfl))
    exact M_reti C h hr hlocks (congrArg Prod.fst he) (congrArg Prod.snd he) ⟨hpq, hdq, hY, hrq, hsq, hQq, hdq28, hLF⟩ dX6_rounds_92
  · have i7 := c_eq c7
    refine lv_iconst (v := -1) hx hb dX6_rounds_10 (by decide) ?_
    have he : f_X6_rounds σ = (σ, (-1 : Int32)) := (by subst er1; exact ((if_pos c7).trans rfl))
    exact M_reti C h hr hlocks (congrArg Prod.fst he) (congrArg Prod.snd he) ⟨hpq, hdq, hY, hrq, hsq, hQq, hdq28, hLF⟩ dX6_rounds_11
def f_X6_round (σ : MS) : MS × Int32 := (let z2 := (f_X6_rounds σ); let σ2 := z2.1; let r2 := z2.2; let z5 := (f_X6_orNone σ2 r2); let σ5 := z5.1; let r5 := z5.2; (σ5, r5))
set_option maxHeartbeats 4000000 in
set_option maxRecDepth 100000 in
theorem k_X6_round (l : Launch) (g : GE) (σ : MS) (hp : 0 ≤ (ga σ 0 (0 : Int32)).toInt ∧ (ga σ 0 (0 : Int32)).toInt ≤ 6) (hd : 0 ≤ (ga σ 0 (2 : Int32)).toInt ∧ (ga σ 0 (2 : Int32)).toInt ≤ 16) : Met l yX6_round (ws_ yX6_round cX6_round 1 (some .int)) ({ frames := 4, cells := 0, slots := 0, locals := 85 } : Room) (mPc g σ []) (mQi g (f_X6_round σ).1 (f_X6_round σ).2 (fun u r => ((ga u 0 (0 : Int32)).toInt = (ga σ 0 (0 : Int32)).toInt) ∧ ((ga u 0 (2 : Int32)).toInt = (ga σ 0 (2 : Int32)).toInt) ∧ (MFr σ u))) 0 0 (mA g) := by
  refine met_M (by decide) rfl (Nat.le_of_ble_eq_true rfl) ?_
  intro p e s m args below meth c C hr hlocks h ls hl
  have hx := C.1.1
  have hb := C.1.2.1
  have hml := C.1.2.2.1
  have hown := C.1.2.2.2.1
  have hts := C.1.2.2.2.2
  have hl : lv_has ls 1 [(0, .ref (g.2.1 99))] := hl
  have hpq : (ga σ 0 (0 : Int32)).toInt = (ga σ 0 (0 : Int32)).toInt := rfl
  have hdq : (ga σ 0 (2 : Int32)).toInt = (ga σ 0 (2 : Int32)).toInt := rfl
  have hLF : MFr σ σ := Fr.rf
  refine lv_aload_n hx hb dX6_round_0 rfl (lv_at hl 0 rfl) ?_
  refine lv_aload_n hx hb dX6_round_1 rfl (lv_at hl 0 rfl) ?_
  refine M_calli (As := []) (rest := [.ref (g.2.1 99)]) 0 C h (k_X6_rounds l g σ (by first | assumption | omega) (by first | assumption | omega)) (lw_V q2150 q2152 qs130 q152 q2153) rfl rfl (by decide +kernel) ⟨Nat.le_of_ble_eq_true rfl, Nat.le_of_ble_eq_true rfl⟩ rfl hl.1 rfl (Nat.le_of_ble_eq_true rfl) ⟨Nat.le_of_ble_eq_true rfl, Nat.le_of_ble_eq_true rfl⟩ dX6_round_2 (fun r2 σ2 H locs eσ2 er2 hE2 h => ?_)
  have hE2 : ((ga σ2 0 (0 : Int32)).toInt = (ga σ 0 (0 : Int32)).toInt) ∧ ((ga σ2 0 (2 : Int32)).toInt = (ga σ 0 (2 : Int32)).toInt) ∧ (∀ j : Int32, 130 ≤ j.toInt → ga σ2 0 j = ga σ 0 j) ∧ ((gi σ2 29).toInt = (gi σ 29).toInt) ∧ ((ga σ2 0 (9 : Int32)).toInt = (ga σ 0 (9 : Int32)).toInt) ∧ (∀ x : Int32, (0 ≤ x.toInt ∧ x.toInt ≤ 5) → ga σ2 0 ((f_X6_personRow x) + (1 : Int32)) = ga σ 0 ((f_X6_personRow x) + (1 : Int32))) ∧ ((gi σ2 28).toInt = (gi σ 28).toInt) ∧ (MFr σ σ2) := hE2
  obtain ⟨hpq_2, hdq_2, hY_2, hrq_2, hsq_2, hQq_2, hdq28_2, hLF_2⟩ := hE2
  have hNEW : (0 ≤ (ga σ2 0 (0 : Int32)).toInt ∧ (ga σ2 0 (0 : Int32)).toInt ≤ 6) ∧ (0 ≤ (ga σ2 0 (2 : Int32)).toInt ∧ (ga σ2 0 (2 : Int32)).toInt ≤ 16) ∧ ((ga σ2 0 (0 : Int32)).toInt = (ga σ 0 (0 : Int32)).toInt) ∧ ((ga σ2 0 (2 : Int32)).toInt = (ga σ 0 (2 : Int32)).toInt) ∧ (MFr σ σ2) := ⟨(by first | assumption | omega), (by first | assumption | omega), (by first | assumption | omega), (by first | assumption | omega), (Fr.tr hLF hLF_2)⟩
  obtain ⟨hp, hd, hpq, hdq, hLF⟩ := hNEW
  refine M_calli (As := [.int r2]) (rest := []) 1 C h (k_X6_orNone l g σ2 r2) (lw_V q1868 q1870 qs102 q152 q1871) rfl rfl (by decide +kernel) ⟨Nat.le_of_ble_eq_true rfl, Nat.le_of_ble_eq_true rfl⟩ rfl hl.1 rfl (Nat.le_of_ble_eq_true rfl) ⟨Nat.le_of_ble_eq_true rfl, Nat.le_of_ble_eq_true rfl⟩ dX6_round_5 (fun r5 σ5 H locs eσ5 er5 hE5 h => ?_)
  clear hE5
  have hNEW : (0 ≤ (ga σ5 0 (0 : Int32)).toInt ∧ (ga σ5 0 (0 : Int32)).toInt ≤ 6) ∧ (0 ≤ (ga σ5 0 (2 : Int32)).toInt ∧ (ga σ5 0 (2 : Int32)).toInt ≤ 16) ∧ ((ga σ5 0 (0 : Int32)).toInt = (ga σ 0 (0 : Int32)).toInt) ∧ ((ga σ5 0 (2 : Int32)).toInt = (ga σ 0 (2 : Int32)).toInt) ∧ (MFr σ σ5) := ⟨(by rw [eσ5, orNone_s] <;> exact hp), (by rw [eσ5, orNone_s] <;> exact hd), (by rw [eσ5, orNone_s] <;> exact hpq), (by rw [eσ5, orNone_s] <;> exact hdq), (by rw [eσ5, orNone_s]; exact Fr_si (by decide) hLF)⟩
  clear hp hd hpq hdq hLF
  obtain ⟨hp, hd, hpq, hdq, hLF⟩ := hNEW
  have he : f_X6_round σ = (σ5, r5) := (by subst eσ2; subst er2; subst eσ5; subst er5; exact rfl)
  exact M_reti C h hr hlocks (congrArg Prod.fst he) (congrArg Prod.snd he) ⟨hpq, hdq, hLF⟩ dX6_round_8
def f_X6_drinks (σ : MS) (p1 : Int32) : MS × Int32 := (let r2 := (f_X6_isPerson σ p1); if r2 = (0 : Int32) then ((let z22 := (f_X6_refuse σ (1 : Int32)); let σ22 := z22.1; let r22 := z22.2; (σ22, r22))) else ((let r11 := (f_X6_drinksOf σ p1); let z14 := (f_X6_gives σ r11); let σ14 := z14.1; let r14 := z14.2; (σ14, r14))))
set_option maxHeartbeats 4000000 in
set_option maxRecDepth 100000 in
theorem k_X6_drinks (l : Launch) (g : GE) (σ : MS) (p1 : Int32) (hp : 0 ≤ (ga σ 0 (0 : Int32)).toInt ∧ (ga σ 0 (0 : Int32)).toInt ≤ 6) : Met l yX6_drinks (ws_ yX6_drinks cX6_drinks 2 (some .int)) ({ frames := 2, cells := 0, slots := 0, locals := 41 } : Room) (mPc g σ [.int p1]) (mQi g (f_X6_drinks σ p1).1 (f_X6_drinks σ p1).2 (fun u r => ((ga u 0 (0 : Int32)).toInt = (ga σ 0 (0 : Int32)).toInt))) 0 0 (mA g) := by
  refine met_M (by decide) rfl (Nat.le_of_ble_eq_true rfl) ?_
  intro p e s m args below meth c C hr hlocks h ls hl
  have hx := C.1.1
  have hb := C.1.2.1
  have hml := C.1.2.2.1
  have hown := C.1.2.2.2.1
  have hts := C.1.2.2.2.2
  have hl : lv_has ls 2 [(0, .ref (g.2.1 99)), (1, .int p1)] := hl
  have hpq : (ga σ 0 (0 : Int32)).toInt = (ga σ 0 (0 : Int32)).toInt := rfl
  have zl0 : (0 : Int32).toInt = 0 := rfl
  have zl1 : (1 : Int32).toInt = 1 := rfl
  refine lv_aload_n hx hb dX6_drinks_0 rfl (lv_at hl 0 rfl) ?_
  refine lv_iload_n hx hb dX6_drinks_1 rfl (lv_at hl 1 rfl) ?_
  refine M_callz (As := [.int p1]) (rest := []) 1 C h (k_X6_isPerson l g σ p1) (lw_V q1864 q1866 qs101 q152 q1867) rfl rfl (by decide +kernel) ⟨Nat.le_of_ble_eq_true rfl, Nat.le_of_ble_eq_true rfl⟩ rfl hl.1 rfl (Nat.le_of_ble_eq_true rfl) ⟨Nat.le_of_ble_eq_true rfl, Nat.le_of_ble_eq_true rfl⟩ dX6_drinks_2 (fun r2 σ2 H locs eσ2 er2 br2 hE2 h => ?_)
  rw [eσ2] at h
  clear hE2
  clear eσ2
  refine lv_if_eq (tgt := 20) hx hb dX6_drinks_5 (by decide) (fun c5 => ?_) (fun c5 => ?_)
  · have i5 := c_eq c5
    refine lv_aload_n hx hb dX6_drinks_20 rfl (lv_at hl 0 rfl) ?_
    refine lv_iconst (v := 1) hx hb dX6_drinks_21 (by decide) ?_
    refine M_calli (As := [.int (1 : Int32)]) (rest := []) 1 C h (k_X6_refuse l g σ (1 : Int32)) (lw_V q1723 q1725 qs71 q152 q1726) rfl rfl (by decide +kernel) ⟨Nat.le_of_ble_eq_true rfl, Nat.le_of_ble_eq_true rfl⟩ rfl hl.1 rfl (Nat.le_of_ble_eq_true rfl) ⟨Nat.le_of_ble_eq_true rfl, Nat.le_of_ble_eq_true rfl⟩ dX6_drinks_22 (fun r22 σ22 H locs eσ22 er22 hE22 h => ?_)
    clear hE22
    have hNEW : (0 ≤ (ga σ22 0 (0 : Int32)).toInt ∧ (ga σ22 0 (0 : Int32)).toInt ≤ 6) ∧ ((ga σ22 0 (0 : Int32)).toInt = (ga σ 0 (0 : Int32)).toInt) := ⟨(by rw [eσ22, refuse_s] <;> exact hp), (by rw [eσ22, refuse_s] <;> exact hpq)⟩
    obtain ⟨hp, hpq⟩ := hNEW
    have he : f_X6_drinks σ p1 = (σ22, r22) := (by subst er2; subst eσ22; subst er22; exact ((if_pos c5).trans rfl))
    exact M_reti C h hr hlocks (congrArg Prod.fst he) (congrArg Prod.snd he) hpq dX6_drinks_25
  · have i5 := c_ne c5
    have okr2 := isPerson_ok er2 c5
    refine lv_aload_n hx hb dX6_drinks_8 rfl (lv_at hl 0 rfl) ?_
    refine lv_aload_n hx hb dX6_drinks_9 rfl (lv_at hl 0 rfl) ?_
    refine lv_iload_n hx hb dX6_drinks_10 rfl (lv_at hl 1 rfl) ?_
    refine M_calli (As := [.int p1]) (rest := [.ref (g.2.1 99)]) 1 C h (k_X6_drinksOf l g σ p1 (by first | assumption | omega)) (lw_V q2142 q2144 qs129 q152 q2145) rfl rfl (by decide +kernel) ⟨Nat.le_of_ble_eq_true rfl, Nat.le_of_ble_eq_true rfl⟩ rfl hl.1 rfl (Nat.le_of_ble_eq_true rfl) ⟨Nat.le_of_ble_eq_true rfl, Nat.le_of_ble_eq_true rfl⟩ dX6_drinks_11 (fun r11 σ11 H locs eσ11 er11 hE11 h => ?_)
    rw [eσ11] at h
    clear hE11
    clear eσ11
    refine M_calli (As := [.int r11]) (rest := []) 1 C h (k_X6_gives l g σ r11) (lw_V q1806 q1808 qs91 q152 q1809) rfl rfl (by decide +kernel) ⟨Nat.le_of_ble_eq_true rfl, Nat.le_of_ble_eq_true rfl⟩ rfl hl.1 rfl (Nat.le_of_ble_eq_true rfl) ⟨Nat.le_of_ble_eq_true rfl, Nat.le_of_ble_eq_true rfl⟩ dX6_drinks_14 (fun r14 σ14 H locs eσ14 er14 hE14 h => ?_)
    clear hE14
    have hNEW : (0 ≤ (ga σ14 0 (0 : Int32)).toInt ∧ (ga σ14 0 (0 : Int32)).toInt ≤ 6) ∧ ((ga σ14 0 (0 : Int32)).toInt = (ga σ 0 (0 : Int32)).toInt) := ⟨(by rw [eσ14, gives_s] <;> exact hp), (by rw [eσ14, gives_s] <;> exact hpq)⟩
    obtain ⟨hp, hpq⟩ := hNEW
    refine lv_goto (tgt := 25) hx hb dX6_drinks_17 (by decide) ?_
    have he : f_X6_drinks σ p1 = (σ14, r14) := (by subst er2; subst er11; subst eσ14; subst er14; exact ((if_neg c5).trans rfl))
    exact M_reti C h hr hlocks (congrArg Prod.fst he) (congrArg Prod.snd he) hpq dX6_drinks_25
def f_X6_evenRounds_L24 (y1_24 : Int32) : Nat → Int32 → MS → Int32 × MS
  | 0, x2_24, σL24 => (x2_24, σL24)
  | n + 1, x2_24, σL24 => if (ga σL24 0 (0 : Int32)) ≤ x2_24 then ((x2_24, σL24)) else ((let r41 := (f_X6_drinksOf σL24 x2_24); let σ44 := sa σL24 25 x2_24 r41; f_X6_evenRounds_L24 y1_24 n (x2_24 + (1 : Int32)) σ44))
def f_X6_evenRounds_L67 (σ : MS) (y1_67 : Int32) (y2_67 : Int32) : Nat → Int32 → Int32 → Int32 → Int32 × Int32 × Int32
  | 0, x3_67, x4_67, x5_67 => (x3_67, x4_67, x5_67)
  | n + 1, x3_67, x4_67, x5_67 => if (ga σ 0 (0 : Int32)) ≤ x5_67 then ((x3_67, x4_67, x5_67)) else ((let r88 := (f_X6_isIn σ (ga σ 0 (8 : Int32)) x5_67); if r88 = (0 : Int32) then (f_X6_evenRounds_L67 σ y1_67 y2_67 n x3_67 x4_67 (x5_67 + (1 : Int32))) else ((let z128_ : Int32 := (if x4_67 = (0 : Int32) then ((0 : Int32)) else (if x3_67 = (-1 : Int32) then ((1 : Int32)) else (if (ga σ 25 x5_67) = (ga σ 25 x3_67) then ((1 : Int32)) else ((0 : Int32))))); let t0_128 := z128_; if x3_67 = (-1 : Int32) then (f_X6_evenRounds_L67 σ y1_67 y2_67 n x5_67 t0_128 (x5_67 + (1 : Int32))) else (if (ga σ 25 x5_67) ≤ (ga σ 25 x3_67) then (f_X6_evenRounds_L67 σ y1_67 y2_67 n x3_67 t0_128 (x5_67 + (1 : Int32))) else (f_X6_evenRounds_L67 σ y1_67 y2_67 n x5_67 t0_128 (x5_67 + (1 : Int32))))))))
def f_X6_evenRounds_L174 (y1_174 : Int32) (y2_174 : Int32) (y3_174 : Int32) : Nat → Int32 → MS → Int32 × MS
  | 0, x5_174, σL174 => (x5_174, σL174)
  | n + 1, x5_174, σL174 => if (ga σL174 0 (0 : Int32)) ≤ x5_174 then ((x5_174, σL174)) else ((let σ206 := sa σL174 25 x5_174 ((ga σL174 25 x5_174) + (((ga σL174 0 (8 : Int32)) >>> (x5_174 &&& (31 : Int32))) &&& (1 : Int32))); f_X6_evenRounds_L174 y1_174 y2_174 y3_174 n (x5_174 + (1 : Int32)) σ206))
def f_X6_evenRounds_L53 (y1_53 : Int32) : Nat → Int32 → MS → MS × Int32
  | 0, x2_53, σL53 => (m00, 0)
  | n + 1, x2_53, σL53 => if (60 : Int32) < x2_53 then ((let z232 := (f_X6_refuse σL53 (6 : Int32)); let σ232 := z232.1; let r232 := z232.2; (σ232, r232))) else ((let zL67 := f_X6_evenRounds_L67 σL53 y1_53 x2_53 (7) (-1 : Int32) (1 : Int32) (0 : Int32); let x3_67e := zL67.1; let x4_67e := zL67.2.1; let x5_67e := zL67.2.2; if x4_67e = (0 : Int32) then ((let zL174 := f_X6_evenRounds_L174 y1_53 x2_53 x3_67e (7) (0 : Int32) σL53; let x5_174e := zL174.1; let σL174e := zL174.2; (let σ222 := sa σL174e 25 x3_67e ((ga σL174e 25 x3_67e) - y1_53); f_X6_evenRounds_L53 y1_53 n (x2_53 + (1 : Int32)) σ222))) else ((let z167 := (f_X6_gives σL53 x2_53); let σ167 := z167.1; let r167 := z167.2; (σ167, r167)))))
def f_X6_evenRounds (σ : MS) : MS × Int32 := (let r7 := (f_X6_bits (ga σ 0 (8 : Int32))); if r7 = (0 : Int32) then ((let z18 := (f_X6_refuse σ (6 : Int32)); let σ18 := z18.1; let r18 := z18.2; (σ18, r18))) else ((let zL24 := f_X6_evenRounds_L24 r7 (7) (0 : Int32) σ; let x2_24e := zL24.1; let σL24e := zL24.2; f_X6_evenRounds_L53 r7 (62) (0 : Int32) σL24e)))
set_option maxHeartbeats 4000000 in
set_option maxRecDepth 100000 in
theorem k_X6_evenRounds (l : Launch) (g : GE) (σ : MS) (hp : 0 ≤ (ga σ 0 (0 : Int32)).toInt ∧ (ga σ 0 (0 : Int32)).toInt ≤ 6) : Met l yX6_evenRounds (ws_ yX6_evenRounds cX6_evenRounds 6 (some .int)) ({ frames := 2, cells := 0, slots := 0, locals := 41 } : Room) (mPc g σ []) (mQi g (f_X6_evenRounds σ).1 (f_X6_evenRounds σ).2 (fun u r => ((ga u 0 (0 : Int32)).toInt = (ga σ 0 (0 : Int32)).toInt) ∧ (MFr σ u))) 0 0 (mA g) := by
  refine met_M (by decide) rfl (Nat.le_of_ble_eq_true rfl) ?_
  intro p e s m args below meth c C hr hlocks h ls hl
  have hx := C.1.1
  have hb := C.1.2.1
  have hml := C.1.2.2.1
  have hown := C.1.2.2.2.1
  have hts := C.1.2.2.2.2
  have hl : lv_has ls 6 [(0, .ref (g.2.1 99))] := hl
  have hpq : (ga σ 0 (0 : Int32)).toInt = (ga σ 0 (0 : Int32)).toInt := rfl
  have hLF : MFr σ σ := Fr.rf
  have zlm1 : (-1 : Int32).toInt = -1 := rfl
  have zl0 : (0 : Int32).toInt = 0 := rfl
  have zl1 : (1 : Int32).toInt = 1 := rfl
  have zl6 : (6 : Int32).toInt = 6 := rfl
  have zl8 : (8 : Int32).toInt = 8 := rfl
  have zl60 : (60 : Int32).toInt = 60 := rfl
  refine lv_aload_n hx hb dX6_evenRounds_0 rfl (lv_at hl 0 rfl) ?_
  refine Mg_0 C h dX6_evenRounds_1 ?_
  refine lv_bipush (v := 8) hx hb dX6_evenRounds_4 (by decide) ?_
  refine Ml_0 C h (ix_of zl8 (by omega)) dX6_evenRounds_6 ?_
  refine s_calli (As := [.int (ga σ 0 (8 : Int32))]) (rest := []) 1 C.1 (k_X6_bits l (ga σ 0 (8 : Int32))) (lw_S q1850 q1851 q152 q1852) rfl rfl (by decide +kernel) ⟨Nat.le_of_ble_eq_true rfl, Nat.le_of_ble_eq_true rfl⟩ rfl hl.1 rfl (Nat.le_of_ble_eq_true rfl) ⟨Nat.le_of_ble_eq_true rfl, Nat.le_of_ble_eq_true rfl⟩ dX6_evenRounds_7 h.2.2 (fun r7 H locs er7 hz1 hk1 hS1 => ?_)
  have h := h.same hk1 hS1
  clear hz1 hk1 hS1
  refine lv_istore_n (lv' := [(1, .int r7), (0, .ref (g.2.1 99))]) hx hb dX6_evenRounds_10 rfl hl (by decide) rfl (fun ls hl => ?_)
  refine lv_iload_n hx hb dX6_evenRounds_11 rfl (lv_at hl 0 rfl) ?_
  refine lv_if_ne (tgt := 22) hx hb dX6_evenRounds_12 (by decide) (fun c12 => ?_) (fun c12 => ?_)
  · have i12 := c_ne c12
    refine lv_iconst (v := 0) hx hb dX6_evenRounds_22 (by decide) ?_
    refine lv_istore_n (lv' := [(2, .int (0 : Int32)), (1, .int r7), (0, .ref (g.2.1 99))]) hx hb dX6_evenRounds_23 rfl hl (by decide) rfl (fun ls hl => ?_)
    have hL24 : ∀ (n : Nat) (x2_24 : Int32) (σL24 : MS) (H : Heap) (locs : List Loc) (ls : Array Slot), (0 ≤ (ga σL24 0 (0 : Int32)).toInt ∧ (ga σL24 0 (0 : Int32)).toInt ≤ 6) → ((ga σL24 0 (0 : Int32)).toInt = (ga σ 0 (0 : Int32)).toInt) → (MFr σ σL24) → (0 ≤ x2_24.toInt ∧ x2_24.toInt ≤ (ga σL24 0 (0 : Int32)).toInt) → ((ga σL24 0 (0 : Int32)).toInt - x2_24.toInt).toNat < n → MH g σL24 s H locs → lv_has ls 6 [(0, .ref (g.2.1 99)), (1, .int r7), (2, .int x2_24)] → (∀ (x2_24' : Int32) (σL24' : MS) (H : Heap) (locs : List Loc) (ls : Array Slot), f_X6_evenRounds_L24 r7 n x2_24 σL24 = (x2_24', σL24') → (0 ≤ (ga σL24' 0 (0 : Int32)).toInt ∧ (ga σL24' 0 (0 : Int32)).toInt ≤ 6) → ((ga σL24' 0 (0 : Int32)).toInt = (ga σ 0 (0 : Int32)).toInt) → (MFr σ σL24') → (0 ≤ x2_24'.toInt ∧ x2_24'.toInt ≤ (ga σL24' 0 (0 : Int32)).toInt) → MH g σL24' s H locs → lv_has ls 6 [(0, .ref (g.2.1 99)), (1, .int r7)] → W p l e ({ frames := 2, cells := 0, slots := 0, locals := 41 } : Room) s m args below meth c H locs 0 0 (MQ below (mQi g (f_X6_evenRounds σ).1 (f_X6_evenRounds σ).2 (fun u r => ((ga u 0 (0 : Int32)).toInt = (ga σ 0 (0 : Int32)).toInt) ∧ (MFr σ u))) args s 0 0 (mA g)) (F0 m 51 ls [])) → W p l e ({ frames := 2, cells := 0, slots := 0, locals := 41 } : Room) s m args below meth c H locs 0 0 (MQ below (mQi g (f_X6_evenRounds σ).1 (f_X6_evenRounds σ).2 (fun u r => ((ga u 0 (0 : Int32)).toInt = (ga σ 0 (0 : Int32)).toInt) ∧ (MFr σ u))) args s 0 0 (mA g)) (F0 m 24 ls []) := by
      intro n
      induction n with
      | zero =>
        intro x2_24 σL24 H locs ls hp hpq hLF _ hm; exact absurd hm (Nat.not_lt_zero _)
      | succ n ih =>
        intro x2_24 σL24 H locs ls hp hpq hLF hI24 hm h hl kk
        refine lv_iload_n hx hb dX6_evenRounds_24 rfl (lv_at hl 2 rfl) ?_
        refine lv_aload_n hx hb dX6_evenRounds_25 rfl (lv_at hl 0 rfl) ?_
        refine Mg_0 C h dX6_evenRounds_26 ?_
        refine lv_iconst (v := 0) hx hb dX6_evenRounds_29 (by decide) ?_
        refine Ml_0 C h (ix_of zl0 (by omega)) dX6_evenRounds_30 ?_
        refine lv_icmp_ge (tgt := 51) hx hb dX6_evenRounds_31 (by decide) (fun c31 => ?_) (fun c31 => ?_)
        · have i31 := c_le c31
          exact kk x2_24 σL24 _ _ _ (show f_X6_evenRounds_L24 r7 (n + 1) x2_24 σL24 = (x2_24, σL24) from (by exact ((if_pos c31).trans rfl))) hp hpq hLF (by first | assumption | omega) h (lv_sub hl [0, 1] rfl)
        · have i31 := c_nle c31
          refine lv_aload_n hx hb dX6_evenRounds_34 rfl (lv_at hl 0 rfl) ?_
          refine Mg_25 C h dX6_evenRounds_35 ?_
          refine lv_iload_n hx hb dX6_evenRounds_38 rfl (lv_at hl 2 rfl) ?_
          refine lv_aload_n hx hb dX6_evenRounds_39 rfl (lv_at hl 0 rfl) ?_
          refine lv_iload_n hx hb dX6_evenRounds_40 rfl (lv_at hl 2 rfl) ?_
          refine M_calli (As := [.int x2_24]) (rest := [.int x2_24, .ref (g.2.1 25)]) 1 C h (k_X6_drinksOf l g σL24 x2_24 (by first | assumption | omega)) (lw_V q2142 q2144 qs129 q152 q2145) rfl rfl (by decide +kernel) ⟨Nat.le_of_ble_eq_true rfl, Nat.le_of_ble_eq_true rfl⟩ rfl hl.1 rfl (Nat.le_of_ble_eq_true rfl) ⟨Nat.le_of_ble_eq_true rfl, Nat.le_of_ble_eq_true rfl⟩ dX6_evenRounds_41 (fun r41 σ41 H locs eσ41 er41 hE41 h => ?_)
          rw [eσ41] at h
          clear hE41
          clear eσ41
          refine Ms_25 C h (ix_of (rfl : x2_24.toInt = x2_24.toInt) (by omega)) dX6_evenRounds_44 (fun σ44 H locs eσ44 h => ?_)
          have hNEW : (0 ≤ (ga σ44 0 (0 : Int32)).toInt ∧ (ga σ44 0 (0 : Int32)).toInt ≤ 6) ∧ ((ga σ44 0 (0 : Int32)).toInt = (ga σ 0 (0 : Int32)).toInt) ∧ (MFr σ σ44) := ⟨(by rw [eσ44] <;> exact hp), (by rw [eσ44] <;> exact hpq), (by rw [eσ44]; exact (Fr_xa (by decide) (by decide) hLF))⟩
          obtain ⟨hp, hpq, hLF⟩ := hNEW
          refine lv_iinc (v := (x2_24 + (1 : Int32))) (lv' := [(2, .int (x2_24 + (1 : Int32))), (0, .ref (g.2.1 99)), (1, .int r7)]) hx hb dX6_evenRounds_45 hl (k := 2) rfl rfl (by decide) rfl (fun ls hl => ?_)
          refine lv_goto (tgt := 24) hx hb dX6_evenRounds_48 (by decide) ?_
          have tt2 : (x2_24 + (1 : Int32)).toInt = (x2_24.toInt + (1)) := (i_add (rfl : x2_24.toInt = x2_24.toInt) zl1 (by omega))
          exact ih (x2_24 + (1 : Int32)) σ44 _ _ _ hp hpq hLF (by first | assumption | omega) (by omega) h (lv_sub hl [1, 2, 0] rfl) (fun x2_24' σL24' H locs ls en hp hpq hLF hI h hl => kk x2_24' σL24' H locs ls ((show f_X6_evenRounds_L24 r7 (n + 1) x2_24 σL24 = f_X6_evenRounds_L24 r7 n (x2_24 + (1 : Int32)) σ44 from (by subst er41; subst eσ44; exact ((if_neg c31).trans rfl))).trans en) hp hpq hLF hI h hl)
    refine hL24 (7) (0 : Int32) σ _ _ _ hp hpq hLF (by first | assumption | omega) (by omega) h (lv_sub hl [2, 1, 0] rfl) (fun x2_24e σL24e H locs ls eL24 hp hpq hLF hI24 h hl => ?_)
    have ex2_24e : x2_24e = (f_X6_evenRounds_L24 r7 (7) (0 : Int32) σ).1 := by rw [eL24]
    have eσL24e : σL24e = (f_X6_evenRounds_L24 r7 (7) (0 : Int32) σ).2 := by rw [eL24]
    refine lv_iconst (v := 0) hx hb dX6_evenRounds_51 (by decide) ?_
    refine lv_istore_n (lv' := [(2, .int (0 : Int32)), (0, .ref (g.2.1 99)), (1, .int r7)]) hx hb dX6_evenRounds_52 rfl hl (by decide) rfl (fun ls hl => ?_)
    have hL53 : ∀ (n : Nat) (x2_53 : Int32) (σL53 : MS) (H : Heap) (locs : List Loc) (ls : Array Slot), (0 ≤ (ga σL53 0 (0 : Int32)).toInt ∧ (ga σL53 0 (0 : Int32)).toInt ≤ 6) → ((ga σL53 0 (0 : Int32)).toInt = (ga σ 0 (0 : Int32)).toInt) → (MFr σ σL53) → (0 ≤ x2_53.toInt ∧ x2_53.toInt ≤ 61) → (61 - x2_53.toInt).toNat < n → f_X6_evenRounds σ = f_X6_evenRounds_L53 r7 n x2_53 σL53 → MH g σL53 s H locs → lv_has ls 6 [(0, .ref (g.2.1 99)), (1, .int r7), (2, .int x2_53)] → W p l e ({ frames := 2, cells := 0, slots := 0, locals := 41 } : Room) s m args below meth c H locs 0 0 (MQ below (mQi g (f_X6_evenRounds σ).1 (f_X6_evenRounds σ).2 (fun u r => ((ga u 0 (0 : Int32)).toInt = (ga σ 0 (0 : Int32)).toInt) ∧ (MFr σ u))) args s 0 0 (mA g)) (F0 m 53 ls []) := by
      intro n
      induction n with
      | zero =>
        intro x2_53 σL53 H locs ls hp hpq hLF _ hm; exact absurd hm (Nat.not_lt_zero _)
      | succ n ih =>
        intro x2_53 σL53 H locs ls hp hpq hLF hI53 hm hf53 h hl
        refine lv_iload_n hx hb dX6_evenRounds_53 rfl (lv_at hl 2 rfl) ?_
        refine lv_bipush (v := 60) hx hb dX6_evenRounds_54 (by decide) ?_
        refine lv_icmp_gt (tgt := 229) hx hb dX6_evenRounds_56 (by decide) (fun c56 => ?_) (fun c56 => ?_)
        · have i56 := c_lt c56
          refine lv_aload_n hx hb dX6_evenRounds_229 rfl (lv_at hl 0 rfl) ?_
          refine lv_bipush (v := 6) hx hb dX6_evenRounds_230 (by decide) ?_
          refine M_calli (As := [.int (6 : Int32)]) (rest := []) 1 C h (k_X6_refuse l g σL53 (6 : Int32)) (lw_V q1723 q1725 qs71 q152 q1726) rfl rfl (by decide +kernel) ⟨Nat.le_of_ble_eq_true rfl, Nat.le_of_ble_eq_true rfl⟩ rfl hl.1 rfl (Nat.le_of_ble_eq_true rfl) ⟨Nat.le_of_ble_eq_true rfl, Nat.le_of_ble_eq_true rfl⟩ dX6_evenRounds_232 (fun r232 σ232 H locs eσ232 er232 hE232 h => ?_)
          clear hE232
          have hNEW : (0 ≤ (ga σ232 0 (0 : Int32)).toInt ∧ (ga σ232 0 (0 : Int32)).toInt ≤ 6) ∧ ((ga σ232 0 (0 : Int32)).toInt = (ga σ 0 (0 : Int32)).toInt) ∧ (MFr σ σ232) := ⟨(by rw [eσ232, refuse_s] <;> exact hp), (by rw [eσ232, refuse_s] <;> exact hpq), (by rw [eσ232, refuse_s]; exact Fr_si (by decide) hLF)⟩
          obtain ⟨hp, hpq, hLF⟩ := hNEW
          have he : f_X6_evenRounds σ = (σ232, r232) := (by subst eσ232; subst er232; exact (hf53.trans ((if_pos c56).trans rfl)))
          exact M_reti C h hr hlocks (congrArg Prod.fst he) (congrArg Prod.snd he) ⟨hpq, hLF⟩ dX6_evenRounds_235
        · have i56 := c_nlt c56
          refine lv_iconst (v := -1) hx hb dX6_evenRounds_59 (by decide) ?_
          refine lv_istore_n (lv' := [(3, .int (-1 : Int32)), (0, .ref (g.2.1 99)), (1, .int r7), (2, .int x2_53)]) hx hb dX6_evenRounds_60 rfl hl (by decide) rfl (fun ls hl => ?_)
          refine lv_iconst (v := 1) hx hb dX6_evenRounds_61 (by decide) ?_
          refine lv_istore (lv' := [(4, .int (1 : Int32)), (3, .int (-1 : Int32)), (0, .ref (g.2.1 99)), (1, .int r7), (2, .int x2_53)]) hx hb dX6_evenRounds_62 hl (by decide) rfl (fun ls hl => ?_)
          refine lv_iconst (v := 0) hx hb dX6_evenRounds_64 (by decide) ?_
          refine lv_istore (lv' := [(5, .int (0 : Int32)), (4, .int (1 : Int32)), (3, .int (-1 : Int32)), (0, .ref (g.2.1 99)), (1, .int r7), (2, .int x2_53)]) hx hb dX6_evenRounds_65 hl (by decide) rfl (fun ls hl => ?_)
          have hL67 : ∀ (n : Nat) (x3_67 : Int32) (x4_67 : Int32) (x5_67 : Int32) (H : Heap) (locs : List Loc) (ls : Array Slot), (0 ≤ x5_67.toInt ∧ x5_67.toInt ≤ (ga σL53 0 (0 : Int32)).toInt ∧ -1 ≤ x3_67.toInt ∧ x3_67.toInt < x5_67.toInt ∧ (x4_67.toInt = 0 → 0 ≤ x3_67.toInt)) → ((ga σL53 0 (0 : Int32)).toInt - x5_67.toInt).toNat < n → MH g σL53 s H locs → lv_has ls 6 [(0, .ref (g.2.1 99)), (1, .int r7), (2, .int x2_53), (3, .int x3_67), (4, .int x4_67), (5, .int x5_67)] → (∀ (x3_67' : Int32) (x4_67' : Int32) (x5_67' : Int32) (H : Heap) (locs : List Loc) (ls : Array Slot), f_X6_evenRounds_L67 σL53 r7 x2_53 n x3_67 x4_67 x5_67 = (x3_67', x4_67', x5_67') → ((-1 ≤ x3_67'.toInt ∧ x3_67'.toInt < (ga σL53 0 (0 : Int32)).toInt) ∧ (x4_67'.toInt = 0 → 0 ≤ x3_67'.toInt)) → MH g σL53 s H locs → lv_has ls 6 [(0, .ref (g.2.1 99)), (1, .int r7), (2, .int x2_53), (3, .int x3_67'), (4, .int x4_67')] → W p l e ({ frames := 2, cells := 0, slots := 0, locals := 41 } : Room) s m args below meth c H locs 0 0 (MQ below (mQi g (f_X6_evenRounds σ).1 (f_X6_evenRounds σ).2 (fun u r => ((ga u 0 (0 : Int32)).toInt = (ga σ 0 (0 : Int32)).toInt) ∧ (MFr σ u))) args s 0 0 (mA g)) (F0 m 160 ls [])) → W p l e ({ frames := 2, cells := 0, slots := 0, locals := 41 } : Room) s m args below meth c H locs 0 0 (MQ below (mQi g (f_X6_evenRounds σ).1 (f_X6_evenRounds σ).2 (fun u r => ((ga u 0 (0 : Int32)).toInt = (ga σ 0 (0 : Int32)).toInt) ∧ (MFr σ u))) args s 0 0 (mA g)) (F0 m 67 ls []) := by
            intro n
            induction n with
            | zero =>
              intro x3_67 x4_67 x5_67 H locs ls _ hm; exact absurd hm (Nat.not_lt_zero _)
            | succ n ih =>
              intro x3_67 x4_67 x5_67 H locs ls hI67 hm h hl kk
              refine lv_iload hx hb dX6_evenRounds_67 (lv_at hl 5 rfl) ?_
              refine lv_aload_n hx hb dX6_evenRounds_69 rfl (lv_at hl 0 rfl) ?_
              refine Mg_0 C h dX6_evenRounds_70 ?_
              refine lv_iconst (v := 0) hx hb dX6_evenRounds_73 (by decide) ?_
              refine Ml_0 C h (ix_of zl0 (by omega)) dX6_evenRounds_74 ?_
              refine lv_icmp_ge (tgt := 160) hx hb dX6_evenRounds_75 (by decide) (fun c75 => ?_) (fun c75 => ?_)
              · have i75 := c_le c75
                exact kk x3_67 x4_67 x5_67 _ _ _ (show f_X6_evenRounds_L67 σL53 r7 x2_53 (n + 1) x3_67 x4_67 x5_67 = (x3_67, x4_67, x5_67) from (by exact ((if_pos c75).trans rfl)))  (by first | assumption | omega) h (lv_sub hl [0, 1, 2, 3, 4] rfl)
              · have i75 := c_nle c75
                refine lv_aload_n hx hb dX6_evenRounds_78 rfl (lv_at hl 0 rfl) ?_
                refine lv_aload_n hx hb dX6_evenRounds_79 rfl (lv_at hl 0 rfl) ?_
                refine Mg_0 C h dX6_evenRounds_80 ?_
                refine lv_bipush (v := 8) hx hb dX6_evenRounds_83 (by decide) ?_
                refine Ml_0 C h (ix_of zl8 (by omega)) dX6_evenRounds_85 ?_
                refine lv_iload hx hb dX6_evenRounds_86 (lv_at hl 5 rfl) ?_
                refine M_callz (As := [.int (ga σL53 0 (8 : Int32)), .int x5_67]) (rest := []) 2 C h (k_X6_isIn l g σL53 (ga σL53 0 (8 : Int32)) x5_67) (lw_V q1906 q1908 qs107 q152 q1909) rfl rfl (by decide +kernel) ⟨Nat.le_of_ble_eq_true rfl, Nat.le_of_ble_eq_true rfl⟩ rfl hl.1 rfl (Nat.le_of_ble_eq_true rfl) ⟨Nat.le_of_ble_eq_true rfl, Nat.le_of_ble_eq_true rfl⟩ dX6_evenRounds_88 (fun r88 σ88 H locs eσ88 er88 br88 hE88 h => ?_)
                rw [eσ88] at h
                clear hE88
                clear eσ88
                refine lv_if_ne (tgt := 97) hx hb dX6_evenRounds_91 (by decide) (fun c91 => ?_) (fun c91 => ?_)
                · have i91 := c_ne c91
                  have okr88 := isIn_ok er88 c91
                  refine lv_iload hx hb dX6_evenRounds_97 (lv_at hl 4 rfl) ?_
                  have j128 : ∀ (t0_128 : Int32) (H : Heap) (locs : List Loc) (ls : Array Slot) (ej128 : (if x4_67 = (0 : Int32) then ((0 : Int32)) else (if x3_67 = (-1 : Int32) then ((1 : Int32)) else (if (ga σL53 25 x5_67) = (ga σL53 25 x3_67) then ((1 : Int32)) else ((0 : Int32))))) = t0_128) (bt0_128 : t0_128 = 0 ∨ t0_128 = 1) (hI128 : (t0_128.toInt = 0 → 0 ≤ x3_67.toInt)) (h : MH g σL53 s H locs) (hl : lv_has ls 6 [(0, .ref (g.2.1 99)), (1, .int r7), (2, .int x2_53), (3, .int x3_67), (5, .int x5_67)]), W p l e ({ frames := 2, cells := 0, slots := 0, locals := 41 } : Room) s m args below meth c H locs 0 0 (MQ below (mQi g (f_X6_evenRounds σ).1 (f_X6_evenRounds σ).2 (fun u r => ((ga u 0 (0 : Int32)).toInt = (ga σ 0 (0 : Int32)).toInt) ∧ (MFr σ u))) args s 0 0 (mA g)) (F0 m 128 ls [.int t0_128]) := by
                    intro t0_128 H locs ls ej128 bt0_128 hI128 h hl
                    have et0_128 := ej128.symm
                    refine lv_istore (lv' := [(4, .int t0_128), (0, .ref (g.2.1 99)), (1, .int r7), (2, .int x2_53), (3, .int x3_67), (5, .int x5_67)]) hx hb dX6_evenRounds_128 hl (by decide) rfl (fun ls hl => ?_)
                    refine lv_iload_n hx hb dX6_evenRounds_130 rfl (lv_at hl 4 rfl) ?_
                    refine lv_iconst (v := -1) hx hb dX6_evenRounds_131 (by decide) ?_
                    refine lv_icmp_eq (tgt := 151) hx hb dX6_evenRounds_132 (by decide) (fun c132 => ?_) (fun c132 => ?_)
                    · have i132 := c_eq c132
                      refine lv_iload hx hb dX6_evenRounds_151 (lv_at hl 5 rfl) ?_
                      refine lv_istore_n (lv' := [(3, .int x5_67), (4, .int t0_128), (0, .ref (g.2.1 99)), (1, .int r7), (2, .int x2_53), (5, .int x5_67)]) hx hb dX6_evenRounds_153 rfl hl (by decide) rfl (fun ls hl => ?_)
                      refine lv_iinc (v := (x5_67 + (1 : Int32))) (lv' := [(5, .int (x5_67 + (1 : Int32))), (3, .int x5_67), (4, .int t0_128), (0, .ref (g.2.1 99)), (1, .int r7), (2, .int x2_53)]) hx hb dX6_evenRounds_154 hl (k := 5) rfl rfl (by decide) rfl (fun ls hl => ?_)
                      refine lv_goto (tgt := 67) hx hb dX6_evenRounds_157 (by decide) ?_
                      have tt5 : (x5_67 + (1 : Int32)).toInt = (x5_67.toInt + (1)) := (i_add (rfl : x5_67.toInt = x5_67.toInt) zl1 (by omega))
                      exact ih x5_67 t0_128 (x5_67 + (1 : Int32)) _ _ _  (by first | assumption | omega) (by omega) h (lv_sub hl [3, 4, 5, 1, 2, 0] rfl) (fun x3_67' x4_67' x5_67' H locs ls en hI h hl => kk x3_67' x4_67' x5_67' H locs ls ((show f_X6_evenRounds_L67 σL53 r7 x2_53 (n + 1) x3_67 x4_67 x5_67 = f_X6_evenRounds_L67 σL53 r7 x2_53 n x5_67 t0_128 (x5_67 + (1 : Int32)) from (by subst er88; subst et0_128; exact ((if_neg c75).trans ((if_neg c91).trans ((if_pos c132).trans rfl))))).trans en) hI h hl)
                    · have i132 := c_ne c132
                      refine lv_aload_n hx hb dX6_evenRounds_135 rfl (lv_at hl 1 rfl) ?_
                      refine Mg_25 C h dX6_evenRounds_136 ?_
                      refine lv_iload hx hb dX6_evenRounds_139 (lv_at hl 5 rfl) ?_
                      refine Ml_25 C h (ix_of (rfl : x5_67.toInt = x5_67.toInt) (by omega)) dX6_evenRounds_141 ?_
                      refine lv_aload_n hx hb dX6_evenRounds_142 rfl (lv_at hl 1 rfl) ?_
                      refine Mg_25 C h dX6_evenRounds_143 ?_
                      refine lv_iload_n hx hb dX6_evenRounds_146 rfl (lv_at hl 4 rfl) ?_
                      refine Ml_25 C h (ix_of (rfl : x3_67.toInt = x3_67.toInt) (by omega)) dX6_evenRounds_147 ?_
                      refine lv_icmp_le (tgt := 154) hx hb dX6_evenRounds_148 (by decide) (fun c148 => ?_) (fun c148 => ?_)
                      · have i148 := c_le c148
                        refine lv_iinc (v := (x5_67 + (1 : Int32))) (lv' := [(5, .int (x5_67 + (1 : Int32))), (4, .int t0_128), (0, .ref (g.2.1 99)), (1, .int r7), (2, .int x2_53), (3, .int x3_67)]) hx hb dX6_evenRounds_154 hl (k := 5) rfl rfl (by decide) rfl (fun ls hl => ?_)
                        refine lv_goto (tgt := 67) hx hb dX6_evenRounds_157 (by decide) ?_
                        have tt5 : (x5_67 + (1 : Int32)).toInt = (x5_67.toInt + (1)) := (i_add (rfl : x5_67.toInt = x5_67.toInt) zl1 (by omega))
                        exact ih x3_67 t0_128 (x5_67 + (1 : Int32)) _ _ _  (by first | assumption | omega) (by omega) h (lv_sub hl [2, 3, 4, 5, 1, 0] rfl) (fun x3_67' x4_67' x5_67' H locs ls en hI h hl => kk x3_67' x4_67' x5_67' H locs ls ((show f_X6_evenRounds_L67 σL53 r7 x2_53 (n + 1) x3_67 x4_67 x5_67 = f_X6_evenRounds_L67 σL53 r7 x2_53 n x3_67 t0_128 (x5_67 + (1 : Int32)) from (by subst er88; subst et0_128; exact ((if_neg c75).trans ((if_neg c91).trans ((if_neg c132).trans ((if_pos c148).trans rfl)))))).trans en) hI h hl)
                      · have i148 := c_nle c148
                        refine lv_iload hx hb dX6_evenRounds_151 (lv_at hl 5 rfl) ?_
                        refine lv_istore_n (lv' := [(3, .int x5_67), (4, .int t0_128), (0, .ref (g.2.1 99)), (1, .int r7), (2, .int x2_53), (5, .int x5_67)]) hx hb dX6_evenRounds_153 rfl hl (by decide) rfl (fun ls hl => ?_)
                        refine lv_iinc (v := (x5_67 + (1 : Int32))) (lv' := [(5, .int (x5_67 + (1 : Int32))), (3, .int x5_67), (4, .int t0_128), (0, .ref (g.2.1 99)), (1, .int r7), (2, .int x2_53)]) hx hb dX6_evenRounds_154 hl (k := 5) rfl rfl (by decide) rfl (fun ls hl => ?_)
                        refine lv_goto (tgt := 67) hx hb dX6_evenRounds_157 (by decide) ?_
                        have tt5 : (x5_67 + (1 : Int32)).toInt = (x5_67.toInt + (1)) := (i_add (rfl : x5_67.toInt = x5_67.toInt) zl1 (by omega))
                        exact ih x5_67 t0_128 (x5_67 + (1 : Int32)) _ _ _  (by first | assumption | omega) (by omega) h (lv_sub hl [3, 4, 5, 1, 2, 0] rfl) (fun x3_67' x4_67' x5_67' H locs ls en hI h hl => kk x3_67' x4_67' x5_67' H locs ls ((show f_X6_evenRounds_L67 σL53 r7 x2_53 (n + 1) x3_67 x4_67 x5_67 = f_X6_evenRounds_L67 σL53 r7 x2_53 n x5_67 t0_128 (x5_67 + (1 : Int32)) from (by subst er88; subst et0_128; exact ((if_neg c75).trans ((if_neg c91).trans ((if_neg c132).trans ((if_neg c148).trans rfl)))))).trans en) hI h hl)
                  refine lv_if_eq (tgt := 127) hx hb dX6_evenRounds_99 (by decide) (fun c99 => ?_) (fun c99 => ?_)
                  · have i99 := c_eq c99
                    refine lv_iconst (v := 0) hx hb dX6_evenRounds_127 (by decide) ?_
                    exact j128 _ _ _ _ (by exact ((if_pos c99).trans rfl)) (Or.inl rfl) (by first | assumption | omega) h (lv_sub hl [0, 1, 2, 3, 5] rfl)
                  · have i99 := c_ne c99
                    refine lv_iload_n hx hb dX6_evenRounds_102 rfl (lv_at hl 3 rfl) ?_
                    refine lv_iconst (v := -1) hx hb dX6_evenRounds_103 (by decide) ?_
                    refine lv_icmp_eq (tgt := 123) hx hb dX6_evenRounds_104 (by decide) (fun c104 => ?_) (fun c104 => ?_)
                    · have i104 := c_eq c104
                      refine lv_iconst (v := 1) hx hb dX6_evenRounds_123 (by decide) ?_
                      refine lv_goto (tgt := 128) hx hb dX6_evenRounds_124 (by decide) ?_
                      exact j128 _ _ _ _ (by exact ((if_neg c99).trans ((if_pos c104).trans rfl))) (Or.inr rfl) (by first | assumption | omega) h (lv_sub hl [0, 1, 2, 3, 5] rfl)
                    · have i104 := c_ne c104
                      refine lv_aload_n hx hb dX6_evenRounds_107 rfl (lv_at hl 0 rfl) ?_
                      refine Mg_25 C h dX6_evenRounds_108 ?_
                      refine lv_iload hx hb dX6_evenRounds_111 (lv_at hl 5 rfl) ?_
                      refine Ml_25 C h (ix_of (rfl : x5_67.toInt = x5_67.toInt) (by omega)) dX6_evenRounds_113 ?_
                      refine lv_aload_n hx hb dX6_evenRounds_114 rfl (lv_at hl 0 rfl) ?_
                      refine Mg_25 C h dX6_evenRounds_115 ?_
                      refine lv_iload_n hx hb dX6_evenRounds_118 rfl (lv_at hl 3 rfl) ?_
                      refine Ml_25 C h (ix_of (rfl : x3_67.toInt = x3_67.toInt) (by omega)) dX6_evenRounds_119 ?_
                      refine lv_icmp_ne (tgt := 127) hx hb dX6_evenRounds_120 (by decide) (fun c120 => ?_) (fun c120 => ?_)
                      · have i120 := c_ne c120
                        refine lv_iconst (v := 0) hx hb dX6_evenRounds_127 (by decide) ?_
                        exact j128 _ _ _ _ (by exact ((if_neg c99).trans ((if_neg c104).trans ((if_neg c120).trans rfl)))) (Or.inl rfl) (by first | assumption | omega) h (lv_sub hl [0, 1, 2, 3, 5] rfl)
                      · have i120 := c_eq c120
                        refine lv_iconst (v := 1) hx hb dX6_evenRounds_123 (by decide) ?_
                        refine lv_goto (tgt := 128) hx hb dX6_evenRounds_124 (by decide) ?_
                        exact j128 _ _ _ _ (by exact ((if_neg c99).trans ((if_neg c104).trans ((if_pos c120).trans rfl)))) (Or.inr rfl) (by first | assumption | omega) h (lv_sub hl [0, 1, 2, 3, 5] rfl)
                · have i91 := c_eq c91
                  refine lv_goto (tgt := 154) hx hb dX6_evenRounds_94 (by decide) ?_
                  refine lv_iinc (v := (x5_67 + (1 : Int32))) (lv' := [(5, .int (x5_67 + (1 : Int32))), (0, .ref (g.2.1 99)), (1, .int r7), (2, .int x2_53), (3, .int x3_67), (4, .int x4_67)]) hx hb dX6_evenRounds_154 hl (k := 5) rfl rfl (by decide) rfl (fun ls hl => ?_)
                  refine lv_goto (tgt := 67) hx hb dX6_evenRounds_157 (by decide) ?_
                  have tt5 : (x5_67 + (1 : Int32)).toInt = (x5_67.toInt + (1)) := (i_add (rfl : x5_67.toInt = x5_67.toInt) zl1 (by omega))
                  exact ih x3_67 x4_67 (x5_67 + (1 : Int32)) _ _ _  (by first | assumption | omega) (by omega) h (lv_sub hl [1, 2, 3, 4, 5, 0] rfl) (fun x3_67' x4_67' x5_67' H locs ls en hI h hl => kk x3_67' x4_67' x5_67' H locs ls ((show f_X6_evenRounds_L67 σL53 r7 x2_53 (n + 1) x3_67 x4_67 x5_67 = f_X6_evenRounds_L67 σL53 r7 x2_53 n x3_67 x4_67 (x5_67 + (1 : Int32)) from (by subst er88; exact ((if_neg c75).trans ((if_pos c91).trans rfl)))).trans en) hI h hl)
          refine hL67 (7) (-1 : Int32) (1 : Int32) (0 : Int32) _ _ _  (by first | assumption | omega) (by omega) h (lv_sub hl [3, 4, 5, 2, 1, 0] rfl) (fun x3_67e x4_67e x5_67e H locs ls eL67 hI67 h hl => ?_)
          have ex3_67e : x3_67e = (f_X6_evenRounds_L67 σL53 r7 x2_53 (7) (-1 : Int32) (1 : Int32) (0 : Int32)).1 := by rw [eL67]
          have ex4_67e : x4_67e = (f_X6_evenRounds_L67 σL53 r7 x2_53 (7) (-1 : Int32) (1 : Int32) (0 : Int32)).2.1 := by rw [eL67]
          have ex5_67e : x5_67e = (f_X6_evenRounds_L67 σL53 r7 x2_53 (7) (-1 : Int32) (1 : Int32) (0 : Int32)).2.2 := by rw [eL67]
          refine lv_iload hx hb dX6_evenRounds_160 (lv_at hl 4 rfl) ?_
          refine lv_if_eq (tgt := 171) hx hb dX6_evenRounds_162 (by decide) (fun c162 => ?_) (fun c162 => ?_)
          · have i162 := c_eq c162
            refine lv_iconst (v := 0) hx hb dX6_evenRounds_171 (by decide) ?_
            refine lv_istore (lv' := [(5, .int (0 : Int32)), (0, .ref (g.2.1 99)), (1, .int r7), (2, .int x2_53), (3, .int x3_67e), (4, .int x4_67e)]) hx hb dX6_evenRounds_172 hl (by decide) rfl (fun ls hl => ?_)
            have hL174 : ∀ (n : Nat) (x5_174 : Int32) (σL174 : MS) (H : Heap) (locs : List Loc) (ls : Array Slot), (0 ≤ (ga σL174 0 (0 : Int32)).toInt ∧ (ga σL174 0 (0 : Int32)).toInt ≤ 6) → ((ga σL174 0 (0 : Int32)).toInt = (ga σ 0 (0 : Int32)).toInt) → (MFr σ σL174) → (0 ≤ x5_174.toInt ∧ x5_174.toInt ≤ (ga σL174 0 (0 : Int32)).toInt) → ((ga σL174 0 (0 : Int32)).toInt - x5_174.toInt).toNat < n → MH g σL174 s H locs → lv_has ls 6 [(0, .ref (g.2.1 99)), (1, .int r7), (2, .int x2_53), (3, .int x3_67e), (5, .int x5_174)] → (∀ (x5_174' : Int32) (σL174' : MS) (H : Heap) (locs : List Loc) (ls : Array Slot), f_X6_evenRounds_L174 r7 x2_53 x3_67e n x5_174 σL174 = (x5_174', σL174') → (0 ≤ (ga σL174' 0 (0 : Int32)).toInt ∧ (ga σL174' 0 (0 : Int32)).toInt ≤ 6) → ((ga σL174' 0 (0 : Int32)).toInt = (ga σ 0 (0 : Int32)).toInt) → (MFr σ σL174') → (0 ≤ x5_174'.toInt ∧ x5_174'.toInt ≤ (ga σL174' 0 (0 : Int32)).toInt) → MH g σL174' s H locs → lv_has ls 6 [(0, .ref (g.2.1 99)), (1, .int r7), (2, .int x2_53), (3, .int x3_67e)] → W p l e ({ frames := 2, cells := 0, slots := 0, locals := 41 } : Room) s m args below meth c H locs 0 0 (MQ below (mQi g (f_X6_evenRounds σ).1 (f_X6_evenRounds σ).2 (fun u r => ((ga u 0 (0 : Int32)).toInt = (ga σ 0 (0 : Int32)).toInt) ∧ (MFr σ u))) args s 0 0 (mA g)) (F0 m 213 ls [])) → W p l e ({ frames := 2, cells := 0, slots := 0, locals := 41 } : Room) s m args below meth c H locs 0 0 (MQ below (mQi g (f_X6_evenRounds σ).1 (f_X6_evenRounds σ).2 (fun u r => ((ga u 0 (0 : Int32)).toInt = (ga σ 0 (0 : Int32)).toInt) ∧ (MFr σ u))) args s 0 0 (mA g)) (F0 m 174 ls []) := by
              intro n
              induction n with
              | zero =>
                intro x5_174 σL174 H locs ls hp hpq hLF _ hm; exact absurd hm (Nat.not_lt_zero _)
              | succ n ih =>
                intro x5_174 σL174 H locs ls hp hpq hLF hI174 hm h hl kk
                refine lv_iload hx hb dX6_evenRounds_174 (lv_at hl 4 rfl) ?_
                refine lv_aload_n hx hb dX6_evenRounds_176 rfl (lv_at hl 0 rfl) ?_
                refine Mg_0 C h dX6_evenRounds_177 ?_
                refine lv_iconst (v := 0) hx hb dX6_evenRounds_180 (by decide) ?_
                refine Ml_0 C h (ix_of zl0 (by omega)) dX6_evenRounds_181 ?_
                refine lv_icmp_ge (tgt := 213) hx hb dX6_evenRounds_182 (by decide) (fun c182 => ?_) (fun c182 => ?_)
                · have i182 := c_le c182
                  exact kk x5_174 σL174 _ _ _ (show f_X6_evenRounds_L174 r7 x2_53 x3_67e (n + 1) x5_174 σL174 = (x5_174, σL174) from (by exact ((if_pos c182).trans rfl))) hp hpq hLF (by first | assumption | omega) h (lv_sub hl [0, 1, 2, 3] rfl)
                · have i182 := c_nle c182
                  refine lv_aload_n hx hb dX6_evenRounds_185 rfl (lv_at hl 0 rfl) ?_
                  refine Mg_25 C h dX6_evenRounds_186 ?_
                  refine lv_iload hx hb dX6_evenRounds_189 (lv_at hl 4 rfl) ?_
                  refine lv_dup2_11 hx hb dX6_evenRounds_191 rfl rfl ?_
                  refine Ml_25 C h (ix_of (rfl : x5_174.toInt = x5_174.toInt) (by omega)) dX6_evenRounds_192 ?_
                  refine lv_aload_n hx hb dX6_evenRounds_193 rfl (lv_at hl 0 rfl) ?_
                  refine Mg_0 C h dX6_evenRounds_194 ?_
                  refine lv_bipush (v := 8) hx hb dX6_evenRounds_197 (by decide) ?_
                  refine Ml_0 C h (ix_of zl8 (by omega)) dX6_evenRounds_199 ?_
                  refine lv_iload hx hb dX6_evenRounds_200 (lv_at hl 4 rfl) ?_
                  refine lv_ishr hx hb dX6_evenRounds_202 ?_
                  refine lv_iconst (v := 1) hx hb dX6_evenRounds_203 (by decide) ?_
                  refine lv_iand hx hb dX6_evenRounds_204 ?_
                  refine lv_iadd hx hb dX6_evenRounds_205 ?_
                  refine Ms_25 C h (ix_of (rfl : x5_174.toInt = x5_174.toInt) (by omega)) dX6_evenRounds_206 (fun σ206 H locs eσ206 h => ?_)
                  have hNEW : (0 ≤ (ga σ206 0 (0 : Int32)).toInt ∧ (ga σ206 0 (0 : Int32)).toInt ≤ 6) ∧ ((ga σ206 0 (0 : Int32)).toInt = (ga σ 0 (0 : Int32)).toInt) ∧ (MFr σ σ206) := ⟨(by rw [eσ206] <;> exact hp), (by rw [eσ206] <;> exact hpq), (by rw [eσ206]; exact (Fr_xa (by decide) (by decide) hLF))⟩
                  obtain ⟨hp, hpq, hLF⟩ := hNEW
                  refine lv_iinc (v := (x5_174 + (1 : Int32))) (lv' := [(5, .int (x5_174 + (1 : Int32))), (0, .ref (g.2.1 99)), (1, .int r7), (2, .int x2_53), (3, .int x3_67e)]) hx hb dX6_evenRounds_207 hl (k := 4) rfl rfl (by decide) rfl (fun ls hl => ?_)
                  refine lv_goto (tgt := 174) hx hb dX6_evenRounds_210 (by decide) ?_
                  have tt5 : (x5_174 + (1 : Int32)).toInt = (x5_174.toInt + (1)) := (i_add (rfl : x5_174.toInt = x5_174.toInt) zl1 (by omega))
                  exact ih (x5_174 + (1 : Int32)) σ206 _ _ _ hp hpq hLF (by first | assumption | omega) (by omega) h (lv_sub hl [1, 2, 3, 4, 0] rfl) (fun x5_174' σL174' H locs ls en hp hpq hLF hI h hl => kk x5_174' σL174' H locs ls ((show f_X6_evenRounds_L174 r7 x2_53 x3_67e (n + 1) x5_174 σL174 = f_X6_evenRounds_L174 r7 x2_53 x3_67e n (x5_174 + (1 : Int32)) σ206 from (by subst eσ206; exact ((if_neg c182).trans rfl))).trans en) hp hpq hLF hI h hl)
            refine hL174 (7) (0 : Int32) σL53 _ _ _ hp hpq hLF (by first | assumption | omega) (by omega) h (lv_sub hl [1, 2, 3, 4, 0] rfl) (fun x5_174e σL174e H locs ls eL174 hp hpq hLF hI174 h hl => ?_)
            have ex5_174e : x5_174e = (f_X6_evenRounds_L174 r7 x2_53 x3_67e (7) (0 : Int32) σL53).1 := by rw [eL174]
            have eσL174e : σL174e = (f_X6_evenRounds_L174 r7 x2_53 x3_67e (7) (0 : Int32) σL53).2 := by rw [eL174]
            refine lv_aload_n hx hb dX6_evenRounds_213 rfl (lv_at hl 0 rfl) ?_
            refine Mg_25 C h dX6_evenRounds_214 ?_
            refine lv_iload_n hx hb dX6_evenRounds_217 rfl (lv_at hl 3 rfl) ?_
            refine lv_dup2_11 hx hb dX6_evenRounds_218 rfl rfl ?_
            refine Ml_25 C h (ix_of (rfl : x3_67e.toInt = x3_67e.toInt) (by omega)) dX6_evenRounds_219 ?_
            refine lv_iload_n hx hb dX6_evenRounds_220 rfl (lv_at hl 1 rfl) ?_
            refine lv_isub hx hb dX6_evenRounds_221 ?_
            refine Ms_25 C h (ix_of (rfl : x3_67e.toInt = x3_67e.toInt) (by omega)) dX6_evenRounds_222 (fun σ222 H locs eσ222 h => ?_)
            have hNEW : (0 ≤ (ga σ222 0 (0 : Int32)).toInt ∧ (ga σ222 0 (0 : Int32)).toInt ≤ 6) ∧ ((ga σ222 0 (0 : Int32)).toInt = (ga σ 0 (0 : Int32)).toInt) ∧ (MFr σ σ222) := ⟨(by rw [eσ222] <;> exact hp), (by rw [eσ222] <;> exact hpq), (by rw [eσ222]; exact (Fr_xa (by decide) (by decide) hLF))⟩
            obtain ⟨hp, hpq, hLF⟩ := hNEW
            refine lv_iinc (v := (x2_53 + (1 : Int32))) (lv' := [(2, .int (x2_53 + (1 : Int32))), (0, .ref (g.2.1 99)), (1, .int r7), (3, .int x3_67e)]) hx hb dX6_evenRounds_223 hl (k := 2) rfl rfl (by decide) rfl (fun ls hl => ?_)
            refine lv_goto (tgt := 53) hx hb dX6_evenRounds_226 (by decide) ?_
            have tt2 : (x2_53 + (1 : Int32)).toInt = (x2_53.toInt + (1)) := (i_add (rfl : x2_53.toInt = x2_53.toInt) zl1 (by omega))
            exact ih (x2_53 + (1 : Int32)) σ222 _ _ _ hp hpq hLF (by first | assumption | omega) (by omega) (by subst ex3_67e; subst ex4_67e; subst ex5_67e; subst ex5_174e; subst eσL174e; subst eσ222; exact (hf53.trans ((if_neg c56).trans ((if_pos c162).trans rfl)))) h (lv_sub hl [1, 2, 0] rfl)
          · have i162 := c_ne c162
            refine lv_aload_n hx hb dX6_evenRounds_165 rfl (lv_at hl 0 rfl) ?_
            refine lv_iload_n hx hb dX6_evenRounds_166 rfl (lv_at hl 2 rfl) ?_
            refine M_calli (As := [.int x2_53]) (rest := []) 1 C h (k_X6_gives l g σL53 x2_53) (lw_V q1806 q1808 qs91 q152 q1809) rfl rfl (by decide +kernel) ⟨Nat.le_of_ble_eq_true rfl, Nat.le_of_ble_eq_true rfl⟩ rfl hl.1 rfl (Nat.le_of_ble_eq_true rfl) ⟨Nat.le_of_ble_eq_true rfl, Nat.le_of_ble_eq_true rfl⟩ dX6_evenRounds_167 (fun r167 σ167 H locs eσ167 er167 hE167 h => ?_)
            clear hE167
            have hNEW : (0 ≤ (ga σ167 0 (0 : Int32)).toInt ∧ (ga σ167 0 (0 : Int32)).toInt ≤ 6) ∧ ((ga σ167 0 (0 : Int32)).toInt = (ga σ 0 (0 : Int32)).toInt) ∧ (MFr σ σ167) := ⟨(by rw [eσ167, gives_s] <;> exact hp), (by rw [eσ167, gives_s] <;> exact hpq), (by rw [eσ167, gives_s]; exact Fr_si (by decide) hLF)⟩
            obtain ⟨hp, hpq, hLF⟩ := hNEW
            have he : f_X6_evenRounds σ = (σ167, r167) := (by subst ex3_67e; subst ex4_67e; subst ex5_67e; subst eσ167; subst er167; exact (hf53.trans ((if_neg c56).trans ((if_neg c162).trans rfl))))
            exact M_reti C h hr hlocks (congrArg Prod.fst he) (congrArg Prod.snd he) ⟨hpq, hLF⟩ dX6_evenRounds_170
    exact hL53 (62) (0 : Int32) σL24e _ _ _ hp hpq hLF (by first | assumption | omega) (by omega) (by subst er7; subst ex2_24e; subst eσL24e; exact ((if_neg c12).trans rfl)) h (lv_sub hl [1, 2, 0] rfl)
  · have i12 := c_eq c12
    refine lv_aload_n hx hb dX6_evenRounds_15 rfl (lv_at hl 1 rfl) ?_
    refine lv_bipush (v := 6) hx hb dX6_evenRounds_16 (by decide) ?_
    refine M_calli (As := [.int (6 : Int32)]) (rest := []) 1 C h (k_X6_refuse l g σ (6 : Int32)) (lw_V q1723 q1725 qs71 q152 q1726) rfl rfl (by decide +kernel) ⟨Nat.le_of_ble_eq_true rfl, Nat.le_of_ble_eq_true rfl⟩ rfl hl.1 rfl (Nat.le_of_ble_eq_true rfl) ⟨Nat.le_of_ble_eq_true rfl, Nat.le_of_ble_eq_true rfl⟩ dX6_evenRounds_18 (fun r18 σ18 H locs eσ18 er18 hE18 h => ?_)
    clear hE18
    have hNEW : (0 ≤ (ga σ18 0 (0 : Int32)).toInt ∧ (ga σ18 0 (0 : Int32)).toInt ≤ 6) ∧ ((ga σ18 0 (0 : Int32)).toInt = (ga σ 0 (0 : Int32)).toInt) ∧ (MFr σ σ18) := ⟨(by rw [eσ18, refuse_s] <;> exact hp), (by rw [eσ18, refuse_s] <;> exact hpq), (by rw [eσ18, refuse_s]; exact Fr_si (by decide) hLF)⟩
    obtain ⟨hp, hpq, hLF⟩ := hNEW
    have he : f_X6_evenRounds σ = (σ18, r18) := (by subst er7; subst eσ18; subst er18; exact ((if_pos c12).trans rfl))
    exact M_reti C h hr hlocks (congrArg Prod.fst he) (congrArg Prod.snd he) ⟨hpq, hLF⟩ dX6_evenRounds_21
def f_X6_areGifts (σ : MS) (p1 : Int32) (p2 : Int32) : Int32 := (let r6 := (f_X6_isFrom p1.toInt64 (1 : Int64) (999 : Int64)); if r6 = (0 : Int32) then ((0 : Int32)) else ((let r18 := (f_X6_isFrom p2.toInt64 (0 : Int64) (100 : Int64)); if r18 = (0 : Int32) then ((0 : Int32)) else ((1 : Int32)))))
set_option maxHeartbeats 4000000 in
set_option maxRecDepth 100000 in
theorem k_X6_areGifts (l : Launch) (g : GE) (σ : MS) (p1 : Int32) (p2 : Int32) : Met l yX6_areGifts (ws_ yX6_areGifts cX6_areGifts 3 (some .boolean)) ({ frames := 1, cells := 0, slots := 0, locals := 25 } : Room) (mPc g σ [.int p1, .int p2]) (mQz g σ (f_X6_areGifts σ p1 p2) (fun u r => True)) 0 0 (mA g) := by
  refine met_M (by decide) rfl (Nat.le_of_ble_eq_true rfl) ?_
  intro p e s m args below meth c C hr hlocks h ls hl
  have hx := C.1.1
  have hb := C.1.2.1
  have hml := C.1.2.2.1
  have hown := C.1.2.2.2.1
  have hts := C.1.2.2.2.2
  have hl : lv_has ls 3 [(0, .ref (g.2.1 99)), (1, .int p1), (2, .int p2)] := hl
  have zl0 : (0 : Int32).toInt = 0 := rfl
  have zl1 : (1 : Int32).toInt = 1 := rfl
  refine lv_iload_n hx hb dX6_areGifts_0 rfl (lv_at hl 1 rfl) ?_
  refine lv_i2l (v := p1.toInt64) hx hb dX6_areGifts_1 rfl ?_
  refine lv_lconst (v := 1) hx hb dX6_areGifts_2 (by decide) ?_
  refine lv_ldc2 hx hb hown (hts _ q1935) dX6_areGifts_3 ?_
  refine s_callz (As := [.long p1.toInt64, .long (1 : Int64), .long (999 : Int64)]) (rest := []) 3 C.1 (k_X6_isFrom l p1.toInt64 (1 : Int64) (999 : Int64)) (lw_S q1936 q1937 q152 q1938) rfl rfl (by decide +kernel) ⟨Nat.le_of_ble_eq_true rfl, Nat.le_of_ble_eq_true rfl⟩ rfl hl.1 rfl (Nat.le_of_ble_eq_true rfl) ⟨Nat.le_of_ble_eq_true rfl, Nat.le_of_ble_eq_true rfl⟩ dX6_areGifts_6 h.2.2 (fun r6 H locs er6 br6 hz1 hk1 hS1 => ?_)
  have h := h.same hk1 hS1
  clear hz1 hk1 hS1
  refine lv_if_eq (tgt := 28) hx hb dX6_areGifts_9 (by decide) (fun c9 => ?_) (fun c9 => ?_)
  · have i9 := c_eq c9
    refine lv_iconst (v := 0) hx hb dX6_areGifts_28 (by decide) ?_
    have he : f_X6_areGifts σ p1 p2 = (0 : Int32) := (by subst er6; exact ((if_pos c9).trans rfl))
    exact M_retz C h hr hlocks rfl he (Or.inl rfl) trivial dX6_areGifts_29
  · have i9 := c_ne c9
    have okr6 := isFrom_ok er6 c9
    refine lv_iload_n hx hb dX6_areGifts_12 rfl (lv_at hl 2 rfl) ?_
    refine lv_i2l (v := p2.toInt64) hx hb dX6_areGifts_13 rfl ?_
    refine lv_lconst (v := 0) hx hb dX6_areGifts_14 (by decide) ?_
    refine lv_ldc2 hx hb hown (hts _ q2170) dX6_areGifts_15 ?_
    refine s_callz (As := [.long p2.toInt64, .long (0 : Int64), .long (100 : Int64)]) (rest := []) 3 C.1 (k_X6_isFrom l p2.toInt64 (0 : Int64) (100 : Int64)) (lw_S q1936 q1937 q152 q1938) rfl rfl (by decide +kernel) ⟨Nat.le_of_ble_eq_true rfl, Nat.le_of_ble_eq_true rfl⟩ rfl hl.1 rfl (Nat.le_of_ble_eq_true rfl) ⟨Nat.le_of_ble_eq_true rfl, Nat.le_of_ble_eq_true rfl⟩ dX6_areGifts_18 h.2.2 (fun r18 H locs er18 br18 hz1 hk1 hS1 => ?_)
    have h := h.same hk1 hS1
    clear hz1 hk1 hS1
    refine lv_if_eq (tgt := 28) hx hb dX6_areGifts_21 (by decide) (fun c21 => ?_) (fun c21 => ?_)
    · have i21 := c_eq c21
      refine lv_iconst (v := 0) hx hb dX6_areGifts_28 (by decide) ?_
      have he : f_X6_areGifts σ p1 p2 = (0 : Int32) := (by subst er6; subst er18; exact ((if_neg c9).trans ((if_pos c21).trans rfl)))
      exact M_retz C h hr hlocks rfl he (Or.inl rfl) trivial dX6_areGifts_29
    · have i21 := c_ne c21
      have okr18 := isFrom_ok er18 c21
      refine lv_iconst (v := 1) hx hb dX6_areGifts_24 (by decide) ?_
      refine lv_goto (tgt := 29) hx hb dX6_areGifts_25 (by decide) ?_
      have he : f_X6_areGifts σ p1 p2 = (1 : Int32) := (by subst er6; subst er18; exact ((if_neg c9).trans ((if_neg c21).trans rfl)))
      exact M_retz C h hr hlocks rfl he (Or.inr rfl) trivial dX6_areGifts_29
theorem areGifts_ok {σ : MS} {a b r : Int32} (h : r = f_X6_areGifts σ a b) (hr : ¬ r = 0) : (1 ≤ a.toInt ∧ a.toInt ≤ 999) ∧ (0 ≤ b.toInt ∧ b.toInt ≤ 100) := by
  unfold f_X6_areGifts at h
  dsimp only at h
  split at h
  · exact absurd h hr
  · rename_i h1
    split at h
    · exact absurd h hr
    · rename_i h2
      exact ⟨isFrom_i (A := 1) (B := 999) rfl rfl (isFrom_ok rfl h1), isFrom_i (A := 0) (B := 100) rfl rfl (isFrom_ok rfl h2)⟩
def f_X6_giftAt_L33 (σ : MS) (y2_33 : Int32) (y3_33 : Int32) : Nat → Int32 → Int32 → Int32 × Int32
  | 0, x4_33, x5_33 => (x4_33, x5_33)
  | n + 1, x4_33, x5_33 => if y3_33 ≤ x5_33 then ((x4_33, x5_33)) else (if (999999 : Int32) < x4_33 then ((x4_33, x5_33)) else ((let r50 := (f_X6_nextGift x4_33 y2_33); f_X6_giftAt_L33 σ y2_33 y3_33 n r50 (x5_33 + (1 : Int32)))))
def f_X6_giftAt (σ : MS) (p1 : Int32) (p2 : Int32) (p3 : Int32) : MS × Int32 := (let r3 := (f_X6_areGifts σ p1 p2); if r3 = (0 : Int32) then ((let z23 := (f_X6_refuse σ (1 : Int32)); let σ23 := z23.1; let r23 := z23.2; (σ23, r23))) else ((let r15 := (f_X6_isFrom p3.toInt64 (0 : Int64) (60 : Int64)); if r15 = (0 : Int32) then ((let z23 := (f_X6_refuse σ (1 : Int32)); let σ23 := z23.1; let r23 := z23.2; (σ23, r23))) else ((let zL33 := f_X6_giftAt_L33 σ p2 p3 (61) p1 (0 : Int32); let x4_33e := zL33.1; let x5_33e := zL33.2; if x4_33e ≤ (999999 : Int32) then ((let z81 := (f_X6_gives σ x4_33e); let σ81 := z81.1; let r81 := z81.2; (σ81, r81))) else ((let z72 := (f_X6_refuse σ (7 : Int32)); let σ72 := z72.1; let r72 := z72.2; (σ72, r72))))))))
set_option maxHeartbeats 4000000 in
set_option maxRecDepth 100000 in
theorem k_X6_giftAt (l : Launch) (g : GE) (σ : MS) (p1 : Int32) (p2 : Int32) (p3 : Int32) : Met l yX6_giftAt (ws_ yX6_giftAt cX6_giftAt 6 (some .int)) ({ frames := 2, cells := 0, slots := 0, locals := 47 } : Room) (mPc g σ [.int p1, .int p2, .int p3]) (mQi g (f_X6_giftAt σ p1 p2 p3).1 (f_X6_giftAt σ p1 p2 p3).2 (fun u r => True)) 0 0 (mA g) := by
  refine met_M (by decide) rfl (Nat.le_of_ble_eq_true rfl) ?_
  intro p e s m args below meth c C hr hlocks h ls hl
  have hx := C.1.1
  have hb := C.1.2.1
  have hml := C.1.2.2.1
  have hown := C.1.2.2.2.1
  have hts := C.1.2.2.2.2
  have hl : lv_has ls 6 [(0, .ref (g.2.1 99)), (1, .int p1), (2, .int p2), (3, .int p3)] := hl
  have zl0 : (0 : Int32).toInt = 0 := rfl
  have zl1 : (1 : Int32).toInt = 1 := rfl
  have zl7 : (7 : Int32).toInt = 7 := rfl
  have zl999999 : (999999 : Int32).toInt = 999999 := rfl
  refine lv_aload_n hx hb dX6_giftAt_0 rfl (lv_at hl 0 rfl) ?_
  refine lv_iload_n hx hb dX6_giftAt_1 rfl (lv_at hl 1 rfl) ?_
  refine lv_iload_n hx hb dX6_giftAt_2 rfl (lv_at hl 2 rfl) ?_
  refine M_callz (As := [.int p1, .int p2]) (rest := []) 2 C h (k_X6_areGifts l g σ p1 p2) (lw_V q2166 q2168 qs131 q152 q2169) rfl rfl (by decide +kernel) ⟨Nat.le_of_ble_eq_true rfl, Nat.le_of_ble_eq_true rfl⟩ rfl hl.1 rfl (Nat.le_of_ble_eq_true rfl) ⟨Nat.le_of_ble_eq_true rfl, Nat.le_of_ble_eq_true rfl⟩ dX6_giftAt_3 (fun r3 σ3 H locs eσ3 er3 br3 hE3 h => ?_)
  rw [eσ3] at h
  clear hE3
  clear eσ3
  refine lv_if_eq (tgt := 21) hx hb dX6_giftAt_6 (by decide) (fun c6 => ?_) (fun c6 => ?_)
  · have i6 := c_eq c6
    refine lv_aload_n hx hb dX6_giftAt_21 rfl (lv_at hl 0 rfl) ?_
    refine lv_iconst (v := 1) hx hb dX6_giftAt_22 (by decide) ?_
    refine M_calli (As := [.int (1 : Int32)]) (rest := []) 1 C h (k_X6_refuse l g σ (1 : Int32)) (lw_V q1723 q1725 qs71 q152 q1726) rfl rfl (by decide +kernel) ⟨Nat.le_of_ble_eq_true rfl, Nat.le_of_ble_eq_true rfl⟩ rfl hl.1 rfl (Nat.le_of_ble_eq_true rfl) ⟨Nat.le_of_ble_eq_true rfl, Nat.le_of_ble_eq_true rfl⟩ dX6_giftAt_23 (fun r23 σ23 H locs eσ23 er23 hE23 h => ?_)
    clear hE23
    have he : f_X6_giftAt σ p1 p2 p3 = (σ23, r23) := (by subst er3; subst eσ23; subst er23; exact ((if_pos c6).trans rfl))
    exact M_reti C h hr hlocks (congrArg Prod.fst he) (congrArg Prod.snd he) trivial dX6_giftAt_26
  · have i6 := c_ne c6
    have okr3 := areGifts_ok er3 c6
    refine lv_iload_n hx hb dX6_giftAt_9 rfl (lv_at hl 3 rfl) ?_
    refine lv_i2l (v := p3.toInt64) hx hb dX6_giftAt_10 rfl ?_
    refine lv_lconst (v := 0) hx hb dX6_giftAt_11 (by decide) ?_
    refine lv_ldc2 hx hb hown (hts _ q2171) dX6_giftAt_12 ?_
    refine s_callz (As := [.long p3.toInt64, .long (0 : Int64), .long (60 : Int64)]) (rest := []) 3 C.1 (k_X6_isFrom l p3.toInt64 (0 : Int64) (60 : Int64)) (lw_S q1936 q1937 q152 q1938) rfl rfl (by decide +kernel) ⟨Nat.le_of_ble_eq_true rfl, Nat.le_of_ble_eq_true rfl⟩ rfl hl.1 rfl (Nat.le_of_ble_eq_true rfl) ⟨Nat.le_of_ble_eq_true rfl, Nat.le_of_ble_eq_true rfl⟩ dX6_giftAt_15 h.2.2 (fun r15 H locs er15 br15 hz1 hk1 hS1 => ?_)
    have h := h.same hk1 hS1
    clear hz1 hk1 hS1
    refine lv_if_ne (tgt := 27) hx hb dX6_giftAt_18 (by decide) (fun c18 => ?_) (fun c18 => ?_)
    · have i18 := c_ne c18
      have okr15 := isFrom_ok er15 c18
      have kk9 := isFrom_i (A := 0) (B := 60) rfl rfl okr15
      refine lv_iload_n hx hb dX6_giftAt_27 rfl (lv_at hl 1 rfl) ?_
      refine lv_istore (lv' := [(4, .int p1), (0, .ref (g.2.1 99)), (1, .int p1), (2, .int p2), (3, .int p3)]) hx hb dX6_giftAt_28 hl (by decide) rfl (fun ls hl => ?_)
      refine lv_iconst (v := 0) hx hb dX6_giftAt_30 (by decide) ?_
      refine lv_istore (lv' := [(5, .int (0 : Int32)), (4, .int p1), (0, .ref (g.2.1 99)), (1, .int p1), (2, .int p2), (3, .int p3)]) hx hb dX6_giftAt_31 hl (by decide) rfl (fun ls hl => ?_)
      have hL33 : ∀ (n : Nat) (x4_33 : Int32) (x5_33 : Int32) (H : Heap) (locs : List Loc) (ls : Array Slot), (0 ≤ x5_33.toInt ∧ (x5_33.toInt ≤ p3.toInt)) → (p3.toInt - x5_33.toInt).toNat < n → MH g σ s H locs → lv_has ls 6 [(0, .ref (g.2.1 99)), (2, .int p2), (3, .int p3), (4, .int x4_33), (5, .int x5_33)] → (∀ (x4_33' : Int32) (x5_33' : Int32) (H : Heap) (locs : List Loc) (ls : Array Slot), f_X6_giftAt_L33 σ p2 p3 n x4_33 x5_33 = (x4_33', x5_33') → (0 ≤ x5_33'.toInt ∧ (x5_33'.toInt ≤ p3.toInt)) → MH g σ s H locs → lv_has ls 6 [(0, .ref (g.2.1 99)), (4, .int x4_33')] → W p l e ({ frames := 2, cells := 0, slots := 0, locals := 47 } : Room) s m args below meth c H locs 0 0 (MQ below (mQi g (f_X6_giftAt σ p1 p2 p3).1 (f_X6_giftAt σ p1 p2 p3).2 (fun u r => True)) args s 0 0 (mA g)) (F0 m 61 ls [])) → W p l e ({ frames := 2, cells := 0, slots := 0, locals := 47 } : Room) s m args below meth c H locs 0 0 (MQ below (mQi g (f_X6_giftAt σ p1 p2 p3).1 (f_X6_giftAt σ p1 p2 p3).2 (fun u r => True)) args s 0 0 (mA g)) (F0 m 33 ls []) := by
        intro n
        induction n with
        | zero =>
          intro x4_33 x5_33 H locs ls _ hm; exact absurd hm (Nat.not_lt_zero _)
        | succ n ih =>
          intro x4_33 x5_33 H locs ls hI33 hm h hl kk
          refine lv_iload hx hb dX6_giftAt_33 (lv_at hl 4 rfl) ?_
          refine lv_iload_n hx hb dX6_giftAt_35 rfl (lv_at hl 2 rfl) ?_
          refine lv_icmp_ge (tgt := 61) hx hb dX6_giftAt_36 (by decide) (fun c36 => ?_) (fun c36 => ?_)
          · have i36 := c_le c36
            exact kk x4_33 x5_33 _ _ _ (show f_X6_giftAt_L33 σ p2 p3 (n + 1) x4_33 x5_33 = (x4_33, x5_33) from (by exact ((if_pos c36).trans rfl)))  (by first | assumption | omega) h (lv_sub hl [0, 3] rfl)
          · have i36 := c_nle c36
            refine lv_iload hx hb dX6_giftAt_39 (lv_at hl 3 rfl) ?_
            refine lv_ldcw hx hb hown (hts _ q1973) dX6_giftAt_41 ?_
            refine lv_icmp_gt (tgt := 61) hx hb dX6_giftAt_44 (by decide) (fun c44 => ?_) (fun c44 => ?_)
            · have i44 := c_lt c44
              exact kk x4_33 x5_33 _ _ _ (show f_X6_giftAt_L33 σ p2 p3 (n + 1) x4_33 x5_33 = (x4_33, x5_33) from (by exact ((if_neg c36).trans ((if_pos c44).trans rfl))))  (by first | assumption | omega) h (lv_sub hl [0, 3] rfl)
            · have i44 := c_nlt c44
              refine lv_iload hx hb dX6_giftAt_47 (lv_at hl 3 rfl) ?_
              refine lv_iload_n hx hb dX6_giftAt_49 rfl (lv_at hl 1 rfl) ?_
              refine s_calli (As := [.int x4_33, .int p2]) (rest := []) 2 C.1 (k_X6_nextGift l x4_33 p2) (lw_S q2172 q2173 q152 q2174) rfl rfl (by decide +kernel) ⟨Nat.le_of_ble_eq_true rfl, Nat.le_of_ble_eq_true rfl⟩ rfl hl.1 rfl (Nat.le_of_ble_eq_true rfl) ⟨Nat.le_of_ble_eq_true rfl, Nat.le_of_ble_eq_true rfl⟩ dX6_giftAt_50 h.2.2 (fun r50 H locs er50 hz1 hk1 hS1 => ?_)
              have h := h.same hk1 hS1
              clear hz1 hk1 hS1
              refine lv_istore (lv' := [(4, .int r50), (0, .ref (g.2.1 99)), (2, .int p2), (3, .int p3), (5, .int x5_33)]) hx hb dX6_giftAt_53 hl (by decide) rfl (fun ls hl => ?_)
              refine lv_iinc (v := (x5_33 + (1 : Int32))) (lv' := [(5, .int (x5_33 + (1 : Int32))), (4, .int r50), (0, .ref (g.2.1 99)), (2, .int p2), (3, .int p3)]) hx hb dX6_giftAt_55 hl (k := 4) rfl rfl (by decide) rfl (fun ls hl => ?_)
              refine lv_goto (tgt := 33) hx hb dX6_giftAt_58 (by decide) ?_
              have tt5 : (x5_33 + (1 : Int32)).toInt = (x5_33.toInt + (1)) := (i_add (rfl : x5_33.toInt = x5_33.toInt) zl1 (by omega))
              exact ih r50 (x5_33 + (1 : Int32)) _ _ _  (by first | assumption | omega) (by omega) h (lv_sub hl [2, 3, 4, 1, 0] rfl) (fun x4_33' x5_33' H locs ls en hI h hl => kk x4_33' x5_33' H locs ls ((show f_X6_giftAt_L33 σ p2 p3 (n + 1) x4_33 x5_33 = f_X6_giftAt_L33 σ p2 p3 n r50 (x5_33 + (1 : Int32)) from (by subst er50; exact ((if_neg c36).trans ((if_neg c44).trans rfl)))).trans en) hI h hl)
      refine hL33 (61) p1 (0 : Int32) _ _ _  (by first | assumption | omega) (by omega) h (lv_sub hl [2, 4, 5, 1, 0] rfl) (fun x4_33e x5_33e H locs ls eL33 hI33 h hl => ?_)
      have ex4_33e : x4_33e = (f_X6_giftAt_L33 σ p2 p3 (61) p1 (0 : Int32)).1 := by rw [eL33]
      have ex5_33e : x5_33e = (f_X6_giftAt_L33 σ p2 p3 (61) p1 (0 : Int32)).2 := by rw [eL33]
      refine lv_iload hx hb dX6_giftAt_61 (lv_at hl 1 rfl) ?_
      refine lv_ldcw hx hb hown (hts _ q1973) dX6_giftAt_63 ?_
      refine lv_icmp_le (tgt := 78) hx hb dX6_giftAt_66 (by decide) (fun c66 => ?_) (fun c66 => ?_)
      · have i66 := c_le c66
        refine lv_aload_n hx hb dX6_giftAt_78 rfl (lv_at hl 0 rfl) ?_
        refine lv_iload hx hb dX6_giftAt_79 (lv_at hl 1 rfl) ?_
        refine M_calli (As := [.int x4_33e]) (rest := []) 1 C h (k_X6_gives l g σ x4_33e) (lw_V q1806 q1808 qs91 q152 q1809) rfl rfl (by decide +kernel) ⟨Nat.le_of_ble_eq_true rfl, Nat.le_of_ble_eq_true rfl⟩ rfl hl.1 rfl (Nat.le_of_ble_eq_true rfl) ⟨Nat.le_of_ble_eq_true rfl, Nat.le_of_ble_eq_true rfl⟩ dX6_giftAt_81 (fun r81 σ81 H locs eσ81 er81 hE81 h => ?_)
        clear hE81
        have he : f_X6_giftAt σ p1 p2 p3 = (σ81, r81) := (by subst er3; subst er15; subst ex4_33e; subst ex5_33e; subst eσ81; subst er81; exact ((if_neg c6).trans ((if_neg c18).trans ((if_pos c66).trans rfl))))
        exact M_reti C h hr hlocks (congrArg Prod.fst he) (congrArg Prod.snd he) trivial dX6_giftAt_84
      · have i66 := c_nle c66
        refine lv_aload_n hx hb dX6_giftAt_69 rfl (lv_at hl 0 rfl) ?_
        refine lv_bipush (v := 7) hx hb dX6_giftAt_70 (by decide) ?_
        refine M_calli (As := [.int (7 : Int32)]) (rest := []) 1 C h (k_X6_refuse l g σ (7 : Int32)) (lw_V q1723 q1725 qs71 q152 q1726) rfl rfl (by decide +kernel) ⟨Nat.le_of_ble_eq_true rfl, Nat.le_of_ble_eq_true rfl⟩ rfl hl.1 rfl (Nat.le_of_ble_eq_true rfl) ⟨Nat.le_of_ble_eq_true rfl, Nat.le_of_ble_eq_true rfl⟩ dX6_giftAt_72 (fun r72 σ72 H locs eσ72 er72 hE72 h => ?_)
        clear hE72
        refine lv_goto (tgt := 84) hx hb dX6_giftAt_75 (by decide) ?_
        have he : f_X6_giftAt σ p1 p2 p3 = (σ72, r72) := (by subst er3; subst er15; subst ex4_33e; subst ex5_33e; subst eσ72; subst er72; exact ((if_neg c6).trans ((if_neg c18).trans ((if_neg c66).trans rfl))))
        exact M_reti C h hr hlocks (congrArg Prod.fst he) (congrArg Prod.snd he) trivial dX6_giftAt_84
    · have i18 := c_eq c18
      refine lv_aload_n hx hb dX6_giftAt_21 rfl (lv_at hl 0 rfl) ?_
      refine lv_iconst (v := 1) hx hb dX6_giftAt_22 (by decide) ?_
      refine M_calli (As := [.int (1 : Int32)]) (rest := []) 1 C h (k_X6_refuse l g σ (1 : Int32)) (lw_V q1723 q1725 qs71 q152 q1726) rfl rfl (by decide +kernel) ⟨Nat.le_of_ble_eq_true rfl, Nat.le_of_ble_eq_true rfl⟩ rfl hl.1 rfl (Nat.le_of_ble_eq_true rfl) ⟨Nat.le_of_ble_eq_true rfl, Nat.le_of_ble_eq_true rfl⟩ dX6_giftAt_23 (fun r23 σ23 H locs eσ23 er23 hE23 h => ?_)
      clear hE23
      have he : f_X6_giftAt σ p1 p2 p3 = (σ23, r23) := (by subst er3; subst er15; subst eσ23; subst er23; exact ((if_neg c6).trans ((if_pos c18).trans rfl)))
      exact M_reti C h hr hlocks (congrArg Prod.fst he) (congrArg Prod.snd he) trivial dX6_giftAt_26
def f_X6_endOf_L11 (y1_11 : Int32) (y2_11 : Int32) (y4_11 : Int32) : Nat → Int32 → Int32 → MS → Int32 × Int32 × MS
  | 0, x5_11, x6_11, σL11 => (x5_11, x6_11, σL11)
  | n + 1, x5_11, x6_11, σL11 => (let z29_ : Int32 := (if (x6_11 - ((x6_11 / (2 : Int32)) * (2 : Int32))) = (0 : Int32) then (y1_11) else (y2_11)); let t0_29 := z29_; (let r29 := (f_X6_personRow t0_29); if (ga σL11 0 (r29 + (3 : Int32))) < x5_11 then ((x5_11, x6_11, σL11)) else ((let σ46 := si σL11 27 ((gi σL11 27) + x5_11); let r53 := (f_X6_nextGift x5_11 y4_11); f_X6_endOf_L11 y1_11 y2_11 y4_11 n r53 (x6_11 + (1 : Int32)) σ46))))
def f_X6_endOf (σ : MS) (p1 : Int32) (p2 : Int32) (p3 : Int32) (p4 : Int32) : MS × Int32 := (let σ8 := si σ 27 (0 : Int32); (let zL11 := f_X6_endOf_L11 p1 p2 p4 (2101) p3 (0 : Int32) σ8; let x5_11e := zL11.1; let x6_11e := zL11.2.1; let σL11e := zL11.2.2; (σL11e, x6_11e)))
set_option maxHeartbeats 4000000 in
set_option maxRecDepth 100000 in
theorem k_X6_endOf (l : Launch) (g : GE) (σ : MS) (p1 : Int32) (p2 : Int32) (p3 : Int32) (p4 : Int32) (hp : 0 ≤ (ga σ 0 (0 : Int32)).toInt ∧ (ga σ 0 (0 : Int32)).toInt ≤ 6) (hM : ∀ x : Int32, (0 ≤ x.toInt ∧ x.toInt ≤ 5) → (ga σ 0 ((f_X6_personRow x) + (3 : Int32))).toInt ≤ 999) (h1r : 0 ≤ p1.toInt ∧ p1.toInt ≤ 5) (h2r : 0 ≤ p2.toInt ∧ p2.toInt ≤ 5) (h3p : 1 ≤ p3.toInt ∧ p3.toInt ≤ 999) (h4p : 0 ≤ p4.toInt ∧ p4.toInt ≤ 100) : Met l yX6_endOf (ws_ yX6_endOf cX6_endOf 7 (some .int)) ({ frames := 1, cells := 0, slots := 0, locals := 21 } : Room) (mPc g σ [.int p1, .int p2, .int p3, .int p4]) (mQi g (f_X6_endOf σ p1 p2 p3 p4).1 (f_X6_endOf σ p1 p2 p3 p4).2 (fun u r => ((ga u 0 (0 : Int32)).toInt = (ga σ 0 (0 : Int32)).toInt) ∧ (∀ x : Int32, (0 ≤ x.toInt ∧ x.toInt ≤ 5) → (ga u 0 ((f_X6_personRow x) + (3 : Int32))).toInt ≤ 999))) 0 0 (mA g) := by
  refine met_M (by decide) rfl (Nat.le_of_ble_eq_true rfl) ?_
  intro p e s m args below meth c C hr hlocks h ls hl
  have hx := C.1.1
  have hb := C.1.2.1
  have hml := C.1.2.2.1
  have hown := C.1.2.2.2.1
  have hts := C.1.2.2.2.2
  have hl : lv_has ls 7 [(0, .ref (g.2.1 99)), (1, .int p1), (2, .int p2), (3, .int p3), (4, .int p4)] := hl
  have hpq : (ga σ 0 (0 : Int32)).toInt = (ga σ 0 (0 : Int32)).toInt := rfl
  have zl0 : (0 : Int32).toInt = 0 := rfl
  have zl1 : (1 : Int32).toInt = 1 := rfl
  have zl2 : (2 : Int32).toInt = 2 := rfl
  have zl3 : (3 : Int32).toInt = 3 := rfl
  have zl8 : (8 : Int32).toInt = 8 := rfl
  have zl12 : (12 : Int32).toInt = 12 := rfl
  refine lv_iload_n hx hb dX6_endOf_0 rfl (lv_at hl 3 rfl) ?_
  refine lv_istore (lv' := [(5, .int p3), (0, .ref (g.2.1 99)), (1, .int p1), (2, .int p2), (3, .int p3), (4, .int p4)]) hx hb dX6_endOf_1 hl (by decide) rfl (fun ls hl => ?_)
  refine lv_iconst (v := 0) hx hb dX6_endOf_3 (by decide) ?_
  refine lv_istore (lv' := [(6, .int (0 : Int32)), (5, .int p3), (0, .ref (g.2.1 99)), (1, .int p1), (2, .int p2), (3, .int p3), (4, .int p4)]) hx hb dX6_endOf_4 hl (by decide) rfl (fun ls hl => ?_)
  refine lv_aload_n hx hb dX6_endOf_6 rfl (lv_at hl 2 rfl) ?_
  refine lv_iconst (v := 0) hx hb dX6_endOf_7 (by decide) ?_
  refine Mp_27 C h dX6_endOf_8 (fun σ8 H locs eσ8 h => ?_)
  have hNEW : (0 ≤ (ga σ8 0 (0 : Int32)).toInt ∧ (ga σ8 0 (0 : Int32)).toInt ≤ 6) ∧ (∀ x : Int32, (0 ≤ x.toInt ∧ x.toInt ≤ 5) → (ga σ8 0 ((f_X6_personRow x) + (3 : Int32))).toInt ≤ 999) ∧ ((ga σ8 0 (0 : Int32)).toInt = (ga σ 0 (0 : Int32)).toInt) := ⟨(by rw [eσ8] <;> exact hp), (by rw [eσ8] <;> exact hM), (by rw [eσ8] <;> exact hpq)⟩
  obtain ⟨hp, hM, hpq⟩ := hNEW
  have hL11 : ∀ (n : Nat) (x5_11 : Int32) (x6_11 : Int32) (σL11 : MS) (H : Heap) (locs : List Loc) (ls : Array Slot), (0 ≤ (ga σL11 0 (0 : Int32)).toInt ∧ (ga σL11 0 (0 : Int32)).toInt ≤ 6) → (∀ x : Int32, (0 ≤ x.toInt ∧ x.toInt ≤ 5) → (ga σL11 0 ((f_X6_personRow x) + (3 : Int32))).toInt ≤ 999) → ((ga σL11 0 (0 : Int32)).toInt = (ga σ 0 (0 : Int32)).toInt) → (1 ≤ x5_11.toInt ∧ x5_11.toInt ≤ 2100 ∧ 0 ≤ x6_11.toInt ∧ x6_11.toInt < x5_11.toInt) → (2100 - x5_11.toInt).toNat < n → MH g σL11 s H locs → lv_has ls 7 [(0, .ref (g.2.1 99)), (1, .int p1), (2, .int p2), (4, .int p4), (5, .int x5_11), (6, .int x6_11)] → (∀ (x5_11' : Int32) (x6_11' : Int32) (σL11' : MS) (H : Heap) (locs : List Loc) (ls : Array Slot), f_X6_endOf_L11 p1 p2 p4 n x5_11 x6_11 σL11 = (x5_11', x6_11', σL11') → (0 ≤ (ga σL11' 0 (0 : Int32)).toInt ∧ (ga σL11' 0 (0 : Int32)).toInt ≤ 6) → (∀ x : Int32, (0 ≤ x.toInt ∧ x.toInt ≤ 5) → (ga σL11' 0 ((f_X6_personRow x) + (3 : Int32))).toInt ≤ 999) → ((ga σL11' 0 (0 : Int32)).toInt = (ga σ 0 (0 : Int32)).toInt) → (1 ≤ x5_11'.toInt ∧ x5_11'.toInt ≤ 2100 ∧ 0 ≤ x6_11'.toInt ∧ x6_11'.toInt < x5_11'.toInt) → MH g σL11' s H locs → lv_has ls 7 [(6, .int x6_11')] → W p l e ({ frames := 1, cells := 0, slots := 0, locals := 21 } : Room) s m args below meth c H locs 0 0 (MQ below (mQi g (f_X6_endOf σ p1 p2 p3 p4).1 (f_X6_endOf σ p1 p2 p3 p4).2 (fun u r => ((ga u 0 (0 : Int32)).toInt = (ga σ 0 (0 : Int32)).toInt) ∧ (∀ x : Int32, (0 ≤ x.toInt ∧ x.toInt ≤ 5) → (ga u 0 ((f_X6_personRow x) + (3 : Int32))).toInt ≤ 999))) args s 0 0 (mA g)) (F0 m 64 ls [])) → W p l e ({ frames := 1, cells := 0, slots := 0, locals := 21 } : Room) s m args below meth c H locs 0 0 (MQ below (mQi g (f_X6_endOf σ p1 p2 p3 p4).1 (f_X6_endOf σ p1 p2 p3 p4).2 (fun u r => ((ga u 0 (0 : Int32)).toInt = (ga σ 0 (0 : Int32)).toInt) ∧ (∀ x : Int32, (0 ≤ x.toInt ∧ x.toInt ≤ 5) → (ga u 0 ((f_X6_personRow x) + (3 : Int32))).toInt ≤ 999))) args s 0 0 (mA g)) (F0 m 11 ls []) := by
    intro n
    induction n with
    | zero =>
      intro x5_11 x6_11 σL11 H locs ls hp hM hpq _ hm; exact absurd hm (Nat.not_lt_zero _)
    | succ n ih =>
      intro x5_11 x6_11 σL11 H locs ls hp hM hpq hI11 hm h hl kk
      refine lv_iload hx hb dX6_endOf_11 (lv_at hl 4 rfl) ?_
      refine lv_aload_n hx hb dX6_endOf_13 rfl (lv_at hl 0 rfl) ?_
      refine Mg_0 C h dX6_endOf_14 ?_
      refine lv_iload hx hb dX6_endOf_17 (lv_at hl 5 rfl) ?_
      refine lv_iconst (v := 2) hx hb dX6_endOf_19 (by decide) ?_
      refine lv_irem hx hb dX6_endOf_20 (by decide) ?_
      have j29 : ∀ (t0_29 : Int32) (H : Heap) (locs : List Loc) (ls : Array Slot) (ej29 : (if (x6_11 - ((x6_11 / (2 : Int32)) * (2 : Int32))) = (0 : Int32) then (p1) else (p2)) = t0_29) (hI29 : 0 ≤ t0_29.toInt ∧ t0_29.toInt ≤ 5) (h : MH g σL11 s H locs) (hl : lv_has ls 7 [(0, .ref (g.2.1 99)), (1, .int p1), (2, .int p2), (4, .int p4), (5, .int x5_11), (6, .int x6_11)]), W p l e ({ frames := 1, cells := 0, slots := 0, locals := 21 } : Room) s m args below meth c H locs 0 0 (MQ below (mQi g (f_X6_endOf σ p1 p2 p3 p4).1 (f_X6_endOf σ p1 p2 p3 p4).2 (fun u r => ((ga u 0 (0 : Int32)).toInt = (ga σ 0 (0 : Int32)).toInt) ∧ (∀ x : Int32, (0 ≤ x.toInt ∧ x.toInt ≤ 5) → (ga u 0 ((f_X6_personRow x) + (3 : Int32))).toInt ≤ 999))) args s 0 0 (mA g)) (F0 m 29 ls [.int t0_29, .ref (g.2.1 0), .int x5_11]) := by
        intro t0_29 H locs ls ej29 hI29 h hl
        have et0_29 := ej29.symm
        refine s_calli (As := [.int t0_29]) (rest := [.ref (g.2.1 0), .int x5_11]) 1 C.1 (k_X6_personRow l t0_29) (lw_S q1857 q1858 q152 q1859) rfl rfl (by decide +kernel) ⟨Nat.le_of_ble_eq_true rfl, Nat.le_of_ble_eq_true rfl⟩ rfl hl.1 rfl (Nat.le_of_ble_eq_true rfl) ⟨Nat.le_of_ble_eq_true rfl, Nat.le_of_ble_eq_true rfl⟩ dX6_endOf_29 h.2.2 (fun r29 H locs er29 hz1 hk1 hS1 => ?_)
        have h := h.same hk1 hS1
        clear hz1 hk1 hS1
        have tr29 : r29.toInt = ((12) + ((8) * t0_29.toInt)) := by rw [er29]; exact (i_add zl12 (i_mul zl8 (rfl : t0_29.toInt = t0_29.toInt) (by omega)) (by omega))
        have hmm := hM t0_29 hI29
        rw [← er29] at hmm
        refine lv_iconst (v := 3) hx hb dX6_endOf_32 (by decide) ?_
        refine lv_iadd hx hb dX6_endOf_33 ?_
        refine Ml_0 C h (ix_of (i_add tr29 zl3 (by omega)) (by omega)) dX6_endOf_34 ?_
        refine lv_icmp_gt (tgt := 64) hx hb dX6_endOf_35 (by decide) (fun c35 => ?_) (fun c35 => ?_)
        · have i35 := c_lt c35
          exact kk x5_11 x6_11 σL11 _ _ _ (show f_X6_endOf_L11 p1 p2 p4 (n + 1) x5_11 x6_11 σL11 = (x5_11, x6_11, σL11) from (by subst et0_29; subst er29; exact ((if_pos c35).trans rfl))) hp hM hpq (by first | assumption | omega) h (lv_sub hl [5] rfl)
        · have i35 := c_nlt c35
          refine lv_aload_n hx hb dX6_endOf_38 rfl (lv_at hl 0 rfl) ?_
          refine lv_dup hx hb dX6_endOf_39 rfl ?_
          refine Mg_27 C h dX6_endOf_40 ?_
          refine lv_iload hx hb dX6_endOf_43 (lv_at hl 4 rfl) ?_
          refine lv_iadd hx hb dX6_endOf_45 ?_
          refine Mp_27 C h dX6_endOf_46 (fun σ46 H locs eσ46 h => ?_)
          have hNEW : (0 ≤ (ga σ46 0 (0 : Int32)).toInt ∧ (ga σ46 0 (0 : Int32)).toInt ≤ 6) ∧ (∀ x : Int32, (0 ≤ x.toInt ∧ x.toInt ≤ 5) → (ga σ46 0 ((f_X6_personRow x) + (3 : Int32))).toInt ≤ 999) ∧ ((ga σ46 0 (0 : Int32)).toInt = (ga σ 0 (0 : Int32)).toInt) := ⟨(by rw [eσ46] <;> exact hp), (by rw [eσ46] <;> exact hM), (by rw [eσ46] <;> exact hpq)⟩
          obtain ⟨hp, hM, hpq⟩ := hNEW
          refine lv_iload hx hb dX6_endOf_49 (lv_at hl 4 rfl) ?_
          refine lv_iload hx hb dX6_endOf_51 (lv_at hl 3 rfl) ?_
          refine s_calli (As := [.int x5_11, .int p4]) (rest := []) 2 C.1 (k_X6_nextGift l x5_11 p4) (lw_S q2172 q2173 q152 q2174) rfl rfl (by decide +kernel) ⟨Nat.le_of_ble_eq_true rfl, Nat.le_of_ble_eq_true rfl⟩ rfl hl.1 rfl (Nat.le_of_ble_eq_true rfl) ⟨Nat.le_of_ble_eq_true rfl, Nat.le_of_ble_eq_true rfl⟩ dX6_endOf_53 h.2.2 (fun r53 H locs er53 hz1 hk1 hS1 => ?_)
          have h := h.same hk1 hS1
          clear hz1 hk1 hS1
          have ng := nextGift_rng (by omega) (by omega) er53
          refine lv_istore (lv' := [(5, .int r53), (0, .ref (g.2.1 99)), (1, .int p1), (2, .int p2), (4, .int p4), (6, .int x6_11)]) hx hb dX6_endOf_56 hl (by decide) rfl (fun ls hl => ?_)
          refine lv_iinc (v := (x6_11 + (1 : Int32))) (lv' := [(6, .int (x6_11 + (1 : Int32))), (5, .int r53), (0, .ref (g.2.1 99)), (1, .int p1), (2, .int p2), (4, .int p4)]) hx hb dX6_endOf_58 hl (k := 5) rfl rfl (by decide) rfl (fun ls hl => ?_)
          refine lv_goto (tgt := 11) hx hb dX6_endOf_61 (by decide) ?_
          have tt6 : (x6_11 + (1 : Int32)).toInt = (x6_11.toInt + (1)) := (i_add (rfl : x6_11.toInt = x6_11.toInt) zl1 (by omega))
          exact ih r53 (x6_11 + (1 : Int32)) σ46 _ _ _ hp hM hpq (by first | assumption | omega) (by omega) h (lv_sub hl [2, 3, 4, 5, 1, 0] rfl) (fun x5_11' x6_11' σL11' H locs ls en hp hM hpq hI h hl => kk x5_11' x6_11' σL11' H locs ls ((show f_X6_endOf_L11 p1 p2 p4 (n + 1) x5_11 x6_11 σL11 = f_X6_endOf_L11 p1 p2 p4 n r53 (x6_11 + (1 : Int32)) σ46 from (by subst et0_29; subst er29; subst eσ46; subst er53; exact ((if_neg c35).trans rfl))).trans en) hp hM hpq hI h hl)
      refine lv_if_ne (tgt := 28) hx hb dX6_endOf_21 (by decide) (fun c21 => ?_) (fun c21 => ?_)
      · have i21 := c_ne c21
        refine lv_iload_n hx hb dX6_endOf_28 rfl (lv_at hl 2 rfl) ?_
        exact j29 _ _ _ _ (by exact ((if_neg c21).trans rfl)) (by first | assumption | omega) h hl
      · have i21 := c_eq c21
        refine lv_iload_n hx hb dX6_endOf_24 rfl (lv_at hl 1 rfl) ?_
        refine lv_goto (tgt := 29) hx hb dX6_endOf_25 (by decide) ?_
        exact j29 _ _ _ _ (by exact ((if_pos c21).trans rfl)) (by first | assumption | omega) h hl
  refine hL11 (2101) p3 (0 : Int32) σ8 _ _ _ hp hM hpq (by first | assumption | omega) (by omega) h (lv_sub hl [2, 3, 4, 6, 1, 0] rfl) (fun x5_11e x6_11e σL11e H locs ls eL11 hp hM hpq hI11 h hl => ?_)
  have ex5_11e : x5_11e = (f_X6_endOf_L11 p1 p2 p4 (2101) p3 (0 : Int32) σ8).1 := by rw [eL11]
  have ex6_11e : x6_11e = (f_X6_endOf_L11 p1 p2 p4 (2101) p3 (0 : Int32) σ8).2.1 := by rw [eL11]
  have eσL11e : σL11e = (f_X6_endOf_L11 p1 p2 p4 (2101) p3 (0 : Int32) σ8).2.2 := by rw [eL11]
  refine lv_iload hx hb dX6_endOf_64 (lv_at hl 0 rfl) ?_
  have he : f_X6_endOf σ p1 p2 p3 p4 = (σL11e, x6_11e) := (by subst eσ8; subst ex5_11e; subst ex6_11e; subst eσL11e; exact rfl)
  exact M_reti C h hr hlocks (congrArg Prod.fst he) (congrArg Prod.snd he) ⟨hpq, (by first | assumption | omega | (unfold Hd; omega))⟩ dX6_endOf_66
def f_X6_ends (σ : MS) (p1 : Int32) (p2 : Int32) (p3 : Int32) (p4 : Int32) : MS × Int32 := (let r3 := (f_X6_areTwo σ p1 p2); if r3 = (0 : Int32) then ((let z37 := (f_X6_refuse σ (1 : Int32)); let σ37 := z37.1; let r37 := z37.2; (σ37, r37))) else ((let r13 := (f_X6_areGifts σ p3 p4); if r13 = (0 : Int32) then ((let z37 := (f_X6_refuse σ (1 : Int32)); let σ37 := z37.1; let r37 := z37.2; (σ37, r37))) else ((let z26 := (f_X6_endOf σ p1 p2 p3 p4); let σ26 := z26.1; let r26 := z26.2; let z29 := (f_X6_gives σ26 r26); let σ29 := z29.1; let r29 := z29.2; (σ29, r29))))))
set_option maxHeartbeats 4000000 in
set_option maxRecDepth 100000 in
theorem k_X6_ends (l : Launch) (g : GE) (σ : MS) (p1 : Int32) (p2 : Int32) (p3 : Int32) (p4 : Int32) (hp : 0 ≤ (ga σ 0 (0 : Int32)).toInt ∧ (ga σ 0 (0 : Int32)).toInt ≤ 6) (hM : ∀ x : Int32, (0 ≤ x.toInt ∧ x.toInt ≤ 5) → (ga σ 0 ((f_X6_personRow x) + (3 : Int32))).toInt ≤ 999) : Met l yX6_ends (ws_ yX6_ends cX6_ends 5 (some .int)) ({ frames := 2, cells := 0, slots := 0, locals := 47 } : Room) (mPc g σ [.int p1, .int p2, .int p3, .int p4]) (mQi g (f_X6_ends σ p1 p2 p3 p4).1 (f_X6_ends σ p1 p2 p3 p4).2 (fun u r => ((ga u 0 (0 : Int32)).toInt = (ga σ 0 (0 : Int32)).toInt))) 0 0 (mA g) := by
  refine met_M (by decide) rfl (Nat.le_of_ble_eq_true rfl) ?_
  intro p e s m args below meth c C hr hlocks h ls hl
  have hx := C.1.1
  have hb := C.1.2.1
  have hml := C.1.2.2.1
  have hown := C.1.2.2.2.1
  have hts := C.1.2.2.2.2
  have hl : lv_has ls 5 [(0, .ref (g.2.1 99)), (1, .int p1), (2, .int p2), (3, .int p3), (4, .int p4)] := hl
  have hpq : (ga σ 0 (0 : Int32)).toInt = (ga σ 0 (0 : Int32)).toInt := rfl
  have zl0 : (0 : Int32).toInt = 0 := rfl
  have zl1 : (1 : Int32).toInt = 1 := rfl
  refine lv_aload_n hx hb dX6_ends_0 rfl (lv_at hl 0 rfl) ?_
  refine lv_iload_n hx hb dX6_ends_1 rfl (lv_at hl 1 rfl) ?_
  refine lv_iload_n hx hb dX6_ends_2 rfl (lv_at hl 2 rfl) ?_
  refine M_callz (As := [.int p1, .int p2]) (rest := []) 2 C h (k_X6_areTwo l g σ p1 p2) (lw_V q1998 q2000 qs113 q152 q2001) rfl rfl (by decide +kernel) ⟨Nat.le_of_ble_eq_true rfl, Nat.le_of_ble_eq_true rfl⟩ rfl hl.1 rfl (Nat.le_of_ble_eq_true rfl) ⟨Nat.le_of_ble_eq_true rfl, Nat.le_of_ble_eq_true rfl⟩ dX6_ends_3 (fun r3 σ3 H locs eσ3 er3 br3 hE3 h => ?_)
  rw [eσ3] at h
  clear hE3
  clear eσ3
  refine lv_if_eq (tgt := 35) hx hb dX6_ends_6 (by decide) (fun c6 => ?_) (fun c6 => ?_)
  · have i6 := c_eq c6
    refine lv_aload_n hx hb dX6_ends_35 rfl (lv_at hl 0 rfl) ?_
    refine lv_iconst (v := 1) hx hb dX6_ends_36 (by decide) ?_
    refine M_calli (As := [.int (1 : Int32)]) (rest := []) 1 C h (k_X6_refuse l g σ (1 : Int32)) (lw_V q1723 q1725 qs71 q152 q1726) rfl rfl (by decide +kernel) ⟨Nat.le_of_ble_eq_true rfl, Nat.le_of_ble_eq_true rfl⟩ rfl hl.1 rfl (Nat.le_of_ble_eq_true rfl) ⟨Nat.le_of_ble_eq_true rfl, Nat.le_of_ble_eq_true rfl⟩ dX6_ends_37 (fun r37 σ37 H locs eσ37 er37 hE37 h => ?_)
    clear hE37
    have hNEW : (0 ≤ (ga σ37 0 (0 : Int32)).toInt ∧ (ga σ37 0 (0 : Int32)).toInt ≤ 6) ∧ (∀ x : Int32, (0 ≤ x.toInt ∧ x.toInt ≤ 5) → (ga σ37 0 ((f_X6_personRow x) + (3 : Int32))).toInt ≤ 999) ∧ ((ga σ37 0 (0 : Int32)).toInt = (ga σ 0 (0 : Int32)).toInt) := ⟨(by rw [eσ37, refuse_s] <;> exact hp), (by rw [eσ37, refuse_s] <;> exact hM), (by rw [eσ37, refuse_s] <;> exact hpq)⟩
    obtain ⟨hp, hM, hpq⟩ := hNEW
    have he : f_X6_ends σ p1 p2 p3 p4 = (σ37, r37) := (by subst er3; subst eσ37; subst er37; exact ((if_pos c6).trans rfl))
    exact M_reti C h hr hlocks (congrArg Prod.fst he) (congrArg Prod.snd he) hpq dX6_ends_40
  · have i6 := c_ne c6
    have okr3 := areTwo_ok er3 c6
    refine lv_aload_n hx hb dX6_ends_9 rfl (lv_at hl 0 rfl) ?_
    refine lv_iload_n hx hb dX6_ends_10 rfl (lv_at hl 3 rfl) ?_
    refine lv_iload hx hb dX6_ends_11 (lv_at hl 4 rfl) ?_
    refine M_callz (As := [.int p3, .int p4]) (rest := []) 2 C h (k_X6_areGifts l g σ p3 p4) (lw_V q2166 q2168 qs131 q152 q2169) rfl rfl (by decide +kernel) ⟨Nat.le_of_ble_eq_true rfl, Nat.le_of_ble_eq_true rfl⟩ rfl hl.1 rfl (Nat.le_of_ble_eq_true rfl) ⟨Nat.le_of_ble_eq_true rfl, Nat.le_of_ble_eq_true rfl⟩ dX6_ends_13 (fun r13 σ13 H locs eσ13 er13 br13 hE13 h => ?_)
    rw [eσ13] at h
    clear hE13
    clear eσ13
    refine lv_if_eq (tgt := 35) hx hb dX6_ends_16 (by decide) (fun c16 => ?_) (fun c16 => ?_)
    · have i16 := c_eq c16
      refine lv_aload_n hx hb dX6_ends_35 rfl (lv_at hl 0 rfl) ?_
      refine lv_iconst (v := 1) hx hb dX6_ends_36 (by decide) ?_
      refine M_calli (As := [.int (1 : Int32)]) (rest := []) 1 C h (k_X6_refuse l g σ (1 : Int32)) (lw_V q1723 q1725 qs71 q152 q1726) rfl rfl (by decide +kernel) ⟨Nat.le_of_ble_eq_true rfl, Nat.le_of_ble_eq_true rfl⟩ rfl hl.1 rfl (Nat.le_of_ble_eq_true rfl) ⟨Nat.le_of_ble_eq_true rfl, Nat.le_of_ble_eq_true rfl⟩ dX6_ends_37 (fun r37 σ37 H locs eσ37 er37 hE37 h => ?_)
      clear hE37
      have hNEW : (0 ≤ (ga σ37 0 (0 : Int32)).toInt ∧ (ga σ37 0 (0 : Int32)).toInt ≤ 6) ∧ (∀ x : Int32, (0 ≤ x.toInt ∧ x.toInt ≤ 5) → (ga σ37 0 ((f_X6_personRow x) + (3 : Int32))).toInt ≤ 999) ∧ ((ga σ37 0 (0 : Int32)).toInt = (ga σ 0 (0 : Int32)).toInt) := ⟨(by rw [eσ37, refuse_s] <;> exact hp), (by rw [eσ37, refuse_s] <;> exact hM), (by rw [eσ37, refuse_s] <;> exact hpq)⟩
      obtain ⟨hp, hM, hpq⟩ := hNEW
      have he : f_X6_ends σ p1 p2 p3 p4 = (σ37, r37) := (by subst er3; subst er13; subst eσ37; subst er37; exact ((if_neg c6).trans ((if_pos c16).trans rfl)))
      exact M_reti C h hr hlocks (congrArg Prod.fst he) (congrArg Prod.snd he) hpq dX6_ends_40
    · have i16 := c_ne c16
      have okr13 := areGifts_ok er13 c16
      refine lv_aload_n hx hb dX6_ends_19 rfl (lv_at hl 0 rfl) ?_
      refine lv_aload_n hx hb dX6_ends_20 rfl (lv_at hl 0 rfl) ?_
      refine lv_iload_n hx hb dX6_ends_21 rfl (lv_at hl 1 rfl) ?_
      refine lv_iload_n hx hb dX6_ends_22 rfl (lv_at hl 2 rfl) ?_
      refine lv_iload_n hx hb dX6_ends_23 rfl (lv_at hl 3 rfl) ?_
      refine lv_iload hx hb dX6_ends_24 (lv_at hl 4 rfl) ?_
      refine M_calli (As := [.int p1, .int p2, .int p3, .int p4]) (rest := [.ref (g.2.1 99)]) 4 C h (k_X6_endOf l g σ p1 p2 p3 p4 (by first | assumption | omega) (by first | assumption | omega) (by first | assumption | omega) (by first | assumption | omega) (by first | assumption | omega) (by first | assumption | omega)) (lw_V q2179 q2181 qs132 q152 q2182) rfl rfl (by decide +kernel) ⟨Nat.le_of_ble_eq_true rfl, Nat.le_of_ble_eq_true rfl⟩ rfl hl.1 rfl (Nat.le_of_ble_eq_true rfl) ⟨Nat.le_of_ble_eq_true rfl, Nat.le_of_ble_eq_true rfl⟩ dX6_ends_26 (fun r26 σ26 H locs eσ26 er26 hE26 h => ?_)
      have hE26 : ((ga σ26 0 (0 : Int32)).toInt = (ga σ 0 (0 : Int32)).toInt) ∧ (∀ x : Int32, (0 ≤ x.toInt ∧ x.toInt ≤ 5) → (ga σ26 0 ((f_X6_personRow x) + (3 : Int32))).toInt ≤ 999) := hE26
      obtain ⟨hpq_26, hM_26⟩ := hE26
      have hNEW : (0 ≤ (ga σ26 0 (0 : Int32)).toInt ∧ (ga σ26 0 (0 : Int32)).toInt ≤ 6) ∧ (∀ x : Int32, (0 ≤ x.toInt ∧ x.toInt ≤ 5) → (ga σ26 0 ((f_X6_personRow x) + (3 : Int32))).toInt ≤ 999) ∧ ((ga σ26 0 (0 : Int32)).toInt = (ga σ 0 (0 : Int32)).toInt) := ⟨(by first | assumption | omega), (by first | assumption | omega), (by first | assumption | omega)⟩
      obtain ⟨hp, hM, hpq⟩ := hNEW
      refine M_calli (As := [.int r26]) (rest := []) 1 C h (k_X6_gives l g σ26 r26) (lw_V q1806 q1808 qs91 q152 q1809) rfl rfl (by decide +kernel) ⟨Nat.le_of_ble_eq_true rfl, Nat.le_of_ble_eq_true rfl⟩ rfl hl.1 rfl (Nat.le_of_ble_eq_true rfl) ⟨Nat.le_of_ble_eq_true rfl, Nat.le_of_ble_eq_true rfl⟩ dX6_ends_29 (fun r29 σ29 H locs eσ29 er29 hE29 h => ?_)
      clear hE29
      have hNEW : (0 ≤ (ga σ29 0 (0 : Int32)).toInt ∧ (ga σ29 0 (0 : Int32)).toInt ≤ 6) ∧ (∀ x : Int32, (0 ≤ x.toInt ∧ x.toInt ≤ 5) → (ga σ29 0 ((f_X6_personRow x) + (3 : Int32))).toInt ≤ 999) ∧ ((ga σ29 0 (0 : Int32)).toInt = (ga σ 0 (0 : Int32)).toInt) := ⟨(by rw [eσ29, gives_s] <;> exact hp), (by rw [eσ29, gives_s] <;> exact hM), (by rw [eσ29, gives_s] <;> exact hpq)⟩
      clear hp hM hpq
      obtain ⟨hp, hM, hpq⟩ := hNEW
      refine lv_goto (tgt := 40) hx hb dX6_ends_32 (by decide) ?_
      have he : f_X6_ends σ p1 p2 p3 p4 = (σ29, r29) := (by subst er3; subst er13; subst eσ26; subst er26; subst eσ29; subst er29; exact ((if_neg c6).trans ((if_neg c16).trans rfl)))
      exact M_reti C h hr hlocks (congrArg Prod.fst he) (congrArg Prod.snd he) hpq dX6_ends_40
def f_X6_wasted (σ : MS) (p1 : Int32) (p2 : Int32) (p3 : Int32) (p4 : Int32) : MS × Int32 := (let r3 := (f_X6_areTwo σ p1 p2); if r3 = (0 : Int32) then ((let z21 := (f_X6_refuse σ (1 : Int32)); let σ21 := z21.1; let r21 := z21.2; (σ21, r21))) else ((let r13 := (f_X6_areGifts σ p3 p4); if r13 = (0 : Int32) then ((let z21 := (f_X6_refuse σ (1 : Int32)); let σ21 := z21.1; let r21 := z21.2; (σ21, r21))) else ((let z31 := (f_X6_endOf σ p1 p2 p3 p4); let σ31 := z31.1; let r31 := z31.2; let z40 := (f_X6_gives σ31 (gi σ31 27)); let σ40 := z40.1; let r40 := z40.2; (σ40, r40))))))
set_option maxHeartbeats 4000000 in
set_option maxRecDepth 100000 in
theorem k_X6_wasted (l : Launch) (g : GE) (σ : MS) (p1 : Int32) (p2 : Int32) (p3 : Int32) (p4 : Int32) (hp : 0 ≤ (ga σ 0 (0 : Int32)).toInt ∧ (ga σ 0 (0 : Int32)).toInt ≤ 6) (hM : ∀ x : Int32, (0 ≤ x.toInt ∧ x.toInt ≤ 5) → (ga σ 0 ((f_X6_personRow x) + (3 : Int32))).toInt ≤ 999) : Met l yX6_wasted (ws_ yX6_wasted cX6_wasted 5 (some .int)) ({ frames := 2, cells := 0, slots := 0, locals := 47 } : Room) (mPc g σ [.int p1, .int p2, .int p3, .int p4]) (mQi g (f_X6_wasted σ p1 p2 p3 p4).1 (f_X6_wasted σ p1 p2 p3 p4).2 (fun u r => ((ga u 0 (0 : Int32)).toInt = (ga σ 0 (0 : Int32)).toInt))) 0 0 (mA g) := by
  refine met_M (by decide) rfl (Nat.le_of_ble_eq_true rfl) ?_
  intro p e s m args below meth c C hr hlocks h ls hl
  have hx := C.1.1
  have hb := C.1.2.1
  have hml := C.1.2.2.1
  have hown := C.1.2.2.2.1
  have hts := C.1.2.2.2.2
  have hl : lv_has ls 5 [(0, .ref (g.2.1 99)), (1, .int p1), (2, .int p2), (3, .int p3), (4, .int p4)] := hl
  have hpq : (ga σ 0 (0 : Int32)).toInt = (ga σ 0 (0 : Int32)).toInt := rfl
  have zl0 : (0 : Int32).toInt = 0 := rfl
  have zl1 : (1 : Int32).toInt = 1 := rfl
  refine lv_aload_n hx hb dX6_wasted_0 rfl (lv_at hl 0 rfl) ?_
  refine lv_iload_n hx hb dX6_wasted_1 rfl (lv_at hl 1 rfl) ?_
  refine lv_iload_n hx hb dX6_wasted_2 rfl (lv_at hl 2 rfl) ?_
  refine M_callz (As := [.int p1, .int p2]) (rest := []) 2 C h (k_X6_areTwo l g σ p1 p2) (lw_V q1998 q2000 qs113 q152 q2001) rfl rfl (by decide +kernel) ⟨Nat.le_of_ble_eq_true rfl, Nat.le_of_ble_eq_true rfl⟩ rfl hl.1 rfl (Nat.le_of_ble_eq_true rfl) ⟨Nat.le_of_ble_eq_true rfl, Nat.le_of_ble_eq_true rfl⟩ dX6_wasted_3 (fun r3 σ3 H locs eσ3 er3 br3 hE3 h => ?_)
  rw [eσ3] at h
  clear hE3
  clear eσ3
  refine lv_if_eq (tgt := 19) hx hb dX6_wasted_6 (by decide) (fun c6 => ?_) (fun c6 => ?_)
  · have i6 := c_eq c6
    refine lv_aload_n hx hb dX6_wasted_19 rfl (lv_at hl 0 rfl) ?_
    refine lv_iconst (v := 1) hx hb dX6_wasted_20 (by decide) ?_
    refine M_calli (As := [.int (1 : Int32)]) (rest := []) 1 C h (k_X6_refuse l g σ (1 : Int32)) (lw_V q1723 q1725 qs71 q152 q1726) rfl rfl (by decide +kernel) ⟨Nat.le_of_ble_eq_true rfl, Nat.le_of_ble_eq_true rfl⟩ rfl hl.1 rfl (Nat.le_of_ble_eq_true rfl) ⟨Nat.le_of_ble_eq_true rfl, Nat.le_of_ble_eq_true rfl⟩ dX6_wasted_21 (fun r21 σ21 H locs eσ21 er21 hE21 h => ?_)
    clear hE21
    have hNEW : (0 ≤ (ga σ21 0 (0 : Int32)).toInt ∧ (ga σ21 0 (0 : Int32)).toInt ≤ 6) ∧ (∀ x : Int32, (0 ≤ x.toInt ∧ x.toInt ≤ 5) → (ga σ21 0 ((f_X6_personRow x) + (3 : Int32))).toInt ≤ 999) ∧ ((ga σ21 0 (0 : Int32)).toInt = (ga σ 0 (0 : Int32)).toInt) := ⟨(by rw [eσ21, refuse_s] <;> exact hp), (by rw [eσ21, refuse_s] <;> exact hM), (by rw [eσ21, refuse_s] <;> exact hpq)⟩
    obtain ⟨hp, hM, hpq⟩ := hNEW
    have he : f_X6_wasted σ p1 p2 p3 p4 = (σ21, r21) := (by subst er3; subst eσ21; subst er21; exact ((if_pos c6).trans rfl))
    exact M_reti C h hr hlocks (congrArg Prod.fst he) (congrArg Prod.snd he) hpq dX6_wasted_24
  · have i6 := c_ne c6
    have okr3 := areTwo_ok er3 c6
    refine lv_aload_n hx hb dX6_wasted_9 rfl (lv_at hl 0 rfl) ?_
    refine lv_iload_n hx hb dX6_wasted_10 rfl (lv_at hl 3 rfl) ?_
    refine lv_iload hx hb dX6_wasted_11 (lv_at hl 4 rfl) ?_
    refine M_callz (As := [.int p3, .int p4]) (rest := []) 2 C h (k_X6_areGifts l g σ p3 p4) (lw_V q2166 q2168 qs131 q152 q2169) rfl rfl (by decide +kernel) ⟨Nat.le_of_ble_eq_true rfl, Nat.le_of_ble_eq_true rfl⟩ rfl hl.1 rfl (Nat.le_of_ble_eq_true rfl) ⟨Nat.le_of_ble_eq_true rfl, Nat.le_of_ble_eq_true rfl⟩ dX6_wasted_13 (fun r13 σ13 H locs eσ13 er13 br13 hE13 h => ?_)
    rw [eσ13] at h
    clear hE13
    clear eσ13
    refine lv_if_ne (tgt := 25) hx hb dX6_wasted_16 (by decide) (fun c16 => ?_) (fun c16 => ?_)
    · have i16 := c_ne c16
      have okr13 := areGifts_ok er13 c16
      refine lv_aload_n hx hb dX6_wasted_25 rfl (lv_at hl 0 rfl) ?_
      refine lv_iload_n hx hb dX6_wasted_26 rfl (lv_at hl 1 rfl) ?_
      refine lv_iload_n hx hb dX6_wasted_27 rfl (lv_at hl 2 rfl) ?_
      refine lv_iload_n hx hb dX6_wasted_28 rfl (lv_at hl 3 rfl) ?_
      refine lv_iload hx hb dX6_wasted_29 (lv_at hl 4 rfl) ?_
      refine M_calli (As := [.int p1, .int p2, .int p3, .int p4]) (rest := []) 4 C h (k_X6_endOf l g σ p1 p2 p3 p4 (by first | assumption | omega) (by first | assumption | omega) (by first | assumption | omega) (by first | assumption | omega) (by first | assumption | omega) (by first | assumption | omega)) (lw_V q2179 q2181 qs132 q152 q2182) rfl rfl (by decide +kernel) ⟨Nat.le_of_ble_eq_true rfl, Nat.le_of_ble_eq_true rfl⟩ rfl hl.1 rfl (Nat.le_of_ble_eq_true rfl) ⟨Nat.le_of_ble_eq_true rfl, Nat.le_of_ble_eq_true rfl⟩ dX6_wasted_31 (fun r31 σ31 H locs eσ31 er31 hE31 h => ?_)
      have hE31 : ((ga σ31 0 (0 : Int32)).toInt = (ga σ 0 (0 : Int32)).toInt) ∧ (∀ x : Int32, (0 ≤ x.toInt ∧ x.toInt ≤ 5) → (ga σ31 0 ((f_X6_personRow x) + (3 : Int32))).toInt ≤ 999) := hE31
      obtain ⟨hpq_31, hM_31⟩ := hE31
      have hNEW : (0 ≤ (ga σ31 0 (0 : Int32)).toInt ∧ (ga σ31 0 (0 : Int32)).toInt ≤ 6) ∧ (∀ x : Int32, (0 ≤ x.toInt ∧ x.toInt ≤ 5) → (ga σ31 0 ((f_X6_personRow x) + (3 : Int32))).toInt ≤ 999) ∧ ((ga σ31 0 (0 : Int32)).toInt = (ga σ 0 (0 : Int32)).toInt) := ⟨(by first | assumption | omega), (by first | assumption | omega), (by first | assumption | omega)⟩
      obtain ⟨hp, hM, hpq⟩ := hNEW
      refine lv_pop hx hb dX6_wasted_34 rfl ?_
      refine lv_aload_n hx hb dX6_wasted_35 rfl (lv_at hl 0 rfl) ?_
      refine lv_aload_n hx hb dX6_wasted_36 rfl (lv_at hl 0 rfl) ?_
      refine Mg_27 C h dX6_wasted_37 ?_
      refine M_calli (As := [.int (gi σ31 27)]) (rest := []) 1 C h (k_X6_gives l g σ31 (gi σ31 27)) (lw_V q1806 q1808 qs91 q152 q1809) rfl rfl (by decide +kernel) ⟨Nat.le_of_ble_eq_true rfl, Nat.le_of_ble_eq_true rfl⟩ rfl hl.1 rfl (Nat.le_of_ble_eq_true rfl) ⟨Nat.le_of_ble_eq_true rfl, Nat.le_of_ble_eq_true rfl⟩ dX6_wasted_40 (fun r40 σ40 H locs eσ40 er40 hE40 h => ?_)
      clear hE40
      have hNEW : (0 ≤ (ga σ40 0 (0 : Int32)).toInt ∧ (ga σ40 0 (0 : Int32)).toInt ≤ 6) ∧ (∀ x : Int32, (0 ≤ x.toInt ∧ x.toInt ≤ 5) → (ga σ40 0 ((f_X6_personRow x) + (3 : Int32))).toInt ≤ 999) ∧ ((ga σ40 0 (0 : Int32)).toInt = (ga σ 0 (0 : Int32)).toInt) := ⟨(by rw [eσ40, gives_s] <;> exact hp), (by rw [eσ40, gives_s] <;> exact hM), (by rw [eσ40, gives_s] <;> exact hpq)⟩
      clear hp hM hpq
      obtain ⟨hp, hM, hpq⟩ := hNEW
      have he : f_X6_wasted σ p1 p2 p3 p4 = (σ40, r40) := (by subst er3; subst er13; subst eσ31; subst er31; subst eσ40; subst er40; exact ((if_neg c6).trans ((if_neg c16).trans rfl)))
      exact M_reti C h hr hlocks (congrArg Prod.fst he) (congrArg Prod.snd he) hpq dX6_wasted_43
    · have i16 := c_eq c16
      refine lv_aload_n hx hb dX6_wasted_19 rfl (lv_at hl 0 rfl) ?_
      refine lv_iconst (v := 1) hx hb dX6_wasted_20 (by decide) ?_
      refine M_calli (As := [.int (1 : Int32)]) (rest := []) 1 C h (k_X6_refuse l g σ (1 : Int32)) (lw_V q1723 q1725 qs71 q152 q1726) rfl rfl (by decide +kernel) ⟨Nat.le_of_ble_eq_true rfl, Nat.le_of_ble_eq_true rfl⟩ rfl hl.1 rfl (Nat.le_of_ble_eq_true rfl) ⟨Nat.le_of_ble_eq_true rfl, Nat.le_of_ble_eq_true rfl⟩ dX6_wasted_21 (fun r21 σ21 H locs eσ21 er21 hE21 h => ?_)
      clear hE21
      have hNEW : (0 ≤ (ga σ21 0 (0 : Int32)).toInt ∧ (ga σ21 0 (0 : Int32)).toInt ≤ 6) ∧ (∀ x : Int32, (0 ≤ x.toInt ∧ x.toInt ≤ 5) → (ga σ21 0 ((f_X6_personRow x) + (3 : Int32))).toInt ≤ 999) ∧ ((ga σ21 0 (0 : Int32)).toInt = (ga σ 0 (0 : Int32)).toInt) := ⟨(by rw [eσ21, refuse_s] <;> exact hp), (by rw [eσ21, refuse_s] <;> exact hM), (by rw [eσ21, refuse_s] <;> exact hpq)⟩
      obtain ⟨hp, hM, hpq⟩ := hNEW
      have he : f_X6_wasted σ p1 p2 p3 p4 = (σ21, r21) := (by subst er3; subst er13; subst eσ21; subst er21; exact ((if_neg c6).trans ((if_pos c16).trans rfl)))
      exact M_reti C h hr hlocks (congrArg Prod.fst he) (congrArg Prod.snd he) hpq dX6_wasted_24
