/-! walks of methods by contract, printed by gen/mkwalk.py -/
set_option maxRecDepth 100000
def f_X6_wrongPlace (σ : MS) (p1 : Int32) (p2 : Int32) : Int32 := (let r1 := (f_X6_isTray p1); if r1 = (0 : Int32) then ((1 : Int32)) else (if (ga σ 6 p1) = (-1 : Int32) then ((2 : Int32)) else (if p2 < (0 : Int32) then ((3 : Int32)) else (if p2 < (ga σ 6 p1) then ((0 : Int32)) else ((3 : Int32))))))
set_option maxHeartbeats 4000000 in
set_option maxRecDepth 100000 in
theorem k_X6_wrongPlace (l : Launch) (g : GE) (σ : MS) (p1 : Int32) (p2 : Int32) (hT : ∀ t : Int32, (0 ≤ t.toInt ∧ t.toInt ≤ 3) → -1 ≤ (ga σ 6 t).toInt ∧ (ga σ 6 t).toInt ≤ 60) : Met l yX6_wrongPlace (ws_ yX6_wrongPlace cX6_wrongPlace 3 (some .int)) ({ frames := 1, cells := 0, slots := 0, locals := 20 } : Room) (mPc g σ [.int p1, .int p2]) (mQi g σ (f_X6_wrongPlace σ p1 p2) (fun u r => (0 ≤ r.toInt ∧ r.toInt ≤ 3 ∧ (r.toInt = 0 → (0 ≤ p1.toInt ∧ p1.toInt ≤ 3 ∧ 0 ≤ p2.toInt ∧ p2.toInt < (ga u 6 p1).toInt))))) 0 0 (mA g) := by
  refine met_M (by decide) rfl (Nat.le_of_ble_eq_true rfl) ?_
  intro p e s m args below meth c C hr hlocks h ls hl
  have hx := C.1.1
  have hb := C.1.2.1
  have hml := C.1.2.2.1
  have hown := C.1.2.2.2.1
  have hts := C.1.2.2.2.2
  have hl : lv_has ls 3 [(0, .ref (g.2.1 99)), (1, .int p1), (2, .int p2)] := hl
  have zlm1 : (-1 : Int32).toInt = -1 := rfl
  have zl0 : (0 : Int32).toInt = 0 := rfl
  have zl1 : (1 : Int32).toInt = 1 := rfl
  have zl2 : (2 : Int32).toInt = 2 := rfl
  have zl3 : (3 : Int32).toInt = 3 := rfl
  refine lv_iload_n hx hb dX6_wrongPlace_0 rfl (lv_at hl 1 rfl) ?_
  refine s_callz (As := [.int p1]) (rest := []) 1 C.1 (k_X6_isTray l p1) (lw_S q1660 q1661 q152 q1662) rfl rfl (by decide +kernel) ⟨Nat.le_of_ble_eq_true rfl, Nat.le_of_ble_eq_true rfl⟩ rfl hl.1 rfl (Nat.le_of_ble_eq_true rfl) ⟨Nat.le_of_ble_eq_true rfl, Nat.le_of_ble_eq_true rfl⟩ dX6_wrongPlace_1 h.2.2 (fun r1 H locs er1 br1 hz1 hk1 hS1 => ?_)
  have h := h.same hk1 hS1
  clear hz1 hk1 hS1
  refine lv_if_ne (tgt := 11) hx hb dX6_wrongPlace_4 (by decide) (fun c4 => ?_) (fun c4 => ?_)
  · have i4 := c_ne c4
    have okr1 := isTray_ok er1 c4
    refine lv_aload_n hx hb dX6_wrongPlace_11 rfl (lv_at hl 0 rfl) ?_
    refine Mg_6 C h dX6_wrongPlace_12 ?_
    refine lv_iload_n hx hb dX6_wrongPlace_15 rfl (lv_at hl 1 rfl) ?_
    refine Ml_6 C h (ix_of (rfl : p1.toInt = p1.toInt) (by omega)) dX6_wrongPlace_16 ?_
    refine lv_iconst (v := -1) hx hb dX6_wrongPlace_17 (by decide) ?_
    refine lv_icmp_ne (tgt := 25) hx hb dX6_wrongPlace_18 (by decide) (fun c18 => ?_) (fun c18 => ?_)
    · have i18 := c_ne c18
      refine lv_iload_n hx hb dX6_wrongPlace_25 rfl (lv_at hl 2 rfl) ?_
      refine lv_if_lt (tgt := 39) hx hb dX6_wrongPlace_26 (by decide) (fun c26 => ?_) (fun c26 => ?_)
      · have i26 := c_lt c26
        refine lv_iconst (v := 3) hx hb dX6_wrongPlace_39 (by decide) ?_
        refine lv_goto (tgt := 44) hx hb dX6_wrongPlace_40 (by decide) ?_
        have he : f_X6_wrongPlace σ p1 p2 = (3 : Int32) := (by subst er1; exact ((if_neg c4).trans ((if_neg c18).trans ((if_pos c26).trans rfl))))
        exact M_reti C h hr hlocks rfl he (by first | assumption | omega | (unfold Hd; omega)) dX6_wrongPlace_44
      · have i26 := c_nlt c26
        refine lv_iload_n hx hb dX6_wrongPlace_29 rfl (lv_at hl 2 rfl) ?_
        refine lv_aload_n hx hb dX6_wrongPlace_30 rfl (lv_at hl 0 rfl) ?_
        refine Mg_6 C h dX6_wrongPlace_31 ?_
        refine lv_iload_n hx hb dX6_wrongPlace_34 rfl (lv_at hl 1 rfl) ?_
        refine Ml_6 C h (ix_of (rfl : p1.toInt = p1.toInt) (by omega)) dX6_wrongPlace_35 ?_
        refine lv_icmp_lt (tgt := 43) hx hb dX6_wrongPlace_36 (by decide) (fun c36 => ?_) (fun c36 => ?_)
        · have i36 := c_lt c36
          refine lv_iconst (v := 0) hx hb dX6_wrongPlace_43 (by decide) ?_
          have he : f_X6_wrongPlace σ p1 p2 = (0 : Int32) := (by subst er1; exact ((if_neg c4).trans ((if_neg c18).trans ((if_neg c26).trans ((if_pos c36).trans rfl)))))
          exact M_reti C h hr hlocks rfl he (by first | assumption | omega | (unfold Hd; omega)) dX6_wrongPlace_44
        · have i36 := c_nlt c36
          refine lv_iconst (v := 3) hx hb dX6_wrongPlace_39 (by decide) ?_
          refine lv_goto (tgt := 44) hx hb dX6_wrongPlace_40 (by decide) ?_
          have he : f_X6_wrongPlace σ p1 p2 = (3 : Int32) := (by subst er1; exact ((if_neg c4).trans ((if_neg c18).trans ((if_neg c26).trans ((if_neg c36).trans rfl)))))
          exact M_reti C h hr hlocks rfl he (by first | assumption | omega | (unfold Hd; omega)) dX6_wrongPlace_44
    · have i18 := c_eq c18
      refine lv_iconst (v := 2) hx hb dX6_wrongPlace_21 (by decide) ?_
      refine lv_goto (tgt := 44) hx hb dX6_wrongPlace_22 (by decide) ?_
      have he : f_X6_wrongPlace σ p1 p2 = (2 : Int32) := (by subst er1; exact ((if_neg c4).trans ((if_pos c18).trans rfl)))
      exact M_reti C h hr hlocks rfl he (by first | assumption | omega | (unfold Hd; omega)) dX6_wrongPlace_44
  · have i4 := c_eq c4
    refine lv_iconst (v := 1) hx hb dX6_wrongPlace_7 (by decide) ?_
    refine lv_goto (tgt := 44) hx hb dX6_wrongPlace_8 (by decide) ?_
    have he : f_X6_wrongPlace σ p1 p2 = (1 : Int32) := (by subst er1; exact ((if_pos c4).trans rfl))
    exact M_reti C h hr hlocks rfl he (by first | assumption | omega | (unfold Hd; omega)) dX6_wrongPlace_44
def f_X6_write (σ : MS) (p1 : Int32) (p2 : Int32) (p3 : Int64) : MS × Int32 := (let r3 := (f_X6_wrongPlace σ p1 p2); (let z34_ : MS := (if r3 = (0 : Int32) then ((let r30 := (f_X6_cut p3 (ga σ 5 p1)); let σ33 := sb σ 7 (((60 : Int32) * p1) + p2) r30; σ33)) else (σ)); let σJ34 := z34_; (let z37 := (f_X6_is σJ34 r3); let σ37 := z37.1; let r37 := z37.2; (σ37, r37))))
set_option maxHeartbeats 4000000 in
set_option maxRecDepth 100000 in
theorem k_X6_write (l : Launch) (g : GE) (σ : MS) (p1 : Int32) (p2 : Int32) (p3 : Int64) (hp : 0 ≤ (ga σ 0 (0 : Int32)).toInt ∧ (ga σ 0 (0 : Int32)).toInt ≤ 6) (hT : ∀ t : Int32, (0 ≤ t.toInt ∧ t.toInt ≤ 3) → -1 ≤ (ga σ 6 t).toInt ∧ (ga σ 6 t).toInt ≤ 60) : Met l yX6_write (ws_ yX6_write cX6_write 6 (some .boolean)) ({ frames := 2, cells := 0, slots := 0, locals := 42 } : Room) (mPc g σ [.int p1, .int p2, .long p3]) (mQz g (f_X6_write σ p1 p2 p3).1 (f_X6_write σ p1 p2 p3).2 (fun u r => ((ga u 0 (0 : Int32)).toInt = (ga σ 0 (0 : Int32)).toInt) ∧ (∀ t : Int32, (0 ≤ t.toInt ∧ t.toInt ≤ 3) → -1 ≤ (ga u 6 t).toInt ∧ (ga u 6 t).toInt ≤ 60))) 0 0 (mA g) := by
  refine met_M (by decide) rfl (Nat.le_of_ble_eq_true rfl) ?_
  intro p e s m args below meth c C hr hlocks h ls hl
  have hx := C.1.1
  have hb := C.1.2.1
  have hml := C.1.2.2.1
  have hown := C.1.2.2.2.1
  have hts := C.1.2.2.2.2
  have hl : lv_has ls 6 [(0, .ref (g.2.1 99)), (1, .int p1), (2, .int p2), (3, .long p3)] := hl
  have hpq : (ga σ 0 (0 : Int32)).toInt = (ga σ 0 (0 : Int32)).toInt := rfl
  have zl0 : (0 : Int32).toInt = 0 := rfl
  have zl60 : (60 : Int32).toInt = 60 := rfl
  refine lv_aload_n hx hb dX6_write_0 rfl (lv_at hl 0 rfl) ?_
  refine lv_iload_n hx hb dX6_write_1 rfl (lv_at hl 1 rfl) ?_
  refine lv_iload_n hx hb dX6_write_2 rfl (lv_at hl 2 rfl) ?_
  refine M_calli (As := [.int p1, .int p2]) (rest := []) 2 C h (k_X6_wrongPlace l g σ p1 p2 (by first | assumption | omega)) (lw_V q1671 q1673 qs66 q152 q1674) rfl rfl (by decide +kernel) ⟨Nat.le_of_ble_eq_true rfl, Nat.le_of_ble_eq_true rfl⟩ rfl hl.1 rfl (Nat.le_of_ble_eq_true rfl) ⟨Nat.le_of_ble_eq_true rfl, Nat.le_of_ble_eq_true rfl⟩ dX6_write_3 (fun r3 σ3 H locs eσ3 er3 hE3 h => ?_)
  rw [eσ3] at h
  rw [eσ3] at hE3
  have hE3 : (0 ≤ r3.toInt ∧ r3.toInt ≤ 3 ∧ (r3.toInt = 0 → (0 ≤ p1.toInt ∧ p1.toInt ≤ 3 ∧ 0 ≤ p2.toInt ∧ p2.toInt < (ga σ 6 p1).toInt))) := hE3
  have wr_3 := hE3
  clear eσ3
  refine lv_istore (lv' := [(5, .int r3), (0, .ref (g.2.1 99)), (1, .int p1), (2, .int p2), (3, .long p3)]) hx hb dX6_write_6 hl (by decide) rfl (fun ls hl => ?_)
  refine lv_iload hx hb dX6_write_8 (lv_at hl 0 rfl) ?_
  have j34 : ∀ (σJ34 : MS) (H : Heap) (locs : List Loc) (ls : Array Slot) (ej34 : (if r3 = (0 : Int32) then ((let r30 := (f_X6_cut p3 (ga σ 5 p1)); let σ33 := sb σ 7 (((60 : Int32) * p1) + p2) r30; σ33)) else (σ)) = σJ34) (hp : 0 ≤ (ga σJ34 0 (0 : Int32)).toInt ∧ (ga σJ34 0 (0 : Int32)).toInt ≤ 6) (hT : ∀ t : Int32, (0 ≤ t.toInt ∧ t.toInt ≤ 3) → -1 ≤ (ga σJ34 6 t).toInt ∧ (ga σJ34 6 t).toInt ≤ 60) (hpq : (ga σJ34 0 (0 : Int32)).toInt = (ga σ 0 (0 : Int32)).toInt) (h : MH g σJ34 s H locs) (hl : lv_has ls 6 [(0, .ref (g.2.1 99)), (5, .int r3)]), W p l e ({ frames := 2, cells := 0, slots := 0, locals := 42 } : Room) s m args below meth c H locs 0 0 (MQ below (mQz g (f_X6_write σ p1 p2 p3).1 (f_X6_write σ p1 p2 p3).2 (fun u r => ((ga u 0 (0 : Int32)).toInt = (ga σ 0 (0 : Int32)).toInt) ∧ (∀ t : Int32, (0 ≤ t.toInt ∧ t.toInt ≤ 3) → -1 ≤ (ga u 6 t).toInt ∧ (ga u 6 t).toInt ≤ 60))) args s 0 0 (mA g)) (F0 m 34 ls []) := by
    intro σJ34 H locs ls ej34 hp hT hpq h hl
    have eσJ34 := ej34.symm
    refine lv_aload_n hx hb dX6_write_34 rfl (lv_at hl 0 rfl) ?_
    refine lv_iload hx hb dX6_write_35 (lv_at hl 1 rfl) ?_
    refine M_callz (As := [.int r3]) (rest := []) 1 C h (k_X6_is l g σJ34 r3) (lw_V q1663 q1665 qs65 q152 q1666) rfl rfl (by decide +kernel) ⟨Nat.le_of_ble_eq_true rfl, Nat.le_of_ble_eq_true rfl⟩ rfl hl.1 rfl (Nat.le_of_ble_eq_true rfl) ⟨Nat.le_of_ble_eq_true rfl, Nat.le_of_ble_eq_true rfl⟩ dX6_write_37 (fun r37 σ37 H locs eσ37 er37 br37 hE37 h => ?_)
    clear hE37
    have hNEW : (0 ≤ (ga σ37 0 (0 : Int32)).toInt ∧ (ga σ37 0 (0 : Int32)).toInt ≤ 6) ∧ (∀ t : Int32, (0 ≤ t.toInt ∧ t.toInt ≤ 3) → -1 ≤ (ga σ37 6 t).toInt ∧ (ga σ37 6 t).toInt ≤ 60) ∧ ((ga σ37 0 (0 : Int32)).toInt = (ga σ 0 (0 : Int32)).toInt) := ⟨(by rw [eσ37, is_s] <;> exact hp), (by rw [eσ37, is_s] <;> exact hT), (by rw [eσ37, is_s] <;> exact hpq)⟩
    obtain ⟨hp, hT, hpq⟩ := hNEW
    have he : f_X6_write σ p1 p2 p3 = (σ37, r37) := (by subst er3; subst eσJ34; subst eσ37; subst er37; exact rfl)
    exact M_retz C h hr hlocks (congrArg Prod.fst he) (congrArg Prod.snd he) br37 ⟨hpq, (by first | assumption | omega | (unfold Hd; omega))⟩ dX6_write_40
  refine lv_if_ne (tgt := 34) hx hb dX6_write_10 (by decide) (fun c10 => ?_) (fun c10 => ?_)
  · have i10 := c_ne c10
    exact j34 _ _ _ _ (by exact ((if_neg c10).trans rfl)) hp hT hpq h (lv_sub hl [1, 0] rfl)
  · have i10 := c_eq c10
    have ht := hT p1 (by omega)
    refine lv_aload_n hx hb dX6_write_13 rfl (lv_at hl 1 rfl) ?_
    refine Mg_7 C h dX6_write_14 ?_
    refine lv_bipush (v := 60) hx hb dX6_write_17 (by decide) ?_
    refine lv_iload_n hx hb dX6_write_19 rfl (lv_at hl 2 rfl) ?_
    refine lv_imul hx hb dX6_write_20 ?_
    refine lv_iload_n hx hb dX6_write_21 rfl (lv_at hl 3 rfl) ?_
    refine lv_iadd hx hb dX6_write_22 ?_
    refine lv_lload_n hx hb dX6_write_23 rfl (lv_at hl 4 rfl) ?_
    refine lv_aload_n hx hb dX6_write_24 rfl (lv_at hl 1 rfl) ?_
    refine Mg_5 C h dX6_write_25 ?_
    refine lv_iload_n hx hb dX6_write_28 rfl (lv_at hl 2 rfl) ?_
    refine Ml_5 C h (ix_of (rfl : p1.toInt = p1.toInt) (by omega)) dX6_write_29 ?_
    refine s_calll (As := [.long p3, .int (ga σ 5 p1)]) (rest := [.int (((60 : Int32) * p1) + p2), .ref (g.2.1 7)]) 2 C.1 (k_X6_cut l p3 (ga σ 5 p1)) (lw_S q1675 q1676 q152 q1677) rfl rfl (by decide +kernel) ⟨Nat.le_of_ble_eq_true rfl, Nat.le_of_ble_eq_true rfl⟩ rfl hl.1 rfl (Nat.le_of_ble_eq_true rfl) ⟨Nat.le_of_ble_eq_true rfl, Nat.le_of_ble_eq_true rfl⟩ dX6_write_30 h.2.2 (fun r30 H locs er30 hz1 hk1 hS1 => ?_)
    have h := h.same hk1 hS1
    clear hz1 hk1 hS1
    refine Ms_7 C h (ix_of (i_add (i_mul zl60 (rfl : p1.toInt = p1.toInt) (by omega)) (rfl : p2.toInt = p2.toInt) (by omega)) (by omega)) dX6_write_33 (fun σ33 H locs eσ33 h => ?_)
    have hNEW : (0 ≤ (ga σ33 0 (0 : Int32)).toInt ∧ (ga σ33 0 (0 : Int32)).toInt ≤ 6) ∧ (∀ t : Int32, (0 ≤ t.toInt ∧ t.toInt ≤ 3) → -1 ≤ (ga σ33 6 t).toInt ∧ (ga σ33 6 t).toInt ≤ 60) ∧ ((ga σ33 0 (0 : Int32)).toInt = (ga σ 0 (0 : Int32)).toInt) := ⟨(by rw [eσ33] <;> exact hp), (by rw [eσ33] <;> exact hT), (by rw [eσ33] <;> exact hpq)⟩
    obtain ⟨hp, hT, hpq⟩ := hNEW
    exact j34 _ _ _ _ (by subst er30; subst eσ33; exact ((if_pos c10).trans rfl)) hp hT hpq h (lv_sub hl [1, 0] rfl)
def f_X6_read (σ : MS) (p1 : Int32) (p2 : Int32) : MS × Int64 := (let r4 := (f_X6_wrongPlace σ p1 p2); let σ7 := si σ 2 r4; if (gi σ7 2) ≤ (0 : Int32) then ((σ7, (gb σ7 7 (((60 : Int32) * p1) + p2)))) else ((σ7, (-1 : Int64))))
set_option maxHeartbeats 4000000 in
set_option maxRecDepth 100000 in
theorem k_X6_read (l : Launch) (g : GE) (σ : MS) (p1 : Int32) (p2 : Int32) (hT : ∀ t : Int32, (0 ≤ t.toInt ∧ t.toInt ≤ 3) → -1 ≤ (ga σ 6 t).toInt ∧ (ga σ 6 t).toInt ≤ 60) : Met l yX6_read (ws_ yX6_read cX6_read 3 (some .long)) ({ frames := 2, cells := 0, slots := 0, locals := 42 } : Room) (mPc g σ [.int p1, .int p2]) (mQl g (f_X6_read σ p1 p2).1 (f_X6_read σ p1 p2).2 (fun u r => True)) 0 0 (mA g) := by
  refine met_M (by decide) rfl (Nat.le_of_ble_eq_true rfl) ?_
  intro p e s m args below meth c C hr hlocks h ls hl
  have hx := C.1.1
  have hb := C.1.2.1
  have hml := C.1.2.2.1
  have hown := C.1.2.2.2.1
  have hts := C.1.2.2.2.2
  have hl : lv_has ls 3 [(0, .ref (g.2.1 99)), (1, .int p1), (2, .int p2)] := hl
  have zl0 : (0 : Int32).toInt = 0 := rfl
  have zl60 : (60 : Int32).toInt = 60 := rfl
  refine lv_aload_n hx hb dX6_read_0 rfl (lv_at hl 0 rfl) ?_
  refine lv_aload_n hx hb dX6_read_1 rfl (lv_at hl 0 rfl) ?_
  refine lv_iload_n hx hb dX6_read_2 rfl (lv_at hl 1 rfl) ?_
  refine lv_iload_n hx hb dX6_read_3 rfl (lv_at hl 2 rfl) ?_
  refine M_calli (As := [.int p1, .int p2]) (rest := [.ref (g.2.1 99)]) 2 C h (k_X6_wrongPlace l g σ p1 p2 (by first | assumption | omega)) (lw_V q1671 q1673 qs66 q152 q1674) rfl rfl (by decide +kernel) ⟨Nat.le_of_ble_eq_true rfl, Nat.le_of_ble_eq_true rfl⟩ rfl hl.1 rfl (Nat.le_of_ble_eq_true rfl) ⟨Nat.le_of_ble_eq_true rfl, Nat.le_of_ble_eq_true rfl⟩ dX6_read_4 (fun r4 σ4 H locs eσ4 er4 hE4 h => ?_)
  rw [eσ4] at h
  rw [eσ4] at hE4
  have hE4 : (0 ≤ r4.toInt ∧ r4.toInt ≤ 3 ∧ (r4.toInt = 0 → (0 ≤ p1.toInt ∧ p1.toInt ≤ 3 ∧ 0 ≤ p2.toInt ∧ p2.toInt < (ga σ 6 p1).toInt))) := hE4
  have wr_4 := hE4
  clear eσ4
  refine Mp_2 C h dX6_read_7 (fun σ7 H locs eσ7 h => ?_)
  have hT : ∀ t : Int32, (0 ≤ t.toInt ∧ t.toInt ≤ 3) → -1 ≤ (ga σ7 6 t).toInt ∧ (ga σ7 6 t).toInt ≤ 60 := by rw [eσ7] <;> exact hT
  refine lv_aload_n hx hb dX6_read_10 rfl (lv_at hl 0 rfl) ?_
  refine Mg_2 C h dX6_read_11 ?_
  refine lv_if_le (tgt := 23) hx hb dX6_read_14 (by decide) (fun c14 => ?_) (fun c14 => ?_)
  · have i14 := c_le c14
    have q2 : (ga σ7 6 p1).toInt = (ga σ 6 p1).toInt := by rw [eσ7]; rfl
    have q : gi σ7 2 = r4 := by rw [eσ7]; rfl
    rw [q] at i14
    have ht := hT p1 (by omega)
    refine lv_aload_n hx hb dX6_read_23 rfl (lv_at hl 0 rfl) ?_
    refine Mg_7 C h dX6_read_24 ?_
    refine lv_bipush (v := 60) hx hb dX6_read_27 (by decide) ?_
    refine lv_iload_n hx hb dX6_read_29 rfl (lv_at hl 1 rfl) ?_
    refine lv_imul hx hb dX6_read_30 ?_
    refine lv_iload_n hx hb dX6_read_31 rfl (lv_at hl 2 rfl) ?_
    refine lv_iadd hx hb dX6_read_32 ?_
    refine Ml_7 C h (ix_of (i_add (i_mul zl60 (rfl : p1.toInt = p1.toInt) (by omega)) (rfl : p2.toInt = p2.toInt) (by omega)) (by omega)) dX6_read_33 ?_
    have he : f_X6_read σ p1 p2 = (σ7, (gb σ7 7 (((60 : Int32) * p1) + p2))) := (by subst er4; subst eσ7; exact ((if_pos c14).trans rfl))
    exact M_retl C h hr hlocks (congrArg Prod.fst he) (congrArg Prod.snd he) trivial dX6_read_34
  · have i14 := c_nle c14
    refine lv_ldc2 hx hb hown (hts _ q1682) dX6_read_17 ?_
    refine lv_goto (tgt := 34) hx hb dX6_read_20 (by decide) ?_
    have he : f_X6_read σ p1 p2 = (σ7, (-1 : Int64)) := (by subst er4; subst eσ7; exact ((if_neg c14).trans rfl))
    exact M_retl C h hr hlocks (congrArg Prod.fst he) (congrArg Prod.snd he) trivial dX6_read_34
def f_X6_pour_L118 (y1_118 : Int32) (y2_118 : Int32) (y3_118 : Int32) (y4_118 : Int32) (y5_118 : Int32) : Nat → Int32 → MS → Int32 × MS
  | 0, x6_118, σL118 => (x6_118, σL118)
  | n + 1, x6_118, σL118 => if y5_118 ≤ x6_118 then ((x6_118, σL118)) else ((let z143_ : Int32 := (if y4_118 ≤ y2_118 then (x6_118) else (((y5_118 - (1 : Int32)) - x6_118))); let t0_143 := z143_; (let σ173 := sb σL118 7 ((((60 : Int32) * y3_118) + y4_118) + t0_143) (gb σL118 7 ((((60 : Int32) * y1_118) + y2_118) + t0_143)); f_X6_pour_L118 y1_118 y2_118 y3_118 y4_118 y5_118 n (x6_118 + (1 : Int32)) σ173)))
def f_X6_pour (σ : MS) (p1 : Int32) (p2 : Int32) (p3 : Int32) (p4 : Int32) (p5 : Int32) : MS × Int32 := (let r1 := (f_X6_isTray p1); if r1 = (0 : Int32) then ((let z30 := (f_X6_is σ (1 : Int32)); let σ30 := z30.1; let r30 := z30.2; (σ30, r30))) else ((let r8 := (f_X6_isTray p3); if r8 = (0 : Int32) then ((let z30 := (f_X6_is σ (1 : Int32)); let σ30 := z30.1; let r30 := z30.2; (σ30, r30))) else (if p2 < (0 : Int32) then ((let z30 := (f_X6_is σ (1 : Int32)); let σ30 := z30.1; let r30 := z30.2; (σ30, r30))) else (if p4 < (0 : Int32) then ((let z30 := (f_X6_is σ (1 : Int32)); let σ30 := z30.1; let r30 := z30.2; (σ30, r30))) else (if (0 : Int32) ≤ p5 then (if (ga σ 6 p1) = (-1 : Int32) then ((let z56 := (f_X6_is σ (2 : Int32)); let σ56 := z56.1; let r56 := z56.2; (σ56, r56))) else (if (ga σ 6 p3) = (-1 : Int32) then ((let z56 := (f_X6_is σ (2 : Int32)); let σ56 := z56.1; let r56 := z56.2; (σ56, r56))) else (if (ga σ 5 p1) = (ga σ 5 p3) then (if ((ga σ 6 p1) - p2) < p5 then ((let z111 := (f_X6_is σ (3 : Int32)); let σ111 := z111.1; let r111 := z111.2; (σ111, r111))) else (if p5 ≤ ((ga σ 6 p3) - p4) then ((let zL118 := f_X6_pour_L118 p1 p2 p3 p4 p5 (61) (0 : Int32) σ; let x6_118e := zL118.1; let σL118e := zL118.2; (let z182 := (f_X6_is σL118e (0 : Int32)); let σ182 := z182.1; let r182 := z182.2; (σ182, r182)))) else ((let z111 := (f_X6_is σ (3 : Int32)); let σ111 := z111.1; let r111 := z111.2; (σ111, r111))))) else ((let z78 := (f_X6_is σ (8 : Int32)); let σ78 := z78.1; let r78 := z78.2; (σ78, r78)))))) else ((let z30 := (f_X6_is σ (1 : Int32)); let σ30 := z30.1; let r30 := z30.2; (σ30, r30)))))))))
set_option maxHeartbeats 4000000 in
set_option maxRecDepth 100000 in
theorem k_X6_pour (l : Launch) (g : GE) (σ : MS) (p1 : Int32) (p2 : Int32) (p3 : Int32) (p4 : Int32) (p5 : Int32) (hT : ∀ t : Int32, (0 ≤ t.toInt ∧ t.toInt ≤ 3) → -1 ≤ (ga σ 6 t).toInt ∧ (ga σ 6 t).toInt ≤ 60) : Met l yX6_pour (ws_ yX6_pour cX6_pour 8 (some .boolean)) ({ frames := 1, cells := 0, slots := 0, locals := 21 } : Room) (mPc g σ [.int p1, .int p2, .int p3, .int p4, .int p5]) (mQz g (f_X6_pour σ p1 p2 p3 p4 p5).1 (f_X6_pour σ p1 p2 p3 p4 p5).2 (fun u r => True)) 0 0 (mA g) := by
  refine met_M (by decide) rfl (Nat.le_of_ble_eq_true rfl) ?_
  intro p e s m args below meth c C hr hlocks h ls hl
  have hx := C.1.1
  have hb := C.1.2.1
  have hml := C.1.2.2.1
  have hown := C.1.2.2.2.1
  have hts := C.1.2.2.2.2
  have hl : lv_has ls 8 [(0, .ref (g.2.1 99)), (1, .int p1), (2, .int p2), (3, .int p3), (4, .int p4), (5, .int p5)] := hl
  have zlm1 : (-1 : Int32).toInt = -1 := rfl
  have zl0 : (0 : Int32).toInt = 0 := rfl
  have zl1 : (1 : Int32).toInt = 1 := rfl
  have zl2 : (2 : Int32).toInt = 2 := rfl
  have zl3 : (3 : Int32).toInt = 3 := rfl
  have zl8 : (8 : Int32).toInt = 8 := rfl
  have zl60 : (60 : Int32).toInt = 60 := rfl
  refine lv_iload_n hx hb dX6_pour_0 rfl (lv_at hl 1 rfl) ?_
  refine s_callz (As := [.int p1]) (rest := []) 1 C.1 (k_X6_isTray l p1) (lw_S q1660 q1661 q152 q1662) rfl rfl (by decide +kernel) ⟨Nat.le_of_ble_eq_true rfl, Nat.le_of_ble_eq_true rfl⟩ rfl hl.1 rfl (Nat.le_of_ble_eq_true rfl) ⟨Nat.le_of_ble_eq_true rfl, Nat.le_of_ble_eq_true rfl⟩ dX6_pour_1 h.2.2 (fun r1 H locs er1 br1 hz1 hk1 hS1 => ?_)
  have h := h.same hk1 hS1
  clear hz1 hk1 hS1
  refine lv_if_eq (tgt := 28) hx hb dX6_pour_4 (by decide) (fun c4 => ?_) (fun c4 => ?_)
  · have i4 := c_eq c4
    refine lv_aload_n hx hb dX6_pour_28 rfl (lv_at hl 0 rfl) ?_
    refine lv_iconst (v := 1) hx hb dX6_pour_29 (by decide) ?_
    refine M_callz (As := [.int (1 : Int32)]) (rest := []) 1 C h (k_X6_is l g σ (1 : Int32)) (lw_V q1663 q1665 qs65 q152 q1666) rfl rfl (by decide +kernel) ⟨Nat.le_of_ble_eq_true rfl, Nat.le_of_ble_eq_true rfl⟩ rfl hl.1 rfl (Nat.le_of_ble_eq_true rfl) ⟨Nat.le_of_ble_eq_true rfl, Nat.le_of_ble_eq_true rfl⟩ dX6_pour_30 (fun r30 σ30 H locs eσ30 er30 br30 hE30 h => ?_)
    clear hE30
    have hT : ∀ t : Int32, (0 ≤ t.toInt ∧ t.toInt ≤ 3) → -1 ≤ (ga σ30 6 t).toInt ∧ (ga σ30 6 t).toInt ≤ 60 := by rw [eσ30, is_s] <;> exact hT
    have he : f_X6_pour σ p1 p2 p3 p4 p5 = (σ30, r30) := (by subst er1; subst eσ30; subst er30; exact ((if_pos c4).trans rfl))
    exact M_retz C h hr hlocks (congrArg Prod.fst he) (congrArg Prod.snd he) br30 trivial dX6_pour_33
  · have i4 := c_ne c4
    have okr1 := isTray_ok er1 c4
    refine lv_iload_n hx hb dX6_pour_7 rfl (lv_at hl 3 rfl) ?_
    refine s_callz (As := [.int p3]) (rest := []) 1 C.1 (k_X6_isTray l p3) (lw_S q1660 q1661 q152 q1662) rfl rfl (by decide +kernel) ⟨Nat.le_of_ble_eq_true rfl, Nat.le_of_ble_eq_true rfl⟩ rfl hl.1 rfl (Nat.le_of_ble_eq_true rfl) ⟨Nat.le_of_ble_eq_true rfl, Nat.le_of_ble_eq_true rfl⟩ dX6_pour_8 h.2.2 (fun r8 H locs er8 br8 hz1 hk1 hS1 => ?_)
    have h := h.same hk1 hS1
    clear hz1 hk1 hS1
    refine lv_if_eq (tgt := 28) hx hb dX6_pour_11 (by decide) (fun c11 => ?_) (fun c11 => ?_)
    · have i11 := c_eq c11
      refine lv_aload_n hx hb dX6_pour_28 rfl (lv_at hl 0 rfl) ?_
      refine lv_iconst (v := 1) hx hb dX6_pour_29 (by decide) ?_
      refine M_callz (As := [.int (1 : Int32)]) (rest := []) 1 C h (k_X6_is l g σ (1 : Int32)) (lw_V q1663 q1665 qs65 q152 q1666) rfl rfl (by decide +kernel) ⟨Nat.le_of_ble_eq_true rfl, Nat.le_of_ble_eq_true rfl⟩ rfl hl.1 rfl (Nat.le_of_ble_eq_true rfl) ⟨Nat.le_of_ble_eq_true rfl, Nat.le_of_ble_eq_true rfl⟩ dX6_pour_30 (fun r30 σ30 H locs eσ30 er30 br30 hE30 h => ?_)
      clear hE30
      have hT : ∀ t : Int32, (0 ≤ t.toInt ∧ t.toInt ≤ 3) → -1 ≤ (ga σ30 6 t).toInt ∧ (ga σ30 6 t).toInt ≤ 60 := by rw [eσ30, is_s] <;> exact hT
      have he : f_X6_pour σ p1 p2 p3 p4 p5 = (σ30, r30) := (by subst er1; subst er8; subst eσ30; subst er30; exact ((if_neg c4).trans ((if_pos c11).trans rfl)))
      exact M_retz C h hr hlocks (congrArg Prod.fst he) (congrArg Prod.snd he) br30 trivial dX6_pour_33
    · have i11 := c_ne c11
      have okr8 := isTray_ok er8 c11
      refine lv_iload_n hx hb dX6_pour_14 rfl (lv_at hl 2 rfl) ?_
      refine lv_if_lt (tgt := 28) hx hb dX6_pour_15 (by decide) (fun c15 => ?_) (fun c15 => ?_)
      · have i15 := c_lt c15
        refine lv_aload_n hx hb dX6_pour_28 rfl (lv_at hl 0 rfl) ?_
        refine lv_iconst (v := 1) hx hb dX6_pour_29 (by decide) ?_
        refine M_callz (As := [.int (1 : Int32)]) (rest := []) 1 C h (k_X6_is l g σ (1 : Int32)) (lw_V q1663 q1665 qs65 q152 q1666) rfl rfl (by decide +kernel) ⟨Nat.le_of_ble_eq_true rfl, Nat.le_of_ble_eq_true rfl⟩ rfl hl.1 rfl (Nat.le_of_ble_eq_true rfl) ⟨Nat.le_of_ble_eq_true rfl, Nat.le_of_ble_eq_true rfl⟩ dX6_pour_30 (fun r30 σ30 H locs eσ30 er30 br30 hE30 h => ?_)
        clear hE30
        have hT : ∀ t : Int32, (0 ≤ t.toInt ∧ t.toInt ≤ 3) → -1 ≤ (ga σ30 6 t).toInt ∧ (ga σ30 6 t).toInt ≤ 60 := by rw [eσ30, is_s] <;> exact hT
        have he : f_X6_pour σ p1 p2 p3 p4 p5 = (σ30, r30) := (by subst er1; subst er8; subst eσ30; subst er30; exact ((if_neg c4).trans ((if_neg c11).trans ((if_pos c15).trans rfl))))
        exact M_retz C h hr hlocks (congrArg Prod.fst he) (congrArg Prod.snd he) br30 trivial dX6_pour_33
      · have i15 := c_nlt c15
        refine lv_iload hx hb dX6_pour_18 (lv_at hl 4 rfl) ?_
        refine lv_if_lt (tgt := 28) hx hb dX6_pour_20 (by decide) (fun c20 => ?_) (fun c20 => ?_)
        · have i20 := c_lt c20
          refine lv_aload_n hx hb dX6_pour_28 rfl (lv_at hl 0 rfl) ?_
          refine lv_iconst (v := 1) hx hb dX6_pour_29 (by decide) ?_
          refine M_callz (As := [.int (1 : Int32)]) (rest := []) 1 C h (k_X6_is l g σ (1 : Int32)) (lw_V q1663 q1665 qs65 q152 q1666) rfl rfl (by decide +kernel) ⟨Nat.le_of_ble_eq_true rfl, Nat.le_of_ble_eq_true rfl⟩ rfl hl.1 rfl (Nat.le_of_ble_eq_true rfl) ⟨Nat.le_of_ble_eq_true rfl, Nat.le_of_ble_eq_true rfl⟩ dX6_pour_30 (fun r30 σ30 H locs eσ30 er30 br30 hE30 h => ?_)
          clear hE30
          have hT : ∀ t : Int32, (0 ≤ t.toInt ∧ t.toInt ≤ 3) → -1 ≤ (ga σ30 6 t).toInt ∧ (ga σ30 6 t).toInt ≤ 60 := by rw [eσ30, is_s] <;> exact hT
          have he : f_X6_pour σ p1 p2 p3 p4 p5 = (σ30, r30) := (by subst er1; subst er8; subst eσ30; subst er30; exact ((if_neg c4).trans ((if_neg c11).trans ((if_neg c15).trans ((if_pos c20).trans rfl)))))
          exact M_retz C h hr hlocks (congrArg Prod.fst he) (congrArg Prod.snd he) br30 trivial dX6_pour_33
        · have i20 := c_nlt c20
          refine lv_iload hx hb dX6_pour_23 (lv_at hl 5 rfl) ?_
          refine lv_if_ge (tgt := 34) hx hb dX6_pour_25 (by decide) (fun c25 => ?_) (fun c25 => ?_)
          · have i25 := c_le c25
            refine lv_aload_n hx hb dX6_pour_34 rfl (lv_at hl 0 rfl) ?_
            refine Mg_6 C h dX6_pour_35 ?_
            refine lv_iload_n hx hb dX6_pour_38 rfl (lv_at hl 1 rfl) ?_
            refine Ml_6 C h (ix_of (rfl : p1.toInt = p1.toInt) (by omega)) dX6_pour_39 ?_
            refine lv_iconst (v := -1) hx hb dX6_pour_40 (by decide) ?_
            refine lv_icmp_eq (tgt := 54) hx hb dX6_pour_41 (by decide) (fun c41 => ?_) (fun c41 => ?_)
            · have i41 := c_eq c41
              refine lv_aload_n hx hb dX6_pour_54 rfl (lv_at hl 0 rfl) ?_
              refine lv_iconst (v := 2) hx hb dX6_pour_55 (by decide) ?_
              refine M_callz (As := [.int (2 : Int32)]) (rest := []) 1 C h (k_X6_is l g σ (2 : Int32)) (lw_V q1663 q1665 qs65 q152 q1666) rfl rfl (by decide +kernel) ⟨Nat.le_of_ble_eq_true rfl, Nat.le_of_ble_eq_true rfl⟩ rfl hl.1 rfl (Nat.le_of_ble_eq_true rfl) ⟨Nat.le_of_ble_eq_true rfl, Nat.le_of_ble_eq_true rfl⟩ dX6_pour_56 (fun r56 σ56 H locs eσ56 er56 br56 hE56 h => ?_)
              clear hE56
              have hT : ∀ t : Int32, (0 ≤ t.toInt ∧ t.toInt ≤ 3) → -1 ≤ (ga σ56 6 t).toInt ∧ (ga σ56 6 t).toInt ≤ 60 := by rw [eσ56, is_s] <;> exact hT
              have he : f_X6_pour σ p1 p2 p3 p4 p5 = (σ56, r56) := (by subst er1; subst er8; subst eσ56; subst er56; exact ((if_neg c4).trans ((if_neg c11).trans ((if_neg c15).trans ((if_neg c20).trans ((if_pos c25).trans ((if_pos c41).trans rfl)))))))
              exact M_retz C h hr hlocks (congrArg Prod.fst he) (congrArg Prod.snd he) br56 trivial dX6_pour_59
            · have i41 := c_ne c41
              refine lv_aload_n hx hb dX6_pour_44 rfl (lv_at hl 0 rfl) ?_
              refine Mg_6 C h dX6_pour_45 ?_
              refine lv_iload_n hx hb dX6_pour_48 rfl (lv_at hl 3 rfl) ?_
              refine Ml_6 C h (ix_of (rfl : p3.toInt = p3.toInt) (by omega)) dX6_pour_49 ?_
              refine lv_iconst (v := -1) hx hb dX6_pour_50 (by decide) ?_
              refine lv_icmp_ne (tgt := 60) hx hb dX6_pour_51 (by decide) (fun c51 => ?_) (fun c51 => ?_)
              · have i51 := c_ne c51
                refine lv_aload_n hx hb dX6_pour_60 rfl (lv_at hl 0 rfl) ?_
                refine Mg_5 C h dX6_pour_61 ?_
                refine lv_iload_n hx hb dX6_pour_64 rfl (lv_at hl 1 rfl) ?_
                refine Ml_5 C h (ix_of (rfl : p1.toInt = p1.toInt) (by omega)) dX6_pour_65 ?_
                refine lv_aload_n hx hb dX6_pour_66 rfl (lv_at hl 0 rfl) ?_
                refine Mg_5 C h dX6_pour_67 ?_
                refine lv_iload_n hx hb dX6_pour_70 rfl (lv_at hl 3 rfl) ?_
                refine Ml_5 C h (ix_of (rfl : p3.toInt = p3.toInt) (by omega)) dX6_pour_71 ?_
                refine lv_icmp_eq (tgt := 82) hx hb dX6_pour_72 (by decide) (fun c72 => ?_) (fun c72 => ?_)
                · have i72 := c_eq c72
                  have b2 := Int32.toInt_lt p2
                  have b4 := Int32.toInt_lt p4
                  have ht1 := hT p1 (by omega)
                  have ht3 := hT p3 (by omega)
                  refine lv_iload hx hb dX6_pour_82 (lv_at hl 5 rfl) ?_
                  refine lv_aload_n hx hb dX6_pour_84 rfl (lv_at hl 0 rfl) ?_
                  refine Mg_6 C h dX6_pour_85 ?_
                  refine lv_iload_n hx hb dX6_pour_88 rfl (lv_at hl 1 rfl) ?_
                  refine Ml_6 C h (ix_of (rfl : p1.toInt = p1.toInt) (by omega)) dX6_pour_89 ?_
                  refine lv_iload_n hx hb dX6_pour_90 rfl (lv_at hl 2 rfl) ?_
                  refine lv_isub hx hb dX6_pour_91 ?_
                  have tc92_0 : ((ga σ 6 p1) - p2).toInt = ((ga σ 6 p1).toInt - p2.toInt) := (i_sub (rfl : (ga σ 6 p1).toInt = (ga σ 6 p1).toInt) (rfl : p2.toInt = p2.toInt) (by omega))
                  refine lv_icmp_gt (tgt := 109) hx hb dX6_pour_92 (by decide) (fun c92 => ?_) (fun c92 => ?_)
                  · have i92 := c_lt c92
                    refine lv_aload_n hx hb dX6_pour_109 rfl (lv_at hl 0 rfl) ?_
                    refine lv_iconst (v := 3) hx hb dX6_pour_110 (by decide) ?_
                    refine M_callz (As := [.int (3 : Int32)]) (rest := []) 1 C h (k_X6_is l g σ (3 : Int32)) (lw_V q1663 q1665 qs65 q152 q1666) rfl rfl (by decide +kernel) ⟨Nat.le_of_ble_eq_true rfl, Nat.le_of_ble_eq_true rfl⟩ rfl hl.1 rfl (Nat.le_of_ble_eq_true rfl) ⟨Nat.le_of_ble_eq_true rfl, Nat.le_of_ble_eq_true rfl⟩ dX6_pour_111 (fun r111 σ111 H locs eσ111 er111 br111 hE111 h => ?_)
                    clear hE111
                    have hT : ∀ t : Int32, (0 ≤ t.toInt ∧ t.toInt ≤ 3) → -1 ≤ (ga σ111 6 t).toInt ∧ (ga σ111 6 t).toInt ≤ 60 := by rw [eσ111, is_s] <;> exact hT
                    have he : f_X6_pour σ p1 p2 p3 p4 p5 = (σ111, r111) := (by subst er1; subst er8; subst eσ111; subst er111; exact ((if_neg c4).trans ((if_neg c11).trans ((if_neg c15).trans ((if_neg c20).trans ((if_pos c25).trans ((if_neg c41).trans ((if_neg c51).trans ((if_pos c72).trans ((if_pos c92).trans rfl))))))))))
                    exact M_retz C h hr hlocks (congrArg Prod.fst he) (congrArg Prod.snd he) br111 trivial dX6_pour_114
                  · have i92 := c_nlt c92
                    refine lv_iload hx hb dX6_pour_95 (lv_at hl 5 rfl) ?_
                    refine lv_aload_n hx hb dX6_pour_97 rfl (lv_at hl 0 rfl) ?_
                    refine Mg_6 C h dX6_pour_98 ?_
                    refine lv_iload_n hx hb dX6_pour_101 rfl (lv_at hl 3 rfl) ?_
                    refine Ml_6 C h (ix_of (rfl : p3.toInt = p3.toInt) (by omega)) dX6_pour_102 ?_
                    refine lv_iload hx hb dX6_pour_103 (lv_at hl 4 rfl) ?_
                    refine lv_isub hx hb dX6_pour_105 ?_
                    have tc106_0 : ((ga σ 6 p3) - p4).toInt = ((ga σ 6 p3).toInt - p4.toInt) := (i_sub (rfl : (ga σ 6 p3).toInt = (ga σ 6 p3).toInt) (rfl : p4.toInt = p4.toInt) (by omega))
                    refine lv_icmp_le (tgt := 115) hx hb dX6_pour_106 (by decide) (fun c106 => ?_) (fun c106 => ?_)
                    · have i106 := c_le c106
                      refine lv_iconst (v := 0) hx hb dX6_pour_115 (by decide) ?_
                      refine lv_istore (lv' := [(6, .int (0 : Int32)), (0, .ref (g.2.1 99)), (1, .int p1), (2, .int p2), (3, .int p3), (4, .int p4), (5, .int p5)]) hx hb dX6_pour_116 hl (by decide) rfl (fun ls hl => ?_)
                      have hL118 : ∀ (n : Nat) (x6_118 : Int32) (σL118 : MS) (H : Heap) (locs : List Loc) (ls : Array Slot), (∀ t : Int32, (0 ≤ t.toInt ∧ t.toInt ≤ 3) → -1 ≤ (ga σL118 6 t).toInt ∧ (ga σL118 6 t).toInt ≤ 60) → (0 ≤ x6_118.toInt ∧ (x6_118.toInt ≤ p5.toInt)) → (p5.toInt - x6_118.toInt).toNat < n → MH g σL118 s H locs → lv_has ls 8 [(0, .ref (g.2.1 99)), (1, .int p1), (2, .int p2), (3, .int p3), (4, .int p4), (5, .int p5), (6, .int x6_118)] → (∀ (x6_118' : Int32) (σL118' : MS) (H : Heap) (locs : List Loc) (ls : Array Slot), f_X6_pour_L118 p1 p2 p3 p4 p5 n x6_118 σL118 = (x6_118', σL118') → (∀ t : Int32, (0 ≤ t.toInt ∧ t.toInt ≤ 3) → -1 ≤ (ga σL118' 6 t).toInt ∧ (ga σL118' 6 t).toInt ≤ 60) → (0 ≤ x6_118'.toInt ∧ (x6_118'.toInt ≤ p5.toInt)) → MH g σL118' s H locs → lv_has ls 8 [(0, .ref (g.2.1 99))] → W p l e ({ frames := 1, cells := 0, slots := 0, locals := 21 } : Room) s m args below meth c H locs 0 0 (MQ below (mQz g (f_X6_pour σ p1 p2 p3 p4 p5).1 (f_X6_pour σ p1 p2 p3 p4 p5).2 (fun u r => True)) args s 0 0 (mA g)) (F0 m 180 ls [])) → W p l e ({ frames := 1, cells := 0, slots := 0, locals := 21 } : Room) s m args below meth c H locs 0 0 (MQ below (mQz g (f_X6_pour σ p1 p2 p3 p4 p5).1 (f_X6_pour σ p1 p2 p3 p4 p5).2 (fun u r => True)) args s 0 0 (mA g)) (F0 m 118 ls []) := by
                        intro n
                        induction n with
                        | zero =>
                          intro x6_118 σL118 H locs ls hT _ hm; exact absurd hm (Nat.not_lt_zero _)
                        | succ n ih =>
                          intro x6_118 σL118 H locs ls hT hI118 hm h hl kk
                          refine lv_iload hx hb dX6_pour_118 (lv_at hl 6 rfl) ?_
                          refine lv_iload hx hb dX6_pour_120 (lv_at hl 5 rfl) ?_
                          refine lv_icmp_ge (tgt := 180) hx hb dX6_pour_122 (by decide) (fun c122 => ?_) (fun c122 => ?_)
                          · have i122 := c_le c122
                            exact kk x6_118 σL118 _ _ _ (show f_X6_pour_L118 p1 p2 p3 p4 p5 (n + 1) x6_118 σL118 = (x6_118, σL118) from (by exact ((if_pos c122).trans rfl))) hT (by first | assumption | omega) h (lv_sub hl [0] rfl)
                          · have i122 := c_nle c122
                            refine lv_iload_n hx hb dX6_pour_125 rfl (lv_at hl 2 rfl) ?_
                            refine lv_iload hx hb dX6_pour_126 (lv_at hl 4 rfl) ?_
                            have j143 : ∀ (t0_143 : Int32) (H : Heap) (locs : List Loc) (ls : Array Slot) (ej143 : (if p4 ≤ p2 then (x6_118) else (((p5 - (1 : Int32)) - x6_118))) = t0_143) (hI143 : 0 ≤ t0_143.toInt ∧ t0_143.toInt < p5.toInt) (h : MH g σL118 s H locs) (hl : lv_has ls 8 [(0, .ref (g.2.1 99)), (1, .int p1), (2, .int p2), (3, .int p3), (4, .int p4), (5, .int p5), (6, .int x6_118)]), W p l e ({ frames := 1, cells := 0, slots := 0, locals := 21 } : Room) s m args below meth c H locs 0 0 (MQ below (mQz g (f_X6_pour σ p1 p2 p3 p4 p5).1 (f_X6_pour σ p1 p2 p3 p4 p5).2 (fun u r => True)) args s 0 0 (mA g)) (F0 m 143 ls [.int t0_143]) := by
                              intro t0_143 H locs ls ej143 hI143 h hl
                              have et0_143 := ej143.symm
                              refine lv_istore (lv' := [(7, .int t0_143), (0, .ref (g.2.1 99)), (1, .int p1), (2, .int p2), (3, .int p3), (4, .int p4), (5, .int p5), (6, .int x6_118)]) hx hb dX6_pour_143 hl (by decide) rfl (fun ls hl => ?_)
                              refine lv_aload_n hx hb dX6_pour_145 rfl (lv_at hl 1 rfl) ?_
                              refine Mg_7 C h dX6_pour_146 ?_
                              refine lv_bipush (v := 60) hx hb dX6_pour_149 (by decide) ?_
                              refine lv_iload_n hx hb dX6_pour_151 rfl (lv_at hl 4 rfl) ?_
                              refine lv_imul hx hb dX6_pour_152 ?_
                              refine lv_iload hx hb dX6_pour_153 (lv_at hl 5 rfl) ?_
                              refine lv_iadd hx hb dX6_pour_155 ?_
                              refine lv_iload hx hb dX6_pour_156 (lv_at hl 0 rfl) ?_
                              refine lv_iadd hx hb dX6_pour_158 ?_
                              refine lv_aload_n hx hb dX6_pour_159 rfl (lv_at hl 1 rfl) ?_
                              refine Mg_7 C h dX6_pour_160 ?_
                              refine lv_bipush (v := 60) hx hb dX6_pour_163 (by decide) ?_
                              refine lv_iload_n hx hb dX6_pour_165 rfl (lv_at hl 2 rfl) ?_
                              refine lv_imul hx hb dX6_pour_166 ?_
                              refine lv_iload_n hx hb dX6_pour_167 rfl (lv_at hl 3 rfl) ?_
                              refine lv_iadd hx hb dX6_pour_168 ?_
                              refine lv_iload hx hb dX6_pour_169 (lv_at hl 0 rfl) ?_
                              refine lv_iadd hx hb dX6_pour_171 ?_
                              refine Ml_7 C h (ix_of (i_add (i_add (i_mul zl60 (rfl : p1.toInt = p1.toInt) (by omega)) (rfl : p2.toInt = p2.toInt) (by omega)) (rfl : t0_143.toInt = t0_143.toInt) (by omega)) (by omega)) dX6_pour_172 ?_
                              refine Ms_7 C h (ix_of (i_add (i_add (i_mul zl60 (rfl : p3.toInt = p3.toInt) (by omega)) (rfl : p4.toInt = p4.toInt) (by omega)) (rfl : t0_143.toInt = t0_143.toInt) (by omega)) (by omega)) dX6_pour_173 (fun σ173 H locs eσ173 h => ?_)
                              have hT : ∀ t : Int32, (0 ≤ t.toInt ∧ t.toInt ≤ 3) → -1 ≤ (ga σ173 6 t).toInt ∧ (ga σ173 6 t).toInt ≤ 60 := by rw [eσ173] <;> exact hT
                              refine lv_iinc (v := (x6_118 + (1 : Int32))) (lv' := [(6, .int (x6_118 + (1 : Int32))), (7, .int t0_143), (0, .ref (g.2.1 99)), (1, .int p1), (2, .int p2), (3, .int p3), (4, .int p4), (5, .int p5)]) hx hb dX6_pour_174 hl (k := 7) rfl rfl (by decide) rfl (fun ls hl => ?_)
                              refine lv_goto (tgt := 118) hx hb dX6_pour_177 (by decide) ?_
                              have tt6 : (x6_118 + (1 : Int32)).toInt = (x6_118.toInt + (1)) := (i_add (rfl : x6_118.toInt = x6_118.toInt) zl1 (by omega))
                              exact ih (x6_118 + (1 : Int32)) σ173 _ _ _ hT (by first | assumption | omega) (by omega) h (lv_sub hl [2, 3, 4, 5, 6, 7, 0] rfl) (fun x6_118' σL118' H locs ls en hT hI h hl => kk x6_118' σL118' H locs ls ((show f_X6_pour_L118 p1 p2 p3 p4 p5 (n + 1) x6_118 σL118 = f_X6_pour_L118 p1 p2 p3 p4 p5 n (x6_118 + (1 : Int32)) σ173 from (by subst et0_143; subst eσ173; exact ((if_neg c122).trans rfl))).trans en) hT hI h hl)
                            refine lv_icmp_ge (tgt := 141) hx hb dX6_pour_128 (by decide) (fun c128 => ?_) (fun c128 => ?_)
                            · have i128 := c_le c128
                              refine lv_iload hx hb dX6_pour_141 (lv_at hl 6 rfl) ?_
                              exact j143 _ _ _ _ (by exact ((if_pos c128).trans rfl)) (by first | assumption | omega) h hl
                            · have i128 := c_nle c128
                              refine lv_iload hx hb dX6_pour_131 (lv_at hl 5 rfl) ?_
                              refine lv_iconst (v := 1) hx hb dX6_pour_133 (by decide) ?_
                              refine lv_isub hx hb dX6_pour_134 ?_
                              refine lv_iload hx hb dX6_pour_135 (lv_at hl 6 rfl) ?_
                              refine lv_isub hx hb dX6_pour_137 ?_
                              refine lv_goto (tgt := 143) hx hb dX6_pour_138 (by decide) ?_
                              have tjt0_143 : ((p5 - (1 : Int32)) - x6_118).toInt = ((p5.toInt - (1)) - x6_118.toInt) := (i_sub (i_sub (rfl : p5.toInt = p5.toInt) zl1 (by omega)) (rfl : x6_118.toInt = x6_118.toInt) (by omega))
                              exact j143 _ _ _ _ (by exact ((if_neg c128).trans rfl)) (by first | assumption | omega) h hl
                      refine hL118 (61) (0 : Int32) σ _ _ _ hT (by first | assumption | omega) (by omega) h (lv_sub hl [1, 2, 3, 4, 5, 6, 0] rfl) (fun x6_118e σL118e H locs ls eL118 hT hI118 h hl => ?_)
                      have ex6_118e : x6_118e = (f_X6_pour_L118 p1 p2 p3 p4 p5 (61) (0 : Int32) σ).1 := by rw [eL118]
                      have eσL118e : σL118e = (f_X6_pour_L118 p1 p2 p3 p4 p5 (61) (0 : Int32) σ).2 := by rw [eL118]
                      refine lv_aload_n hx hb dX6_pour_180 rfl (lv_at hl 0 rfl) ?_
                      refine lv_iconst (v := 0) hx hb dX6_pour_181 (by decide) ?_
                      refine M_callz (As := [.int (0 : Int32)]) (rest := []) 1 C h (k_X6_is l g σL118e (0 : Int32)) (lw_V q1663 q1665 qs65 q152 q1666) rfl rfl (by decide +kernel) ⟨Nat.le_of_ble_eq_true rfl, Nat.le_of_ble_eq_true rfl⟩ rfl hl.1 rfl (Nat.le_of_ble_eq_true rfl) ⟨Nat.le_of_ble_eq_true rfl, Nat.le_of_ble_eq_true rfl⟩ dX6_pour_182 (fun r182 σ182 H locs eσ182 er182 br182 hE182 h => ?_)
                      clear hE182
                      have hT : ∀ t : Int32, (0 ≤ t.toInt ∧ t.toInt ≤ 3) → -1 ≤ (ga σ182 6 t).toInt ∧ (ga σ182 6 t).toInt ≤ 60 := by rw [eσ182, is_s] <;> exact hT
                      have he : f_X6_pour σ p1 p2 p3 p4 p5 = (σ182, r182) := (by subst er1; subst er8; subst ex6_118e; subst eσL118e; subst eσ182; subst er182; exact ((if_neg c4).trans ((if_neg c11).trans ((if_neg c15).trans ((if_neg c20).trans ((if_pos c25).trans ((if_neg c41).trans ((if_neg c51).trans ((if_pos c72).trans ((if_neg c92).trans ((if_pos c106).trans rfl)))))))))))
                      exact M_retz C h hr hlocks (congrArg Prod.fst he) (congrArg Prod.snd he) br182 trivial dX6_pour_185
                    · have i106 := c_nle c106
                      refine lv_aload_n hx hb dX6_pour_109 rfl (lv_at hl 0 rfl) ?_
                      refine lv_iconst (v := 3) hx hb dX6_pour_110 (by decide) ?_
                      refine M_callz (As := [.int (3 : Int32)]) (rest := []) 1 C h (k_X6_is l g σ (3 : Int32)) (lw_V q1663 q1665 qs65 q152 q1666) rfl rfl (by decide +kernel) ⟨Nat.le_of_ble_eq_true rfl, Nat.le_of_ble_eq_true rfl⟩ rfl hl.1 rfl (Nat.le_of_ble_eq_true rfl) ⟨Nat.le_of_ble_eq_true rfl, Nat.le_of_ble_eq_true rfl⟩ dX6_pour_111 (fun r111 σ111 H locs eσ111 er111 br111 hE111 h => ?_)
                      clear hE111
                      have hT : ∀ t : Int32, (0 ≤ t.toInt ∧ t.toInt ≤ 3) → -1 ≤ (ga σ111 6 t).toInt ∧ (ga σ111 6 t).toInt ≤ 60 := by rw [eσ111, is_s] <;> exact hT
                      have he : f_X6_pour σ p1 p2 p3 p4 p5 = (σ111, r111) := (by subst er1; subst er8; subst eσ111; subst er111; exact ((if_neg c4).trans ((if_neg c11).trans ((if_neg c15).trans ((if_neg c20).trans ((if_pos c25).trans ((if_neg c41).trans ((if_neg c51).trans ((if_pos c72).trans ((if_neg c92).trans ((if_neg c106).trans rfl)))))))))))
                      exact M_retz C h hr hlocks (congrArg Prod.fst he) (congrArg Prod.snd he) br111 trivial dX6_pour_114
                · have i72 := c_ne c72
                  refine lv_aload_n hx hb dX6_pour_75 rfl (lv_at hl 0 rfl) ?_
                  refine lv_bipush (v := 8) hx hb dX6_pour_76 (by decide) ?_
                  refine M_callz (As := [.int (8 : Int32)]) (rest := []) 1 C h (k_X6_is l g σ (8 : Int32)) (lw_V q1663 q1665 qs65 q152 q1666) rfl rfl (by decide +kernel) ⟨Nat.le_of_ble_eq_true rfl, Nat.le_of_ble_eq_true rfl⟩ rfl hl.1 rfl (Nat.le_of_ble_eq_true rfl) ⟨Nat.le_of_ble_eq_true rfl, Nat.le_of_ble_eq_true rfl⟩ dX6_pour_78 (fun r78 σ78 H locs eσ78 er78 br78 hE78 h => ?_)
                  clear hE78
                  have hT : ∀ t : Int32, (0 ≤ t.toInt ∧ t.toInt ≤ 3) → -1 ≤ (ga σ78 6 t).toInt ∧ (ga σ78 6 t).toInt ≤ 60 := by rw [eσ78, is_s] <;> exact hT
                  have he : f_X6_pour σ p1 p2 p3 p4 p5 = (σ78, r78) := (by subst er1; subst er8; subst eσ78; subst er78; exact ((if_neg c4).trans ((if_neg c11).trans ((if_neg c15).trans ((if_neg c20).trans ((if_pos c25).trans ((if_neg c41).trans ((if_neg c51).trans ((if_neg c72).trans rfl)))))))))
                  exact M_retz C h hr hlocks (congrArg Prod.fst he) (congrArg Prod.snd he) br78 trivial dX6_pour_81
              · have i51 := c_eq c51
                refine lv_aload_n hx hb dX6_pour_54 rfl (lv_at hl 0 rfl) ?_
                refine lv_iconst (v := 2) hx hb dX6_pour_55 (by decide) ?_
                refine M_callz (As := [.int (2 : Int32)]) (rest := []) 1 C h (k_X6_is l g σ (2 : Int32)) (lw_V q1663 q1665 qs65 q152 q1666) rfl rfl (by decide +kernel) ⟨Nat.le_of_ble_eq_true rfl, Nat.le_of_ble_eq_true rfl⟩ rfl hl.1 rfl (Nat.le_of_ble_eq_true rfl) ⟨Nat.le_of_ble_eq_true rfl, Nat.le_of_ble_eq_true rfl⟩ dX6_pour_56 (fun r56 σ56 H locs eσ56 er56 br56 hE56 h => ?_)
                clear hE56
                have hT : ∀ t : Int32, (0 ≤ t.toInt ∧ t.toInt ≤ 3) → -1 ≤ (ga σ56 6 t).toInt ∧ (ga σ56 6 t).toInt ≤ 60 := by rw [eσ56, is_s] <;> exact hT
                have he : f_X6_pour σ p1 p2 p3 p4 p5 = (σ56, r56) := (by subst er1; subst er8; subst eσ56; subst er56; exact ((if_neg c4).trans ((if_neg c11).trans ((if_neg c15).trans ((if_neg c20).trans ((if_pos c25).trans ((if_neg c41).trans ((if_pos c51).trans rfl))))))))
                exact M_retz C h hr hlocks (congrArg Prod.fst he) (congrArg Prod.snd he) br56 trivial dX6_pour_59
          · have i25 := c_nle c25
            refine lv_aload_n hx hb dX6_pour_28 rfl (lv_at hl 0 rfl) ?_
            refine lv_iconst (v := 1) hx hb dX6_pour_29 (by decide) ?_
            refine M_callz (As := [.int (1 : Int32)]) (rest := []) 1 C h (k_X6_is l g σ (1 : Int32)) (lw_V q1663 q1665 qs65 q152 q1666) rfl rfl (by decide +kernel) ⟨Nat.le_of_ble_eq_true rfl, Nat.le_of_ble_eq_true rfl⟩ rfl hl.1 rfl (Nat.le_of_ble_eq_true rfl) ⟨Nat.le_of_ble_eq_true rfl, Nat.le_of_ble_eq_true rfl⟩ dX6_pour_30 (fun r30 σ30 H locs eσ30 er30 br30 hE30 h => ?_)
            clear hE30
            have hT : ∀ t : Int32, (0 ≤ t.toInt ∧ t.toInt ≤ 3) → -1 ≤ (ga σ30 6 t).toInt ∧ (ga σ30 6 t).toInt ≤ 60 := by rw [eσ30, is_s] <;> exact hT
            have he : f_X6_pour σ p1 p2 p3 p4 p5 = (σ30, r30) := (by subst er1; subst er8; subst eσ30; subst er30; exact ((if_neg c4).trans ((if_neg c11).trans ((if_neg c15).trans ((if_neg c20).trans ((if_neg c25).trans rfl))))))
            exact M_retz C h hr hlocks (congrArg Prod.fst he) (congrArg Prod.snd he) br30 trivial dX6_pour_33
def f_X6_four (σ : MS) (p1 : Int32) : MS := (let σ19u1 := sa σ 8 (gi σ 10) (vp_nar .byte (p1 >>> ((24 : Int32) &&& (31 : Int32))).toInt8.toInt32); let σ27u2 := si σ19u1 10 ((gi σ19u1 10) + (1 : Int32)); (let σ19u3 := sa σ27u2 8 (gi σ27u2 10) (vp_nar .byte (p1 >>> ((16 : Int32) &&& (31 : Int32))).toInt8.toInt32); let σ27u4 := si σ19u3 10 ((gi σ19u3 10) + (1 : Int32)); (let σ19u5 := sa σ27u4 8 (gi σ27u4 10) (vp_nar .byte (p1 >>> ((8 : Int32) &&& (31 : Int32))).toInt8.toInt32); let σ27u6 := si σ19u5 10 ((gi σ19u5 10) + (1 : Int32)); (let σ19u7 := sa σ27u6 8 (gi σ27u6 10) (vp_nar .byte (p1 >>> ((0 : Int32) &&& (31 : Int32))).toInt8.toInt32); let σ27u8 := si σ19u7 10 ((gi σ19u7 10) + (1 : Int32)); σ27u8))))
set_option maxHeartbeats 4000000 in
set_option maxRecDepth 100000 in
theorem k_X6_four (l : Launch) (g : GE) (σ : MS) (p1 : Int32) (ht0 : 0 ≤ (gi σ 10).toInt ∧ (gi σ 10).toInt ≤ 896) : Met l yX6_four (ws_ yX6_four cX6_four 3 none) ({ frames := 0, cells := 0, slots := 0, locals := 0 } : Room) (mPc g σ [.int p1]) (mQv g (f_X6_four σ p1) (fun u => ((gi u 10).toInt = (gi σ 10).toInt + 4))) 0 0 (mA g) := by
  refine met_M (by decide) rfl (Nat.le_of_ble_eq_true rfl) ?_
  intro p e s m args below meth c C hr hlocks h ls hl
  have hx := C.1.1
  have hb := C.1.2.1
  have hml := C.1.2.2.1
  have hown := C.1.2.2.2.1
  have hts := C.1.2.2.2.2
  have hl : lv_has ls 3 [(0, .ref (g.2.1 99)), (1, .int p1)] := hl
  have zlm8 : (-8 : Int32).toInt = -8 := rfl
  have zl0 : (0 : Int32).toInt = 0 := rfl
  have zl1 : (1 : Int32).toInt = 1 := rfl
  have zl24 : (24 : Int32).toInt = 24 := rfl
  refine lv_bipush (v := 24) hx hb dX6_four_0 (by decide) ?_
  refine lv_istore_n (lv' := [(2, .int (24 : Int32)), (0, .ref (g.2.1 99)), (1, .int p1)]) hx hb dX6_four_2 rfl hl (by decide) rfl (fun ls hl => ?_)
  refine lv_iload_n hx hb dX6_four_3 rfl (lv_at hl 0 rfl) ?_
  refine lv_if_lt (tgt := 36) hx hb dX6_four_4 (by decide) (fun c4 => absurd c4 (by decide)) (fun _ => ?_)
  refine lv_aload_n hx hb dX6_four_7 rfl (lv_at hl 1 rfl) ?_
  refine Mg_8 C h dX6_four_8 ?_
  refine lv_aload_n hx hb dX6_four_11 rfl (lv_at hl 1 rfl) ?_
  refine Mg_10 C h dX6_four_12 ?_
  refine lv_iload_n hx hb dX6_four_15 rfl (lv_at hl 2 rfl) ?_
  refine lv_iload_n hx hb dX6_four_16 rfl (lv_at hl 0 rfl) ?_
  refine lv_ishr hx hb dX6_four_17 ?_
  refine lv_i2b (v := (p1 >>> ((24 : Int32) &&& (31 : Int32))).toInt8.toInt32) hx hb dX6_four_18 rfl ?_
  refine Ms_8 C h (ix_of (rfl : (gi σ 10).toInt = (gi σ 10).toInt) (by omega)) dX6_four_19 (fun σ19u1 H locs eσ19u1 h => ?_)
  have qσ19u1 : (gi σ19u1 10).toInt = (gi σ 10).toInt := by rw [eσ19u1]; rfl
  refine lv_aload_n hx hb dX6_four_20 rfl (lv_at hl 1 rfl) ?_
  refine lv_dup hx hb dX6_four_21 rfl ?_
  refine Mg_10 C h dX6_four_22 ?_
  refine lv_iconst (v := 1) hx hb dX6_four_25 (by decide) ?_
  refine lv_iadd hx hb dX6_four_26 ?_
  refine Mp_10 C h dX6_four_27 (fun σ27u2 H locs eσ27u2 h => ?_)
  have qσ27u2 : (gi σ27u2 10).toInt = (gi σ19u1 10).toInt + 1 := by rw [eσ27u2]; exact i_add rfl zl1 (by omega)
  refine lv_iinc (v := (16 : Int32)) (lv' := [(2, .int (16 : Int32)), (0, .ref (g.2.1 99)), (1, .int p1)]) hx hb dX6_four_30 hl (k := 0) rfl rfl (by decide) rfl (fun ls hl => ?_)
  refine lv_goto (tgt := 3) hx hb dX6_four_33 (by decide) ?_
  refine lv_iload_n hx hb dX6_four_3 rfl (lv_at hl 0 rfl) ?_
  refine lv_if_lt (tgt := 36) hx hb dX6_four_4 (by decide) (fun c4 => absurd c4 (by decide)) (fun _ => ?_)
  refine lv_aload_n hx hb dX6_four_7 rfl (lv_at hl 1 rfl) ?_
  refine Mg_8 C h dX6_four_8 ?_
  refine lv_aload_n hx hb dX6_four_11 rfl (lv_at hl 1 rfl) ?_
  refine Mg_10 C h dX6_four_12 ?_
  refine lv_iload_n hx hb dX6_four_15 rfl (lv_at hl 2 rfl) ?_
  refine lv_iload_n hx hb dX6_four_16 rfl (lv_at hl 0 rfl) ?_
  refine lv_ishr hx hb dX6_four_17 ?_
  refine lv_i2b (v := (p1 >>> ((16 : Int32) &&& (31 : Int32))).toInt8.toInt32) hx hb dX6_four_18 rfl ?_
  refine Ms_8 C h (ix_of (rfl : (gi σ27u2 10).toInt = (gi σ27u2 10).toInt) (by omega)) dX6_four_19 (fun σ19u3 H locs eσ19u3 h => ?_)
  have qσ19u3 : (gi σ19u3 10).toInt = (gi σ27u2 10).toInt := by rw [eσ19u3]; rfl
  refine lv_aload_n hx hb dX6_four_20 rfl (lv_at hl 1 rfl) ?_
  refine lv_dup hx hb dX6_four_21 rfl ?_
  refine Mg_10 C h dX6_four_22 ?_
  refine lv_iconst (v := 1) hx hb dX6_four_25 (by decide) ?_
  refine lv_iadd hx hb dX6_four_26 ?_
  refine Mp_10 C h dX6_four_27 (fun σ27u4 H locs eσ27u4 h => ?_)
  have qσ27u4 : (gi σ27u4 10).toInt = (gi σ19u3 10).toInt + 1 := by rw [eσ27u4]; exact i_add rfl zl1 (by omega)
  refine lv_iinc (v := (8 : Int32)) (lv' := [(2, .int (8 : Int32)), (0, .ref (g.2.1 99)), (1, .int p1)]) hx hb dX6_four_30 hl (k := 0) rfl rfl (by decide) rfl (fun ls hl => ?_)
  refine lv_goto (tgt := 3) hx hb dX6_four_33 (by decide) ?_
  refine lv_iload_n hx hb dX6_four_3 rfl (lv_at hl 0 rfl) ?_
  refine lv_if_lt (tgt := 36) hx hb dX6_four_4 (by decide) (fun c4 => absurd c4 (by decide)) (fun _ => ?_)
  refine lv_aload_n hx hb dX6_four_7 rfl (lv_at hl 1 rfl) ?_
  refine Mg_8 C h dX6_four_8 ?_
  refine lv_aload_n hx hb dX6_four_11 rfl (lv_at hl 1 rfl) ?_
  refine Mg_10 C h dX6_four_12 ?_
  refine lv_iload_n hx hb dX6_four_15 rfl (lv_at hl 2 rfl) ?_
  refine lv_iload_n hx hb dX6_four_16 rfl (lv_at hl 0 rfl) ?_
  refine lv_ishr hx hb dX6_four_17 ?_
  refine lv_i2b (v := (p1 >>> ((8 : Int32) &&& (31 : Int32))).toInt8.toInt32) hx hb dX6_four_18 rfl ?_
  refine Ms_8 C h (ix_of (rfl : (gi σ27u4 10).toInt = (gi σ27u4 10).toInt) (by omega)) dX6_four_19 (fun σ19u5 H locs eσ19u5 h => ?_)
  have qσ19u5 : (gi σ19u5 10).toInt = (gi σ27u4 10).toInt := by rw [eσ19u5]; rfl
  refine lv_aload_n hx hb dX6_four_20 rfl (lv_at hl 1 rfl) ?_
  refine lv_dup hx hb dX6_four_21 rfl ?_
  refine Mg_10 C h dX6_four_22 ?_
  refine lv_iconst (v := 1) hx hb dX6_four_25 (by decide) ?_
  refine lv_iadd hx hb dX6_four_26 ?_
  refine Mp_10 C h dX6_four_27 (fun σ27u6 H locs eσ27u6 h => ?_)
  have qσ27u6 : (gi σ27u6 10).toInt = (gi σ19u5 10).toInt + 1 := by rw [eσ27u6]; exact i_add rfl zl1 (by omega)
  refine lv_iinc (v := (0 : Int32)) (lv' := [(2, .int (0 : Int32)), (0, .ref (g.2.1 99)), (1, .int p1)]) hx hb dX6_four_30 hl (k := 0) rfl rfl (by decide) rfl (fun ls hl => ?_)
  refine lv_goto (tgt := 3) hx hb dX6_four_33 (by decide) ?_
  refine lv_iload_n hx hb dX6_four_3 rfl (lv_at hl 0 rfl) ?_
  refine lv_if_lt (tgt := 36) hx hb dX6_four_4 (by decide) (fun c4 => absurd c4 (by decide)) (fun _ => ?_)
  refine lv_aload_n hx hb dX6_four_7 rfl (lv_at hl 1 rfl) ?_
  refine Mg_8 C h dX6_four_8 ?_
  refine lv_aload_n hx hb dX6_four_11 rfl (lv_at hl 1 rfl) ?_
  refine Mg_10 C h dX6_four_12 ?_
  refine lv_iload_n hx hb dX6_four_15 rfl (lv_at hl 2 rfl) ?_
  refine lv_iload_n hx hb dX6_four_16 rfl (lv_at hl 0 rfl) ?_
  refine lv_ishr hx hb dX6_four_17 ?_
  refine lv_i2b (v := (p1 >>> ((0 : Int32) &&& (31 : Int32))).toInt8.toInt32) hx hb dX6_four_18 rfl ?_
  refine Ms_8 C h (ix_of (rfl : (gi σ27u6 10).toInt = (gi σ27u6 10).toInt) (by omega)) dX6_four_19 (fun σ19u7 H locs eσ19u7 h => ?_)
  have qσ19u7 : (gi σ19u7 10).toInt = (gi σ27u6 10).toInt := by rw [eσ19u7]; rfl
  refine lv_aload_n hx hb dX6_four_20 rfl (lv_at hl 1 rfl) ?_
  refine lv_dup hx hb dX6_four_21 rfl ?_
  refine Mg_10 C h dX6_four_22 ?_
  refine lv_iconst (v := 1) hx hb dX6_four_25 (by decide) ?_
  refine lv_iadd hx hb dX6_four_26 ?_
  refine Mp_10 C h dX6_four_27 (fun σ27u8 H locs eσ27u8 h => ?_)
  have qσ27u8 : (gi σ27u8 10).toInt = (gi σ19u7 10).toInt + 1 := by rw [eσ27u8]; exact i_add rfl zl1 (by omega)
  refine lv_iinc (v := (-8 : Int32)) (lv' := [(2, .int (-8 : Int32)), (0, .ref (g.2.1 99)), (1, .int p1)]) hx hb dX6_four_30 hl (k := 0) rfl rfl (by decide) rfl (fun ls hl => ?_)
  refine lv_goto (tgt := 3) hx hb dX6_four_33 (by decide) ?_
  refine lv_iload_n hx hb dX6_four_3 rfl (lv_at hl 0 rfl) ?_
  refine lv_if_lt (tgt := 36) hx hb dX6_four_4 (by decide) (fun _ => ?_) (fun c4 => absurd c4 (by decide))
  have he : f_X6_four σ p1 = σ27u8 := (by subst eσ19u1; subst eσ27u2; subst eσ19u3; subst eσ27u4; subst eσ19u5; subst eσ27u6; subst eσ19u7; subst eσ27u8; exact rfl)
  exact M_retv C h hr hlocks he (by first | assumption | omega | (unfold Hd; omega)) dX6_four_36
def f_X6_feed (σ : MS) (p1 : Int32) (p2 : Int32) (p3 : Int32) (p4 : Int32) (p5 : Int32) : MS × Int32 := if ((gi σ 10) + (20 : Int32)) ≤ (900 : Int32) then ((let σ17 := (f_X6_four σ p1); let σ22 := (f_X6_four σ17 p2); let σ27 := (f_X6_four σ22 p3); let σ33 := (f_X6_four σ27 p4); let σ39 := (f_X6_four σ33 p5); (σ39, (gi σ39 10)))) else ((σ, (-1 : Int32)))
set_option maxHeartbeats 4000000 in
set_option maxRecDepth 100000 in
theorem k_X6_feed (l : Launch) (g : GE) (σ : MS) (p1 : Int32) (p2 : Int32) (p3 : Int32) (p4 : Int32) (p5 : Int32) (ht0 : 0 ≤ (gi σ 10).toInt ∧ (gi σ 10).toInt ≤ 900) : Met l yX6_feed (ws_ yX6_feed cX6_feed 6 (some .int)) ({ frames := 1, cells := 0, slots := 0, locals := 22 } : Room) (mPc g σ [.int p1, .int p2, .int p3, .int p4, .int p5]) (mQi g (f_X6_feed σ p1 p2 p3 p4 p5).1 (f_X6_feed σ p1 p2 p3 p4 p5).2 (fun u r => True)) 0 0 (mA g) := by
  refine met_M (by decide) rfl (Nat.le_of_ble_eq_true rfl) ?_
  intro p e s m args below meth c C hr hlocks h ls hl
  have hx := C.1.1
  have hb := C.1.2.1
  have hml := C.1.2.2.1
  have hown := C.1.2.2.2.1
  have hts := C.1.2.2.2.2
  have hl : lv_has ls 6 [(0, .ref (g.2.1 99)), (1, .int p1), (2, .int p2), (3, .int p3), (4, .int p4), (5, .int p5)] := hl
  have zlm1 : (-1 : Int32).toInt = -1 := rfl
  have zl20 : (20 : Int32).toInt = 20 := rfl
  have zl900 : (900 : Int32).toInt = 900 := rfl
  refine lv_aload_n hx hb dX6_feed_0 rfl (lv_at hl 0 rfl) ?_
  refine Mg_10 C h dX6_feed_1 ?_
  refine lv_bipush (v := 20) hx hb dX6_feed_4 (by decide) ?_
  refine lv_iadd hx hb dX6_feed_6 ?_
  refine lv_sipush (v := 900) hx hb dX6_feed_7 (by decide) ?_
  have tc10_1 : ((gi σ 10) + (20 : Int32)).toInt = ((gi σ 10).toInt + (20)) := (i_add (rfl : (gi σ 10).toInt = (gi σ 10).toInt) zl20 (by omega))
  refine lv_icmp_le (tgt := 15) hx hb dX6_feed_10 (by decide) (fun c10 => ?_) (fun c10 => ?_)
  · have i10 := c_le c10
    refine lv_aload_n hx hb dX6_feed_15 rfl (lv_at hl 0 rfl) ?_
    refine lv_iload_n hx hb dX6_feed_16 rfl (lv_at hl 1 rfl) ?_
    refine M_callv (As := [.int p1]) (rest := []) 1 C h (k_X6_four l g σ p1 (by first | assumption | omega)) (lw_V q1691 q1693 qs67 q152 q1694) rfl rfl (by decide +kernel) ⟨Nat.le_of_ble_eq_true rfl, Nat.le_of_ble_eq_true rfl⟩ rfl hl.1 rfl (Nat.le_of_ble_eq_true rfl) ⟨Nat.le_of_ble_eq_true rfl, Nat.le_of_ble_eq_true rfl⟩ dX6_feed_17 (fun σ17 H locs eσ17 hE17 h => ?_)
    have hE17 : ((gi σ17 10).toInt = (gi σ 10).toInt + 4) := hE17
    have tq_17 := hE17
    refine lv_aload_n hx hb dX6_feed_20 rfl (lv_at hl 0 rfl) ?_
    refine lv_iload_n hx hb dX6_feed_21 rfl (lv_at hl 2 rfl) ?_
    refine M_callv (As := [.int p2]) (rest := []) 1 C h (k_X6_four l g σ17 p2 (by first | assumption | omega)) (lw_V q1691 q1693 qs67 q152 q1694) rfl rfl (by decide +kernel) ⟨Nat.le_of_ble_eq_true rfl, Nat.le_of_ble_eq_true rfl⟩ rfl hl.1 rfl (Nat.le_of_ble_eq_true rfl) ⟨Nat.le_of_ble_eq_true rfl, Nat.le_of_ble_eq_true rfl⟩ dX6_feed_22 (fun σ22 H locs eσ22 hE22 h => ?_)
    have hE22 : ((gi σ22 10).toInt = (gi σ17 10).toInt + 4) := hE22
    have tq_22 := hE22
    refine lv_aload_n hx hb dX6_feed_25 rfl (lv_at hl 0 rfl) ?_
    refine lv_iload_n hx hb dX6_feed_26 rfl (lv_at hl 3 rfl) ?_
    refine M_callv (As := [.int p3]) (rest := []) 1 C h (k_X6_four l g σ22 p3 (by first | assumption | omega)) (lw_V q1691 q1693 qs67 q152 q1694) rfl rfl (by decide +kernel) ⟨Nat.le_of_ble_eq_true rfl, Nat.le_of_ble_eq_true rfl⟩ rfl hl.1 rfl (Nat.le_of_ble_eq_true rfl) ⟨Nat.le_of_ble_eq_true rfl, Nat.le_of_ble_eq_true rfl⟩ dX6_feed_27 (fun σ27 H locs eσ27 hE27 h => ?_)
    have hE27 : ((gi σ27 10).toInt = (gi σ22 10).toInt + 4) := hE27
    have tq_27 := hE27
    refine lv_aload_n hx hb dX6_feed_30 rfl (lv_at hl 0 rfl) ?_
    refine lv_iload hx hb dX6_feed_31 (lv_at hl 4 rfl) ?_
    refine M_callv (As := [.int p4]) (rest := []) 1 C h (k_X6_four l g σ27 p4 (by first | assumption | omega)) (lw_V q1691 q1693 qs67 q152 q1694) rfl rfl (by decide +kernel) ⟨Nat.le_of_ble_eq_true rfl, Nat.le_of_ble_eq_true rfl⟩ rfl hl.1 rfl (Nat.le_of_ble_eq_true rfl) ⟨Nat.le_of_ble_eq_true rfl, Nat.le_of_ble_eq_true rfl⟩ dX6_feed_33 (fun σ33 H locs eσ33 hE33 h => ?_)
    have hE33 : ((gi σ33 10).toInt = (gi σ27 10).toInt + 4) := hE33
    have tq_33 := hE33
    refine lv_aload_n hx hb dX6_feed_36 rfl (lv_at hl 0 rfl) ?_
    refine lv_iload hx hb dX6_feed_37 (lv_at hl 5 rfl) ?_
    refine M_callv (As := [.int p5]) (rest := []) 1 C h (k_X6_four l g σ33 p5 (by first | assumption | omega)) (lw_V q1691 q1693 qs67 q152 q1694) rfl rfl (by decide +kernel) ⟨Nat.le_of_ble_eq_true rfl, Nat.le_of_ble_eq_true rfl⟩ rfl hl.1 rfl (Nat.le_of_ble_eq_true rfl) ⟨Nat.le_of_ble_eq_true rfl, Nat.le_of_ble_eq_true rfl⟩ dX6_feed_39 (fun σ39 H locs eσ39 hE39 h => ?_)
    have hE39 : ((gi σ39 10).toInt = (gi σ33 10).toInt + 4) := hE39
    have tq_39 := hE39
    refine lv_aload_n hx hb dX6_feed_42 rfl (lv_at hl 0 rfl) ?_
    refine Mg_10 C h dX6_feed_43 ?_
    have he : f_X6_feed σ p1 p2 p3 p4 p5 = (σ39, (gi σ39 10)) := (by subst eσ17; subst eσ22; subst eσ27; subst eσ33; subst eσ39; exact ((if_pos c10).trans rfl))
    exact M_reti C h hr hlocks (congrArg Prod.fst he) (congrArg Prod.snd he) trivial dX6_feed_46
  · have i10 := c_nle c10
    refine lv_iconst (v := -1) hx hb dX6_feed_13 (by decide) ?_
    have he : f_X6_feed σ p1 p2 p3 p4 p5 = (σ, (-1 : Int32)) := (by exact ((if_neg c10).trans rfl))
    exact M_reti C h hr hlocks (congrArg Prod.fst he) (congrArg Prod.snd he) trivial dX6_feed_14
def f_X6_draw (σ : MS) (p1 : Int32) : MS × Int32 := (let σ17 := si σ 28 ((((gi σ 28) * (2917 : Int32)) + (11119 : Int32)) - (((((gi σ 28) * (2917 : Int32)) + (11119 : Int32)) / (65536 : Int32)) * (65536 : Int32))); (σ17, (((gi σ17 28) / (8 : Int32)) - ((((gi σ17 28) / (8 : Int32)) / p1) * p1))))
set_option maxHeartbeats 4000000 in
set_option maxRecDepth 100000 in
theorem k_X6_draw (l : Launch) (g : GE) (σ : MS) (p1 : Int32) (hp : 0 ≤ (ga σ 0 (0 : Int32)).toInt ∧ (ga σ 0 (0 : Int32)).toInt ≤ 6) (hd : 0 ≤ (ga σ 0 (2 : Int32)).toInt ∧ (ga σ 0 (2 : Int32)).toInt ≤ 16) (hdr : 0 ≤ (gi σ 28).toInt ∧ (gi σ 28).toInt ≤ 65535) (hby : 1 ≤ p1.toInt) : Met l yX6_draw (ws_ yX6_draw cX6_draw 2 (some .int)) ({ frames := 0, cells := 0, slots := 0, locals := 0 } : Room) (mPc g σ [.int p1]) (mQi g (f_X6_draw σ p1).1 (f_X6_draw σ p1).2 (fun u r => ((ga u 0 (0 : Int32)).toInt = (ga σ 0 (0 : Int32)).toInt) ∧ ((ga u 0 (2 : Int32)).toInt = (ga σ 0 (2 : Int32)).toInt) ∧ (∀ j : Int32, 130 ≤ j.toInt → ga u 0 j = ga σ 0 j) ∧ ((gi u 29).toInt = (gi σ 29).toInt) ∧ ((ga u 0 (9 : Int32)).toInt = (ga σ 0 (9 : Int32)).toInt) ∧ (∀ x : Int32, (0 ≤ x.toInt ∧ x.toInt ≤ 5) → ga u 0 ((f_X6_personRow x) + (1 : Int32)) = ga σ 0 ((f_X6_personRow x) + (1 : Int32))) ∧ (MFr σ u) ∧ (0 ≤ (gi u 28).toInt ∧ (gi u 28).toInt ≤ 65535) ∧ (0 ≤ r.toInt ∧ r.toInt < p1.toInt))) 0 0 (mA g) := by
  refine met_M (by decide) rfl (Nat.le_of_ble_eq_true rfl) ?_
  intro p e s m args below meth c C hr hlocks h ls hl
  have hx := C.1.1
  have hb := C.1.2.1
  have hml := C.1.2.2.1
  have hown := C.1.2.2.2.1
  have hts := C.1.2.2.2.2
  have hl : lv_has ls 2 [(0, .ref (g.2.1 99)), (1, .int p1)] := hl
  have hpq : (ga σ 0 (0 : Int32)).toInt = (ga σ 0 (0 : Int32)).toInt := rfl
  have hdq : (ga σ 0 (2 : Int32)).toInt = (ga σ 0 (2 : Int32)).toInt := rfl
  have hY : ∀ j : Int32, 130 ≤ j.toInt → ga σ 0 j = ga σ 0 j := fun _ _ => rfl
  have hrq : (gi σ 29).toInt = (gi σ 29).toInt := rfl
  have hsq : (ga σ 0 (9 : Int32)).toInt = (ga σ 0 (9 : Int32)).toInt := rfl
  have hQq : ∀ x : Int32, (0 ≤ x.toInt ∧ x.toInt ≤ 5) → ga σ 0 ((f_X6_personRow x) + (1 : Int32)) = ga σ 0 ((f_X6_personRow x) + (1 : Int32)) := fun _ _ => rfl
  have hLF : MFr σ σ := Fr.rf
  have zl8 : (8 : Int32).toInt = 8 := rfl
  have zl2917 : (2917 : Int32).toInt = 2917 := rfl
  have zl11119 : (11119 : Int32).toInt = 11119 := rfl
  have zl65536 : (65536 : Int32).toInt = 65536 := rfl
  refine lv_aload_n hx hb dX6_draw_0 rfl (lv_at hl 0 rfl) ?_
  refine lv_aload_n hx hb dX6_draw_1 rfl (lv_at hl 0 rfl) ?_
  refine Mg_28 C h dX6_draw_2 ?_
  refine lv_sipush (v := 2917) hx hb dX6_draw_5 (by decide) ?_
  refine lv_imul hx hb dX6_draw_8 ?_
  refine lv_sipush (v := 11119) hx hb dX6_draw_9 (by decide) ?_
  refine lv_iadd hx hb dX6_draw_12 ?_
  refine lv_ldcw hx hb hown (hts _ q2227) dX6_draw_13 ?_
  refine lv_irem hx hb dX6_draw_16 (by decide) ?_
  refine Mp_28 C h dX6_draw_17 (fun σ17 H locs eσ17 h => ?_)
  have hNEW : (0 ≤ (ga σ17 0 (0 : Int32)).toInt ∧ (ga σ17 0 (0 : Int32)).toInt ≤ 6) ∧ (0 ≤ (ga σ17 0 (2 : Int32)).toInt ∧ (ga σ17 0 (2 : Int32)).toInt ≤ 16) ∧ (0 ≤ (gi σ17 28).toInt ∧ (gi σ17 28).toInt ≤ 65535) ∧ ((ga σ17 0 (0 : Int32)).toInt = (ga σ 0 (0 : Int32)).toInt) ∧ ((ga σ17 0 (2 : Int32)).toInt = (ga σ 0 (2 : Int32)).toInt) ∧ (∀ j : Int32, 130 ≤ j.toInt → ga σ17 0 j = ga σ 0 j) ∧ ((gi σ17 29).toInt = (gi σ 29).toInt) ∧ ((ga σ17 0 (9 : Int32)).toInt = (ga σ 0 (9 : Int32)).toInt) ∧ (∀ x : Int32, (0 ≤ x.toInt ∧ x.toInt ≤ 5) → ga σ17 0 ((f_X6_personRow x) + (1 : Int32)) = ga σ 0 ((f_X6_personRow x) + (1 : Int32))) ∧ (MFr σ σ17) := ⟨(by rw [eσ17] <;> exact hp), (by rw [eσ17] <;> exact hd), (by rw [eσ17]; exact draw_rng hdr), (by rw [eσ17] <;> exact hpq), (by rw [eσ17] <;> exact hdq), (by rw [eσ17] <;> exact hY), (by rw [eσ17] <;> exact hrq), (by rw [eσ17] <;> exact hsq), (by rw [eσ17] <;> exact hQq), (by rw [eσ17]; exact (Fr_si (by decide) hLF))⟩
  obtain ⟨hp, hd, hdr, hpq, hdq, hY, hrq, hsq, hQq, hLF⟩ := hNEW
  refine lv_aload_n hx hb dX6_draw_20 rfl (lv_at hl 0 rfl) ?_
  refine Mg_28 C h dX6_draw_21 ?_
  have d8 := idiv_toInt (a := gi σ17 28) (b := 8) (by omega) (by decide)
  rw [zl8] at d8
  have rr := irem_rng (a := gi σ17 28 / 8) (b := p1) (by omega) hby
  refine lv_bipush (v := 8) hx hb dX6_draw_24 (by decide) ?_
  refine lv_idiv hx hb dX6_draw_26 (by decide) ?_
  refine lv_iload_n hx hb dX6_draw_27 rfl (lv_at hl 1 rfl) ?_
  refine lv_irem hx hb dX6_draw_28 (ne_pos hby) ?_
  have he : f_X6_draw σ p1 = (σ17, (((gi σ17 28) / (8 : Int32)) - ((((gi σ17 28) / (8 : Int32)) / p1) * p1))) := (by subst eσ17; exact rfl)
  exact M_reti C h hr hlocks (congrArg Prod.fst he) (congrArg Prod.snd he) ⟨hpq, hdq, hY, hrq, hsq, hQq, hLF, (by first | assumption | omega | (unfold Hd; omega)), (by first | assumption | omega | (unfold Hd; omega))⟩ dX6_draw_29
def f_X6_dines (σ : MS) (p1 : Int32) : MS × Int32 := (let z2 := (f_X6_pays σ p1); let σ2 := z2.1; let r2 := z2.2; if r2 = (0 : Int32) then ((σ2, (0 : Int32))) else ((let σ19 := sa σ2 31 (1 : Int32) ((ga σ2 31 (1 : Int32)) + (1 : Int32)); (σ19, (1 : Int32)))))
set_option maxHeartbeats 4000000 in
set_option maxRecDepth 100000 in
theorem k_X6_dines (l : Launch) (g : GE) (σ : MS) (p1 : Int32) (hp : 0 ≤ (ga σ 0 (0 : Int32)).toInt ∧ (ga σ 0 (0 : Int32)).toInt ≤ 6) (hd : 0 ≤ (ga σ 0 (2 : Int32)).toInt ∧ (ga σ 0 (2 : Int32)).toInt ≤ 16) (h1r : 0 ≤ p1.toInt ∧ p1.toInt ≤ 5) : Met l yX6_dines (ws_ yX6_dines cX6_dines 2 (some .boolean)) ({ frames := 5, cells := 0, slots := 0, locals := 114 } : Room) (mPc g σ [.int p1]) (mQz g (f_X6_dines σ p1).1 (f_X6_dines σ p1).2 (fun u r => ((ga u 0 (0 : Int32)).toInt = (ga σ 0 (0 : Int32)).toInt) ∧ ((ga u 0 (2 : Int32)).toInt = (ga σ 0 (2 : Int32)).toInt) ∧ (∀ j : Int32, 130 ≤ j.toInt → ga u 0 j = ga σ 0 j) ∧ ((gi u 29).toInt = (gi σ 29).toInt) ∧ ((ga u 0 (9 : Int32)).toInt = (ga σ 0 (9 : Int32)).toInt) ∧ (∀ x : Int32, (0 ≤ x.toInt ∧ x.toInt ≤ 5) → ga u 0 ((f_X6_personRow x) + (1 : Int32)) = ga σ 0 ((f_X6_personRow x) + (1 : Int32))) ∧ ((gi u 28).toInt = (gi σ 28).toInt) ∧ (MFr σ u))) 0 0 (mA g) := by
  refine met_M (by decide) rfl (Nat.le_of_ble_eq_true rfl) ?_
  intro p e s m args below meth c C hr hlocks h ls hl
  have hx := C.1.1
  have hb := C.1.2.1
  have hml := C.1.2.2.1
  have hown := C.1.2.2.2.1
  have hts := C.1.2.2.2.2
  have hl : lv_has ls 2 [(0, .ref (g.2.1 99)), (1, .int p1)] := hl
  have hpq : (ga σ 0 (0 : Int32)).toInt = (ga σ 0 (0 : Int32)).toInt := rfl
  have hdq : (ga σ 0 (2 : Int32)).toInt = (ga σ 0 (2 : Int32)).toInt := rfl
  have hY : ∀ j : Int32, 130 ≤ j.toInt → ga σ 0 j = ga σ 0 j := fun _ _ => rfl
  have hrq : (gi σ 29).toInt = (gi σ 29).toInt := rfl
  have hsq : (ga σ 0 (9 : Int32)).toInt = (ga σ 0 (9 : Int32)).toInt := rfl
  have hQq : ∀ x : Int32, (0 ≤ x.toInt ∧ x.toInt ≤ 5) → ga σ 0 ((f_X6_personRow x) + (1 : Int32)) = ga σ 0 ((f_X6_personRow x) + (1 : Int32)) := fun _ _ => rfl
  have hdq28 : (gi σ 28).toInt = (gi σ 28).toInt := rfl
  have hLF : MFr σ σ := Fr.rf
  have zl0 : (0 : Int32).toInt = 0 := rfl
  have zl1 : (1 : Int32).toInt = 1 := rfl
  refine lv_aload_n hx hb dX6_dines_0 rfl (lv_at hl 0 rfl) ?_
  refine lv_iload_n hx hb dX6_dines_1 rfl (lv_at hl 1 rfl) ?_
  refine M_callz (As := [.int p1]) (rest := []) 1 C h (k_X6_pays l g σ p1 (by first | assumption | omega) (by first | assumption | omega) (by first | assumption | omega)) (lw_V q1966 q1968 qs109 q152 q1969) rfl rfl (by decide +kernel) ⟨Nat.le_of_ble_eq_true rfl, Nat.le_of_ble_eq_true rfl⟩ rfl hl.1 rfl (Nat.le_of_ble_eq_true rfl) ⟨Nat.le_of_ble_eq_true rfl, Nat.le_of_ble_eq_true rfl⟩ dX6_dines_2 (fun r2 σ2 H locs eσ2 er2 br2 hE2 h => ?_)
  have hE2 : ((ga σ2 0 (0 : Int32)).toInt = (ga σ 0 (0 : Int32)).toInt) ∧ ((ga σ2 0 (2 : Int32)).toInt = (ga σ 0 (2 : Int32)).toInt) ∧ (∀ j : Int32, 130 ≤ j.toInt → ga σ2 0 j = ga σ 0 j) ∧ ((gi σ2 29).toInt = (gi σ 29).toInt) ∧ ((ga σ2 0 (9 : Int32)).toInt = (ga σ 0 (9 : Int32)).toInt) ∧ (∀ x : Int32, (0 ≤ x.toInt ∧ x.toInt ≤ 5) → ga σ2 0 ((f_X6_personRow x) + (1 : Int32)) = ga σ 0 ((f_X6_personRow x) + (1 : Int32))) ∧ ((gi σ2 28).toInt = (gi σ 28).toInt) ∧ (MFr σ σ2) := hE2
  obtain ⟨hpq_2, hdq_2, hY_2, hrq_2, hsq_2, hQq_2, hdq28_2, hLF_2⟩ := hE2
  have hNEW : (0 ≤ (ga σ2 0 (0 : Int32)).toInt ∧ (ga σ2 0 (0 : Int32)).toInt ≤ 6) ∧ (0 ≤ (ga σ2 0 (2 : Int32)).toInt ∧ (ga σ2 0 (2 : Int32)).toInt ≤ 16) ∧ ((ga σ2 0 (0 : Int32)).toInt = (ga σ 0 (0 : Int32)).toInt) ∧ ((ga σ2 0 (2 : Int32)).toInt = (ga σ 0 (2 : Int32)).toInt) ∧ (∀ j : Int32, 130 ≤ j.toInt → ga σ2 0 j = ga σ 0 j) ∧ ((gi σ2 29).toInt = (gi σ 29).toInt) ∧ ((ga σ2 0 (9 : Int32)).toInt = (ga σ 0 (9 : Int32)).toInt) ∧ (∀ x : Int32, (0 ≤ x.toInt ∧ x.toInt ≤ 5) → ga σ2 0 ((f_X6_personRow x) + (1 : Int32)) = ga σ 0 ((f_X6_personRow x) + (1 : Int32))) ∧ ((gi σ2 28).toInt = (gi σ 28).toInt) ∧ (MFr σ σ2) := ⟨(by first | assumption | omega), (by first | assumption | omega), (by first | assumption | omega), (by first | assumption | omega), (fun j hj => (hY_2 j hj).trans (hY j hj)), (by first | assumption | omega), (by first | assumption | omega), (fun j hj => (hQq_2 j hj).trans (hQq j hj)), (by first | assumption | omega), (Fr.tr hLF hLF_2)⟩
  obtain ⟨hp, hd, hpq, hdq, hY, hrq, hsq, hQq, hdq28, hLF⟩ := hNEW
  refine lv_if_ne (tgt := 10) hx hb dX6_dines_5 (by decide) (fun c5 => ?_) (fun c5 => ?_)
  · have i5 := c_ne c5
    refine lv_aload_n hx hb dX6_dines_10 rfl (lv_at hl 0 rfl) ?_
    refine Mg_31 C h dX6_dines_11 ?_
    refine lv_iconst (v := 1) hx hb dX6_dines_14 (by decide) ?_
    refine lv_dup2_11 hx hb dX6_dines_15 rfl rfl ?_
    refine Ml_31 C h (ix_of zl1 (by omega)) dX6_dines_16 ?_
    refine lv_iconst (v := 1) hx hb dX6_dines_17 (by decide) ?_
    refine lv_iadd hx hb dX6_dines_18 ?_
    refine Ms_31 C h (ix_of zl1 (by omega)) dX6_dines_19 (fun σ19 H locs eσ19 h => ?_)
    have hNEW : (0 ≤ (ga σ19 0 (0 : Int32)).toInt ∧ (ga σ19 0 (0 : Int32)).toInt ≤ 6) ∧ (0 ≤ (ga σ19 0 (2 : Int32)).toInt ∧ (ga σ19 0 (2 : Int32)).toInt ≤ 16) ∧ ((ga σ19 0 (0 : Int32)).toInt = (ga σ 0 (0 : Int32)).toInt) ∧ ((ga σ19 0 (2 : Int32)).toInt = (ga σ 0 (2 : Int32)).toInt) ∧ (∀ j : Int32, 130 ≤ j.toInt → ga σ19 0 j = ga σ 0 j) ∧ ((gi σ19 29).toInt = (gi σ 29).toInt) ∧ ((ga σ19 0 (9 : Int32)).toInt = (ga σ 0 (9 : Int32)).toInt) ∧ (∀ x : Int32, (0 ≤ x.toInt ∧ x.toInt ≤ 5) → ga σ19 0 ((f_X6_personRow x) + (1 : Int32)) = ga σ 0 ((f_X6_personRow x) + (1 : Int32))) ∧ ((gi σ19 28).toInt = (gi σ 28).toInt) ∧ (MFr σ σ19) := ⟨(by rw [eσ19] <;> exact hp), (by rw [eσ19] <;> exact hd), (by rw [eσ19] <;> exact hpq), (by rw [eσ19] <;> exact hdq), (by rw [eσ19] <;> exact hY), (by rw [eσ19] <;> exact hrq), (by rw [eσ19] <;> exact hsq), (by rw [eσ19] <;> exact hQq), (by rw [eσ19] <;> exact hdq28), (by rw [eσ19]; exact (Fr_xa (by decide) (by decide) hLF))⟩
    clear hp hd hpq hdq hY hrq hsq hQq hdq28 hLF
    obtain ⟨hp, hd, hpq, hdq, hY, hrq, hsq, hQq, hdq28, hLF⟩ := hNEW
    refine lv_iconst (v := 1) hx hb dX6_dines_20 (by decide) ?_
    have he : f_X6_dines σ p1 = (σ19, (1 : Int32)) := (by subst eσ2; subst er2; subst eσ19; exact ((if_neg c5).trans rfl))
    exact M_retz C h hr hlocks (congrArg Prod.fst he) (congrArg Prod.snd he) (Or.inr rfl) ⟨hpq, hdq, hY, hrq, hsq, hQq, hdq28, hLF⟩ dX6_dines_21
  · have i5 := c_eq c5
    refine lv_iconst (v := 0) hx hb dX6_dines_8 (by decide) ?_
    have he : f_X6_dines σ p1 = (σ2, (0 : Int32)) := (by subst eσ2; subst er2; exact ((if_pos c5).trans rfl))
    exact M_retz C h hr hlocks (congrArg Prod.fst he) (congrArg Prod.snd he) (Or.inl rfl) ⟨hpq, hdq, hY, hrq, hsq, hQq, hdq28, hLF⟩ dX6_dines_9
def f_X6_duels_L2 (y1_2 : Int32) (y2_2 : Int32) : Nat → Int32 → MS → MS × Int32
  | 0, x3_2, σL2 => (m00, 0)
  | n + 1, x3_2, σL2 => (let jj55 := (fun (σJ55 : MS) => if (x3_2 - ((x3_2 / (2 : Int32)) * (2 : Int32))) = (0 : Int32) then ((let z67 := (f_X6_dines σJ55 y2_2); let σ67 := z67.1; let r67 := z67.2; (σ67, r67))) else ((let z67 := (f_X6_dines σJ55 y1_2); let σ67 := z67.1; let r67 := z67.2; (σ67, r67)))); if (20 : Int32) ≤ x3_2 then (jj55 σL2) else ((let z11 := (f_X6_draw σL2 (16 : Int32)); let σ11 := z11.1; let r11 := z11.2; let σ25 := sa σ11 31 (2 : Int32) ((ga σ11 31 (2 : Int32)) + (1 : Int32)); (let z40_ : Int32 := (if (x3_2 - ((x3_2 / (2 : Int32)) * (2 : Int32))) = (0 : Int32) then (y1_2) else (y2_2)); let t0_40 := z40_; (let r40 := (f_X6_insists σ25 t0_40); if r11 < r40 then (f_X6_duels_L2 y1_2 y2_2 n (x3_2 + (1 : Int32)) σ25) else (jj55 σ25))))))
def f_X6_duels (σ : MS) (p1 : Int32) (p2 : Int32) : MS × Int32 := f_X6_duels_L2 p1 p2 (21) (0 : Int32) σ
set_option maxHeartbeats 4000000 in
set_option maxRecDepth 100000 in
theorem k_X6_duels (l : Launch) (g : GE) (σ : MS) (p1 : Int32) (p2 : Int32) (hp : 0 ≤ (ga σ 0 (0 : Int32)).toInt ∧ (ga σ 0 (0 : Int32)).toInt ≤ 6) (hd : 0 ≤ (ga σ 0 (2 : Int32)).toInt ∧ (ga σ 0 (2 : Int32)).toInt ≤ 16) (hdr : 0 ≤ (gi σ 28).toInt ∧ (gi σ 28).toInt ≤ 65535) (h1r : 0 ≤ p1.toInt ∧ p1.toInt ≤ 5) (h2r : 0 ≤ p2.toInt ∧ p2.toInt ≤ 5) : Met l yX6_duels (ws_ yX6_duels cX6_duels 5 (some .boolean)) ({ frames := 6, cells := 0, slots := 0, locals := 135 } : Room) (mPc g σ [.int p1, .int p2]) (mQz g (f_X6_duels σ p1 p2).1 (f_X6_duels σ p1 p2).2 (fun u r => ((ga u 0 (0 : Int32)).toInt = (ga σ 0 (0 : Int32)).toInt) ∧ ((ga u 0 (2 : Int32)).toInt = (ga σ 0 (2 : Int32)).toInt) ∧ (∀ j : Int32, 130 ≤ j.toInt → ga u 0 j = ga σ 0 j) ∧ ((gi u 29).toInt = (gi σ 29).toInt) ∧ ((ga u 0 (9 : Int32)).toInt = (ga σ 0 (9 : Int32)).toInt) ∧ (∀ x : Int32, (0 ≤ x.toInt ∧ x.toInt ≤ 5) → ga u 0 ((f_X6_personRow x) + (1 : Int32)) = ga σ 0 ((f_X6_personRow x) + (1 : Int32))) ∧ (MFr σ u) ∧ (0 ≤ (gi u 28).toInt ∧ (gi u 28).toInt ≤ 65535))) 0 0 (mA g) := by
  refine met_M (by decide) rfl (Nat.le_of_ble_eq_true rfl) ?_
  intro p e s m args below meth c C hr hlocks h ls hl
  have hx := C.1.1
  have hb := C.1.2.1
  have hml := C.1.2.2.1
  have hown := C.1.2.2.2.1
  have hts := C.1.2.2.2.2
  have hl : lv_has ls 5 [(0, .ref (g.2.1 99)), (1, .int p1), (2, .int p2)] := hl
  have hpq : (ga σ 0 (0 : Int32)).toInt = (ga σ 0 (0 : Int32)).toInt := rfl
  have hdq : (ga σ 0 (2 : Int32)).toInt = (ga σ 0 (2 : Int32)).toInt := rfl
  have hY : ∀ j : Int32, 130 ≤ j.toInt → ga σ 0 j = ga σ 0 j := fun _ _ => rfl
  have hrq : (gi σ 29).toInt = (gi σ 29).toInt := rfl
  have hsq : (ga σ 0 (9 : Int32)).toInt = (ga σ 0 (9 : Int32)).toInt := rfl
  have hQq : ∀ x : Int32, (0 ≤ x.toInt ∧ x.toInt ≤ 5) → ga σ 0 ((f_X6_personRow x) + (1 : Int32)) = ga σ 0 ((f_X6_personRow x) + (1 : Int32)) := fun _ _ => rfl
  have hLF : MFr σ σ := Fr.rf
  have zl0 : (0 : Int32).toInt = 0 := rfl
  have zl1 : (1 : Int32).toInt = 1 := rfl
  have zl2 : (2 : Int32).toInt = 2 := rfl
  have zl16 : (16 : Int32).toInt = 16 := rfl
  have zl20 : (20 : Int32).toInt = 20 := rfl
  refine lv_iconst (v := 0) hx hb dX6_duels_0 (by decide) ?_
  refine lv_istore_n (lv' := [(3, .int (0 : Int32)), (0, .ref (g.2.1 99)), (1, .int p1), (2, .int p2)]) hx hb dX6_duels_1 rfl hl (by decide) rfl (fun ls hl => ?_)
  have hL2 : ∀ (n : Nat) (x3_2 : Int32) (σL2 : MS) (H : Heap) (locs : List Loc) (ls : Array Slot), (0 ≤ (ga σL2 0 (0 : Int32)).toInt ∧ (ga σL2 0 (0 : Int32)).toInt ≤ 6) → (0 ≤ (ga σL2 0 (2 : Int32)).toInt ∧ (ga σL2 0 (2 : Int32)).toInt ≤ 16) → (0 ≤ (gi σL2 28).toInt ∧ (gi σL2 28).toInt ≤ 65535) → ((ga σL2 0 (0 : Int32)).toInt = (ga σ 0 (0 : Int32)).toInt) → ((ga σL2 0 (2 : Int32)).toInt = (ga σ 0 (2 : Int32)).toInt) → (∀ j : Int32, 130 ≤ j.toInt → ga σL2 0 j = ga σ 0 j) → ((gi σL2 29).toInt = (gi σ 29).toInt) → ((ga σL2 0 (9 : Int32)).toInt = (ga σ 0 (9 : Int32)).toInt) → (∀ x : Int32, (0 ≤ x.toInt ∧ x.toInt ≤ 5) → ga σL2 0 ((f_X6_personRow x) + (1 : Int32)) = ga σ 0 ((f_X6_personRow x) + (1 : Int32))) → (MFr σ σL2) → (0 ≤ x3_2.toInt ∧ x3_2.toInt ≤ 20) → (20 - x3_2.toInt).toNat < n → f_X6_duels σ p1 p2 = f_X6_duels_L2 p1 p2 n x3_2 σL2 → MH g σL2 s H locs → lv_has ls 5 [(0, .ref (g.2.1 99)), (1, .int p1), (2, .int p2), (3, .int x3_2)] → W p l e ({ frames := 6, cells := 0, slots := 0, locals := 135 } : Room) s m args below meth c H locs 0 0 (MQ below (mQz g (f_X6_duels σ p1 p2).1 (f_X6_duels σ p1 p2).2 (fun u r => ((ga u 0 (0 : Int32)).toInt = (ga σ 0 (0 : Int32)).toInt) ∧ ((ga u 0 (2 : Int32)).toInt = (ga σ 0 (2 : Int32)).toInt) ∧ (∀ j : Int32, 130 ≤ j.toInt → ga u 0 j = ga σ 0 j) ∧ ((gi u 29).toInt = (gi σ 29).toInt) ∧ ((ga u 0 (9 : Int32)).toInt = (ga σ 0 (9 : Int32)).toInt) ∧ (∀ x : Int32, (0 ≤ x.toInt ∧ x.toInt ≤ 5) → ga u 0 ((f_X6_personRow x) + (1 : Int32)) = ga σ 0 ((f_X6_personRow x) + (1 : Int32))) ∧ (MFr σ u) ∧ (0 ≤ (gi u 28).toInt ∧ (gi u 28).toInt ≤ 65535))) args s 0 0 (mA g)) (F0 m 2 ls []) := by
    intro n
    induction n with
    | zero =>
      intro x3_2 σL2 H locs ls hp hd hdr hpq hdq hY hrq hsq hQq hLF _ hm; exact absurd hm (Nat.not_lt_zero _)
    | succ n ih =>
      intro x3_2 σL2 H locs ls hp hd hdr hpq hdq hY hrq hsq hQq hLF hI2 hm hf2 h hl
      refine lv_iload_n hx hb dX6_duels_2 rfl (lv_at hl 3 rfl) ?_
      refine lv_bipush (v := 20) hx hb dX6_duels_3 (by decide) ?_
      have j55 : ∀ (σJ55 : MS) (H : Heap) (locs : List Loc) (ls : Array Slot) (ej55 : f_X6_duels σ p1 p2 = if (x3_2 - ((x3_2 / (2 : Int32)) * (2 : Int32))) = (0 : Int32) then ((let z67 := (f_X6_dines σJ55 p2); let σ67 := z67.1; let r67 := z67.2; (σ67, r67))) else ((let z67 := (f_X6_dines σJ55 p1); let σ67 := z67.1; let r67 := z67.2; (σ67, r67)))) (hp : 0 ≤ (ga σJ55 0 (0 : Int32)).toInt ∧ (ga σJ55 0 (0 : Int32)).toInt ≤ 6) (hd : 0 ≤ (ga σJ55 0 (2 : Int32)).toInt ∧ (ga σJ55 0 (2 : Int32)).toInt ≤ 16) (hdr : 0 ≤ (gi σJ55 28).toInt ∧ (gi σJ55 28).toInt ≤ 65535) (hpq : (ga σJ55 0 (0 : Int32)).toInt = (ga σ 0 (0 : Int32)).toInt) (hdq : (ga σJ55 0 (2 : Int32)).toInt = (ga σ 0 (2 : Int32)).toInt) (hY : ∀ j : Int32, 130 ≤ j.toInt → ga σJ55 0 j = ga σ 0 j) (hrq : (gi σJ55 29).toInt = (gi σ 29).toInt) (hsq : (ga σJ55 0 (9 : Int32)).toInt = (ga σ 0 (9 : Int32)).toInt) (hQq : ∀ x : Int32, (0 ≤ x.toInt ∧ x.toInt ≤ 5) → ga σJ55 0 ((f_X6_personRow x) + (1 : Int32)) = ga σ 0 ((f_X6_personRow x) + (1 : Int32))) (hLF : MFr σ σJ55) (h : MH g σJ55 s H locs) (hl : lv_has ls 5 [(0, .ref (g.2.1 99)), (1, .int p1), (2, .int p2), (3, .int x3_2)]), W p l e ({ frames := 6, cells := 0, slots := 0, locals := 135 } : Room) s m args below meth c H locs 0 0 (MQ below (mQz g (f_X6_duels σ p1 p2).1 (f_X6_duels σ p1 p2).2 (fun u r => ((ga u 0 (0 : Int32)).toInt = (ga σ 0 (0 : Int32)).toInt) ∧ ((ga u 0 (2 : Int32)).toInt = (ga σ 0 (2 : Int32)).toInt) ∧ (∀ j : Int32, 130 ≤ j.toInt → ga u 0 j = ga σ 0 j) ∧ ((gi u 29).toInt = (gi σ 29).toInt) ∧ ((ga u 0 (9 : Int32)).toInt = (ga σ 0 (9 : Int32)).toInt) ∧ (∀ x : Int32, (0 ≤ x.toInt ∧ x.toInt ≤ 5) → ga u 0 ((f_X6_personRow x) + (1 : Int32)) = ga σ 0 ((f_X6_personRow x) + (1 : Int32))) ∧ (MFr σ u) ∧ (0 ≤ (gi u 28).toInt ∧ (gi u 28).toInt ≤ 65535))) args s 0 0 (mA g)) (F0 m 55 ls []) := by
        intro σJ55 H locs ls ej55 hp hd hdr hpq hdq hY hrq hsq hQq hLF h hl
        refine lv_aload_n hx hb dX6_duels_55 rfl (lv_at hl 0 rfl) ?_
        refine lv_iload_n hx hb dX6_duels_56 rfl (lv_at hl 3 rfl) ?_
        refine lv_iconst (v := 2) hx hb dX6_duels_57 (by decide) ?_
        refine lv_irem hx hb dX6_duels_58 (by decide) ?_
        refine lv_if_ne (tgt := 66) hx hb dX6_duels_59 (by decide) (fun c59 => ?_) (fun c59 => ?_)
        · have i59 := c_ne c59
          refine lv_iload_n hx hb dX6_duels_66 rfl (lv_at hl 1 rfl) ?_
          refine M_callz (As := [.int p1]) (rest := []) 1 C h (k_X6_dines l g σJ55 p1 (by first | assumption | omega) (by first | assumption | omega) (by first | assumption | omega)) (lw_V q2228 q2230 qs138 q152 q2231) rfl rfl (by decide +kernel) ⟨Nat.le_of_ble_eq_true rfl, Nat.le_of_ble_eq_true rfl⟩ rfl hl.1 rfl (Nat.le_of_ble_eq_true rfl) ⟨Nat.le_of_ble_eq_true rfl, Nat.le_of_ble_eq_true rfl⟩ dX6_duels_67 (fun r67 σ67 H locs eσ67 er67 br67 hE67 h => ?_)
          have hE67 : ((ga σ67 0 (0 : Int32)).toInt = (ga σJ55 0 (0 : Int32)).toInt) ∧ ((ga σ67 0 (2 : Int32)).toInt = (ga σJ55 0 (2 : Int32)).toInt) ∧ (∀ j : Int32, 130 ≤ j.toInt → ga σ67 0 j = ga σJ55 0 j) ∧ ((gi σ67 29).toInt = (gi σJ55 29).toInt) ∧ ((ga σ67 0 (9 : Int32)).toInt = (ga σJ55 0 (9 : Int32)).toInt) ∧ (∀ x : Int32, (0 ≤ x.toInt ∧ x.toInt ≤ 5) → ga σ67 0 ((f_X6_personRow x) + (1 : Int32)) = ga σJ55 0 ((f_X6_personRow x) + (1 : Int32))) ∧ ((gi σ67 28).toInt = (gi σJ55 28).toInt) ∧ (MFr σJ55 σ67) := hE67
          obtain ⟨hpq_67, hdq_67, hY_67, hrq_67, hsq_67, hQq_67, hdq28_67, hLF_67⟩ := hE67
          have hNEW : (0 ≤ (ga σ67 0 (0 : Int32)).toInt ∧ (ga σ67 0 (0 : Int32)).toInt ≤ 6) ∧ (0 ≤ (ga σ67 0 (2 : Int32)).toInt ∧ (ga σ67 0 (2 : Int32)).toInt ≤ 16) ∧ (0 ≤ (gi σ67 28).toInt ∧ (gi σ67 28).toInt ≤ 65535) ∧ ((ga σ67 0 (0 : Int32)).toInt = (ga σ 0 (0 : Int32)).toInt) ∧ ((ga σ67 0 (2 : Int32)).toInt = (ga σ 0 (2 : Int32)).toInt) ∧ (∀ j : Int32, 130 ≤ j.toInt → ga σ67 0 j = ga σ 0 j) ∧ ((gi σ67 29).toInt = (gi σ 29).toInt) ∧ ((ga σ67 0 (9 : Int32)).toInt = (ga σ 0 (9 : Int32)).toInt) ∧ (∀ x : Int32, (0 ≤ x.toInt ∧ x.toInt ≤ 5) → ga σ67 0 ((f_X6_personRow x) + (1 : Int32)) = ga σ 0 ((f_X6_personRow x) + (1 : Int32))) ∧ (MFr σ σ67) := ⟨(by first | assumption | omega), (by first | assumption | omega), (by first | assumption | omega), (by first | assumption | omega), (by first | assumption | omega), (fun j hj => (hY_67 j hj).trans (hY j hj)), (by first | assumption | omega), (by first | assumption | omega), (fun j hj => (hQq_67 j hj).trans (hQq j hj)), (Fr.tr hLF hLF_67)⟩
          obtain ⟨hp, hd, hdr, hpq, hdq, hY, hrq, hsq, hQq, hLF⟩ := hNEW
          have he : f_X6_duels σ p1 p2 = (σ67, r67) := (by subst eσ67; subst er67; exact (ej55.trans ((if_neg c59).trans rfl)))
          exact M_retz C h hr hlocks (congrArg Prod.fst he) (congrArg Prod.snd he) br67 ⟨hpq, hdq, hY, hrq, hsq, hQq, hLF, (by first | assumption | omega | (unfold Hd; omega))⟩ dX6_duels_70
        · have i59 := c_eq c59
          refine lv_iload_n hx hb dX6_duels_62 rfl (lv_at hl 2 rfl) ?_
          refine lv_goto (tgt := 67) hx hb dX6_duels_63 (by decide) ?_
          refine M_callz (As := [.int p2]) (rest := []) 1 C h (k_X6_dines l g σJ55 p2 (by first | assumption | omega) (by first | assumption | omega) (by first | assumption | omega)) (lw_V q2228 q2230 qs138 q152 q2231) rfl rfl (by decide +kernel) ⟨Nat.le_of_ble_eq_true rfl, Nat.le_of_ble_eq_true rfl⟩ rfl hl.1 rfl (Nat.le_of_ble_eq_true rfl) ⟨Nat.le_of_ble_eq_true rfl, Nat.le_of_ble_eq_true rfl⟩ dX6_duels_67 (fun r67 σ67 H locs eσ67 er67 br67 hE67 h => ?_)
          have hE67 : ((ga σ67 0 (0 : Int32)).toInt = (ga σJ55 0 (0 : Int32)).toInt) ∧ ((ga σ67 0 (2 : Int32)).toInt = (ga σJ55 0 (2 : Int32)).toInt) ∧ (∀ j : Int32, 130 ≤ j.toInt → ga σ67 0 j = ga σJ55 0 j) ∧ ((gi σ67 29).toInt = (gi σJ55 29).toInt) ∧ ((ga σ67 0 (9 : Int32)).toInt = (ga σJ55 0 (9 : Int32)).toInt) ∧ (∀ x : Int32, (0 ≤ x.toInt ∧ x.toInt ≤ 5) → ga σ67 0 ((f_X6_personRow x) + (1 : Int32)) = ga σJ55 0 ((f_X6_personRow x) + (1 : Int32))) ∧ ((gi σ67 28).toInt = (gi σJ55 28).toInt) ∧ (MFr σJ55 σ67) := hE67
          obtain ⟨hpq_67, hdq_67, hY_67, hrq_67, hsq_67, hQq_67, hdq28_67, hLF_67⟩ := hE67
          have hNEW : (0 ≤ (ga σ67 0 (0 : Int32)).toInt ∧ (ga σ67 0 (0 : Int32)).toInt ≤ 6) ∧ (0 ≤ (ga σ67 0 (2 : Int32)).toInt ∧ (ga σ67 0 (2 : Int32)).toInt ≤ 16) ∧ (0 ≤ (gi σ67 28).toInt ∧ (gi σ67 28).toInt ≤ 65535) ∧ ((ga σ67 0 (0 : Int32)).toInt = (ga σ 0 (0 : Int32)).toInt) ∧ ((ga σ67 0 (2 : Int32)).toInt = (ga σ 0 (2 : Int32)).toInt) ∧ (∀ j : Int32, 130 ≤ j.toInt → ga σ67 0 j = ga σ 0 j) ∧ ((gi σ67 29).toInt = (gi σ 29).toInt) ∧ ((ga σ67 0 (9 : Int32)).toInt = (ga σ 0 (9 : Int32)).toInt) ∧ (∀ x : Int32, (0 ≤ x.toInt ∧ x.toInt ≤ 5) → ga σ67 0 ((f_X6_personRow x) + (1 : Int32)) = ga σ 0 ((f_X6_personRow x) + (1 : Int32))) ∧ (MFr σ σ67) := ⟨(by first | assumption | omega), (by first | assumption | omega), (by first | assumption | omega), (by first | assumption | omega), (by first | assumption | omega), (fun j hj => (hY_67 j hj).trans (hY j hj)), (by first | assumption | omega), (by first | assumption | omega), (fun j hj => (hQq_67 j hj).trans (hQq j hj)), (Fr.tr hLF hLF_67)⟩
          obtain ⟨hp, hd, hdr, hpq, hdq, hY, hrq, hsq, hQq, hLF⟩ := hNEW
          have he : f_X6_duels σ p1 p2 = (σ67, r67) := (by subst eσ67; subst er67; exact (ej55.trans ((if_pos c59).trans rfl)))
          exact M_retz C h hr hlocks (congrArg Prod.fst he) (congrArg Prod.snd he) br67 ⟨hpq, hdq, hY, hrq, hsq, hQq, hLF, (by first | assumption | omega | (unfold Hd; omega))⟩ dX6_duels_70
      refine lv_icmp_ge (tgt := 55) hx hb dX6_duels_5 (by decide) (fun c5 => ?_) (fun c5 => ?_)
      · have i5 := c_le c5
        exact j55 _ _ _ _ (by exact (hf2.trans ((if_pos c5).trans rfl))) hp hd hdr hpq hdq hY hrq hsq hQq hLF h hl
      · have i5 := c_nle c5
        refine lv_aload_n hx hb dX6_duels_8 rfl (lv_at hl 0 rfl) ?_
        refine lv_bipush (v := 16) hx hb dX6_duels_9 (by decide) ?_
        refine M_calli (As := [.int (16 : Int32)]) (rest := []) 1 C h (k_X6_draw l g σL2 (16 : Int32) (by first | assumption | omega) (by first | assumption | omega) (by first | assumption | omega) (by first | assumption | omega)) (lw_V q2223 q2225 qs137 q152 q2226) rfl rfl (by decide +kernel) ⟨Nat.le_of_ble_eq_true rfl, Nat.le_of_ble_eq_true rfl⟩ rfl hl.1 rfl (Nat.le_of_ble_eq_true rfl) ⟨Nat.le_of_ble_eq_true rfl, Nat.le_of_ble_eq_true rfl⟩ dX6_duels_11 (fun r11 σ11 H locs eσ11 er11 hE11 h => ?_)
        have hE11 : ((ga σ11 0 (0 : Int32)).toInt = (ga σL2 0 (0 : Int32)).toInt) ∧ ((ga σ11 0 (2 : Int32)).toInt = (ga σL2 0 (2 : Int32)).toInt) ∧ (∀ j : Int32, 130 ≤ j.toInt → ga σ11 0 j = ga σL2 0 j) ∧ ((gi σ11 29).toInt = (gi σL2 29).toInt) ∧ ((ga σ11 0 (9 : Int32)).toInt = (ga σL2 0 (9 : Int32)).toInt) ∧ (∀ x : Int32, (0 ≤ x.toInt ∧ x.toInt ≤ 5) → ga σ11 0 ((f_X6_personRow x) + (1 : Int32)) = ga σL2 0 ((f_X6_personRow x) + (1 : Int32))) ∧ (MFr σL2 σ11) ∧ (0 ≤ (gi σ11 28).toInt ∧ (gi σ11 28).toInt ≤ 65535) ∧ (0 ≤ r11.toInt ∧ r11.toInt < (16 : Int32).toInt) := hE11
        obtain ⟨hpq_11, hdq_11, hY_11, hrq_11, hsq_11, hQq_11, hLF_11, hdr_11, drg_11⟩ := hE11
        have hNEW : (0 ≤ (ga σ11 0 (0 : Int32)).toInt ∧ (ga σ11 0 (0 : Int32)).toInt ≤ 6) ∧ (0 ≤ (ga σ11 0 (2 : Int32)).toInt ∧ (ga σ11 0 (2 : Int32)).toInt ≤ 16) ∧ (0 ≤ (gi σ11 28).toInt ∧ (gi σ11 28).toInt ≤ 65535) ∧ ((ga σ11 0 (0 : Int32)).toInt = (ga σ 0 (0 : Int32)).toInt) ∧ ((ga σ11 0 (2 : Int32)).toInt = (ga σ 0 (2 : Int32)).toInt) ∧ (∀ j : Int32, 130 ≤ j.toInt → ga σ11 0 j = ga σ 0 j) ∧ ((gi σ11 29).toInt = (gi σ 29).toInt) ∧ ((ga σ11 0 (9 : Int32)).toInt = (ga σ 0 (9 : Int32)).toInt) ∧ (∀ x : Int32, (0 ≤ x.toInt ∧ x.toInt ≤ 5) → ga σ11 0 ((f_X6_personRow x) + (1 : Int32)) = ga σ 0 ((f_X6_personRow x) + (1 : Int32))) ∧ (MFr σ σ11) := ⟨(by first | assumption | omega), (by first | assumption | omega), (by first | assumption | omega), (by first | assumption | omega), (by first | assumption | omega), (fun j hj => (hY_11 j hj).trans (hY j hj)), (by first | assumption | omega), (by first | assumption | omega), (fun j hj => (hQq_11 j hj).trans (hQq j hj)), (Fr.tr hLF hLF_11)⟩
        obtain ⟨hp, hd, hdr, hpq, hdq, hY, hrq, hsq, hQq, hLF⟩ := hNEW
        refine lv_istore (lv' := [(4, .int r11), (0, .ref (g.2.1 99)), (1, .int p1), (2, .int p2), (3, .int x3_2)]) hx hb dX6_duels_14 hl (by decide) rfl (fun ls hl => ?_)
        refine lv_aload_n hx hb dX6_duels_16 rfl (lv_at hl 1 rfl) ?_
        refine Mg_31 C h dX6_duels_17 ?_
        refine lv_iconst (v := 2) hx hb dX6_duels_20 (by decide) ?_
        refine lv_dup2_11 hx hb dX6_duels_21 rfl rfl ?_
        refine Ml_31 C h (ix_of zl2 (by omega)) dX6_duels_22 ?_
        refine lv_iconst (v := 1) hx hb dX6_duels_23 (by decide) ?_
        refine lv_iadd hx hb dX6_duels_24 ?_
        refine Ms_31 C h (ix_of zl2 (by omega)) dX6_duels_25 (fun σ25 H locs eσ25 h => ?_)
        have hNEW : (0 ≤ (ga σ25 0 (0 : Int32)).toInt ∧ (ga σ25 0 (0 : Int32)).toInt ≤ 6) ∧ (0 ≤ (ga σ25 0 (2 : Int32)).toInt ∧ (ga σ25 0 (2 : Int32)).toInt ≤ 16) ∧ (0 ≤ (gi σ25 28).toInt ∧ (gi σ25 28).toInt ≤ 65535) ∧ ((ga σ25 0 (0 : Int32)).toInt = (ga σ 0 (0 : Int32)).toInt) ∧ ((ga σ25 0 (2 : Int32)).toInt = (ga σ 0 (2 : Int32)).toInt) ∧ (∀ j : Int32, 130 ≤ j.toInt → ga σ25 0 j = ga σ 0 j) ∧ ((gi σ25 29).toInt = (gi σ 29).toInt) ∧ ((ga σ25 0 (9 : Int32)).toInt = (ga σ 0 (9 : Int32)).toInt) ∧ (∀ x : Int32, (0 ≤ x.toInt ∧ x.toInt ≤ 5) → ga σ25 0 ((f_X6_personRow x) + (1 : Int32)) = ga σ 0 ((f_X6_personRow x) + (1 : Int32))) ∧ (MFr σ σ25) := ⟨(by rw [eσ25] <;> exact hp), (by rw [eσ25] <;> exact hd), (by rw [eσ25] <;> exact hdr), (by rw [eσ25] <;> exact hpq), (by rw [eσ25] <;> exact hdq), (by rw [eσ25] <;> exact hY), (by rw [eσ25] <;> exact hrq), (by rw [eσ25] <;> exact hsq), (by rw [eσ25] <;> exact hQq), (by rw [eσ25]; exact (Fr_xa (by decide) (by decide) hLF))⟩
        clear hp hd hdr hpq hdq hY hrq hsq hQq hLF
        obtain ⟨hp, hd, hdr, hpq, hdq, hY, hrq, hsq, hQq, hLF⟩ := hNEW
        refine lv_iload hx hb dX6_duels_26 (lv_at hl 0 rfl) ?_
        refine lv_aload_n hx hb dX6_duels_28 rfl (lv_at hl 1 rfl) ?_
        refine lv_iload_n hx hb dX6_duels_29 rfl (lv_at hl 4 rfl) ?_
        refine lv_iconst (v := 2) hx hb dX6_duels_30 (by decide) ?_
        refine lv_irem hx hb dX6_duels_31 (by decide) ?_
        have j40 : ∀ (t0_40 : Int32) (H : Heap) (locs : List Loc) (ls : Array Slot) (ej40 : (if (x3_2 - ((x3_2 / (2 : Int32)) * (2 : Int32))) = (0 : Int32) then (p1) else (p2)) = t0_40) (hI40 : 0 ≤ t0_40.toInt ∧ t0_40.toInt ≤ 5) (h : MH g σ25 s H locs) (hl : lv_has ls 5 [(0, .ref (g.2.1 99)), (1, .int p1), (2, .int p2), (3, .int x3_2)]), W p l e ({ frames := 6, cells := 0, slots := 0, locals := 135 } : Room) s m args below meth c H locs 0 0 (MQ below (mQz g (f_X6_duels σ p1 p2).1 (f_X6_duels σ p1 p2).2 (fun u r => ((ga u 0 (0 : Int32)).toInt = (ga σ 0 (0 : Int32)).toInt) ∧ ((ga u 0 (2 : Int32)).toInt = (ga σ 0 (2 : Int32)).toInt) ∧ (∀ j : Int32, 130 ≤ j.toInt → ga u 0 j = ga σ 0 j) ∧ ((gi u 29).toInt = (gi σ 29).toInt) ∧ ((ga u 0 (9 : Int32)).toInt = (ga σ 0 (9 : Int32)).toInt) ∧ (∀ x : Int32, (0 ≤ x.toInt ∧ x.toInt ≤ 5) → ga u 0 ((f_X6_personRow x) + (1 : Int32)) = ga σ 0 ((f_X6_personRow x) + (1 : Int32))) ∧ (MFr σ u) ∧ (0 ≤ (gi u 28).toInt ∧ (gi u 28).toInt ≤ 65535))) args s 0 0 (mA g)) (F0 m 40 ls [.int t0_40, .ref (g.2.1 99), .int r11]) := by
          intro t0_40 H locs ls ej40 hI40 h hl
          have et0_40 := ej40.symm
          refine M_calli (As := [.int t0_40]) (rest := [.int r11]) 1 C h (k_X6_insists l g σ25 t0_40 (by first | assumption | omega)) (lw_V q2006 q2008 qs115 q152 q2009) rfl rfl (by decide +kernel) ⟨Nat.le_of_ble_eq_true rfl, Nat.le_of_ble_eq_true rfl⟩ rfl hl.1 rfl (Nat.le_of_ble_eq_true rfl) ⟨Nat.le_of_ble_eq_true rfl, Nat.le_of_ble_eq_true rfl⟩ dX6_duels_40 (fun r40 σ40 H locs eσ40 er40 hE40 h => ?_)
          rw [eσ40] at h
          clear hE40
          clear eσ40
          refine lv_icmp_lt (tgt := 49) hx hb dX6_duels_43 (by decide) (fun c43 => ?_) (fun c43 => ?_)
          · have i43 := c_lt c43
            refine lv_iinc (v := (x3_2 + (1 : Int32))) (lv' := [(3, .int (x3_2 + (1 : Int32))), (0, .ref (g.2.1 99)), (1, .int p1), (2, .int p2)]) hx hb dX6_duels_49 hl (k := 3) rfl rfl (by decide) rfl (fun ls hl => ?_)
            refine lv_goto (tgt := 2) hx hb dX6_duels_52 (by decide) ?_
            have tt3 : (x3_2 + (1 : Int32)).toInt = (x3_2.toInt + (1)) := (i_add (rfl : x3_2.toInt = x3_2.toInt) zl1 (by omega))
            exact ih (x3_2 + (1 : Int32)) σ25 _ _ _ hp hd hdr hpq hdq hY hrq hsq hQq hLF (by first | assumption | omega) (by omega) (by subst eσ11; subst er11; subst eσ25; subst et0_40; subst er40; exact (hf2.trans ((if_neg c5).trans ((if_pos c43).trans rfl)))) h (lv_sub hl [1, 2, 3, 0] rfl)
          · have i43 := c_nlt c43
            refine lv_goto (tgt := 55) hx hb dX6_duels_46 (by decide) ?_
            exact j55 _ _ _ _ (by subst eσ11; subst er11; subst eσ25; subst et0_40; subst er40; exact (hf2.trans ((if_neg c5).trans ((if_neg c43).trans rfl)))) hp hd hdr hpq hdq hY hrq hsq hQq hLF h hl
        refine lv_if_ne (tgt := 39) hx hb dX6_duels_32 (by decide) (fun c32 => ?_) (fun c32 => ?_)
        · have i32 := c_ne c32
          refine lv_iload_n hx hb dX6_duels_39 rfl (lv_at hl 3 rfl) ?_
          exact j40 _ _ _ _ (by exact ((if_neg c32).trans rfl)) (by first | assumption | omega) h (lv_sub hl [1, 2, 3, 4] rfl)
        · have i32 := c_eq c32
          refine lv_iload_n hx hb dX6_duels_35 rfl (lv_at hl 2 rfl) ?_
          refine lv_goto (tgt := 40) hx hb dX6_duels_36 (by decide) ?_
          exact j40 _ _ _ _ (by exact ((if_pos c32).trans rfl)) (by first | assumption | omega) h (lv_sub hl [1, 2, 3, 4] rfl)
  exact hL2 (21) (0 : Int32) σ _ _ _ hp hd hdr hpq hdq hY hrq hsq hQq hLF (by first | assumption | omega) (by omega) (by exact rfl) h (lv_sub hl [1, 2, 3, 0] rfl)
def f_X6_settle_L4 (σ : MS) : Nat → Int32 → Int32 → Int32 × Int32
  | 0, x1_4, x2_4 => (x1_4, x2_4)
  | n + 1, x1_4, x2_4 => if (ga σ 0 (0 : Int32)) ≤ x2_4 then ((x1_4, x2_4)) else ((let r17 := (f_X6_balanceOf σ x2_4); (let z30_ : Int32 := (if r17 = (0 : Int32) then ((0 : Int32)) else (((1 : Int32) <<< (x2_4 &&& (31 : Int32))))); let t0_30 := z30_; (let v31 := (x1_4 ||| t0_30); f_X6_settle_L4 σ n v31 (x2_4 + (1 : Int32))))))
def f_X6_settle_L72 (y1_72 : Int32) (y2_72 : Int32) : Nat → Int32 → Int32 → MS → Int32 × Int32 × MS
  | 0, x3_72, x4_72, σL72 => (x3_72, x4_72, σL72)
  | n + 1, x3_72, x4_72, σL72 => if (ga σL72 0 (0 : Int32)) ≤ x4_72 then ((x3_72, x4_72, σL72)) else ((let r87 := (f_X6_isIn σL72 y2_72 x4_72); if r87 = (0 : Int32) then (f_X6_settle_L72 y1_72 y2_72 n x3_72 (x4_72 + (1 : Int32)) σL72) else ((let r97 := (f_X6_balanceOf σL72 x4_72); let v101 := (x3_72 + r97); let σ129 := sa σL72 24 y2_72 (jmax (ga σL72 24 y2_72) (ga σL72 24 (y2_72 &&& (((1 : Int32) <<< (x4_72 &&& (31 : Int32))) ^^^ (-1 : Int32))))); f_X6_settle_L72 y1_72 y2_72 n v101 (x4_72 + (1 : Int32)) σ129))))
def f_X6_settle_L40 (y1_40 : Int32) : Nat → Int32 → MS → Int32 × MS
  | 0, x2_40, σL40 => (x2_40, σL40)
  | n + 1, x2_40, σL40 => if y1_40 < x2_40 then ((x2_40, σL40)) else ((let σ51 := sa σL40 24 x2_40 (0 : Int32); if (x2_40 &&& (y1_40 ^^^ (-1 : Int32))) = (0 : Int32) then (if x2_40 = (0 : Int32) then (f_X6_settle_L40 y1_40 n (x2_40 + (1 : Int32)) σ51) else ((let zL72 := f_X6_settle_L72 y1_40 x2_40 (7) (0 : Int32) (0 : Int32) σ51; let x3_72e := zL72.1; let x4_72e := zL72.2.1; let σL72e := zL72.2.2; (let z152_ : Int32 := (if x3_72e = (0 : Int32) then ((1 : Int32)) else ((0 : Int32))); let t0_152 := z152_; (let σ153 := sa σL72e 24 x2_40 ((ga σL72e 24 x2_40) + t0_152); f_X6_settle_L40 y1_40 n (x2_40 + (1 : Int32)) σ153))))) else (f_X6_settle_L40 y1_40 n (x2_40 + (1 : Int32)) σ51)))
def f_X6_settle (σ : MS) : MS × Int32 := (let zL4 := f_X6_settle_L4 σ (7) (0 : Int32) (0 : Int32); let x1_4e := zL4.1; let x2_4e := zL4.2; (let zL40 := f_X6_settle_L40 x1_4e (65) (0 : Int32) σ; let x2_40e := zL40.1; let σL40e := zL40.2; (let r162 := (f_X6_bits x1_4e); let z172 := (f_X6_gives σL40e (r162 - (ga σL40e 24 x1_4e))); let σ172 := z172.1; let r172 := z172.2; (σ172, r172))))
set_option maxHeartbeats 4000000 in
set_option maxRecDepth 100000 in
theorem k_X6_settle (l : Launch) (g : GE) (σ : MS) (hp : 0 ≤ (ga σ 0 (0 : Int32)).toInt ∧ (ga σ 0 (0 : Int32)).toInt ≤ 6) : Met l yX6_settle (ws_ yX6_settle cX6_settle 5 (some .int)) ({ frames := 2, cells := 0, slots := 0, locals := 44 } : Room) (mPc g σ []) (mQi g (f_X6_settle σ).1 (f_X6_settle σ).2 (fun u r => ((ga u 0 (0 : Int32)).toInt = (ga σ 0 (0 : Int32)).toInt) ∧ (MFr σ u))) 0 0 (mA g) := by
  refine met_M (by decide) rfl (Nat.le_of_ble_eq_true rfl) ?_
  intro p e s m args below meth c C hr hlocks h ls hl
  have hx := C.1.1
  have hb := C.1.2.1
  have hml := C.1.2.2.1
  have hown := C.1.2.2.2.1
  have hts := C.1.2.2.2.2
  have hl : lv_has ls 5 [(0, .ref (g.2.1 99))] := hl
  have hpq : (ga σ 0 (0 : Int32)).toInt = (ga σ 0 (0 : Int32)).toInt := rfl
  have hLF : MFr σ σ := Fr.rf
  have zlm1 : (-1 : Int32).toInt = -1 := rfl
  have zl0 : (0 : Int32).toInt = 0 := rfl
  have zl1 : (1 : Int32).toInt = 1 := rfl
  refine lv_iconst (v := 0) hx hb dX6_settle_0 (by decide) ?_
  refine lv_istore_n (lv' := [(1, .int (0 : Int32)), (0, .ref (g.2.1 99))]) hx hb dX6_settle_1 rfl hl (by decide) rfl (fun ls hl => ?_)
  refine lv_iconst (v := 0) hx hb dX6_settle_2 (by decide) ?_
  refine lv_istore_n (lv' := [(2, .int (0 : Int32)), (1, .int (0 : Int32)), (0, .ref (g.2.1 99))]) hx hb dX6_settle_3 rfl hl (by decide) rfl (fun ls hl => ?_)
  have hL4 : ∀ (n : Nat) (x1_4 : Int32) (x2_4 : Int32) (H : Heap) (locs : List Loc) (ls : Array Slot), (0 ≤ x2_4.toInt ∧ x2_4.toInt ≤ (ga σ 0 (0 : Int32)).toInt ∧ 0 ≤ x1_4.toInt ∧ x1_4.toInt ≤ 63) → ((ga σ 0 (0 : Int32)).toInt - x2_4.toInt).toNat < n → MH g σ s H locs → lv_has ls 5 [(0, .ref (g.2.1 99)), (1, .int x1_4), (2, .int x2_4)] → (∀ (x1_4' : Int32) (x2_4' : Int32) (H : Heap) (locs : List Loc) (ls : Array Slot), f_X6_settle_L4 σ n x1_4 x2_4 = (x1_4', x2_4') → (0 ≤ x2_4'.toInt ∧ x2_4'.toInt ≤ (ga σ 0 (0 : Int32)).toInt ∧ 0 ≤ x1_4'.toInt ∧ x1_4'.toInt ≤ 63) → MH g σ s H locs → lv_has ls 5 [(0, .ref (g.2.1 99)), (1, .int x1_4')] → W p l e ({ frames := 2, cells := 0, slots := 0, locals := 44 } : Room) s m args below meth c H locs 0 0 (MQ below (mQi g (f_X6_settle σ).1 (f_X6_settle σ).2 (fun u r => ((ga u 0 (0 : Int32)).toInt = (ga σ 0 (0 : Int32)).toInt) ∧ (MFr σ u))) args s 0 0 (mA g)) (F0 m 38 ls [])) → W p l e ({ frames := 2, cells := 0, slots := 0, locals := 44 } : Room) s m args below meth c H locs 0 0 (MQ below (mQi g (f_X6_settle σ).1 (f_X6_settle σ).2 (fun u r => ((ga u 0 (0 : Int32)).toInt = (ga σ 0 (0 : Int32)).toInt) ∧ (MFr σ u))) args s 0 0 (mA g)) (F0 m 4 ls []) := by
    intro n
    induction n with
    | zero =>
      intro x1_4 x2_4 H locs ls _ hm; exact absurd hm (Nat.not_lt_zero _)
    | succ n ih =>
      intro x1_4 x2_4 H locs ls hI4 hm h hl kk
      refine lv_iload_n hx hb dX6_settle_4 rfl (lv_at hl 2 rfl) ?_
      refine lv_aload_n hx hb dX6_settle_5 rfl (lv_at hl 0 rfl) ?_
      refine Mg_0 C h dX6_settle_6 ?_
      refine lv_iconst (v := 0) hx hb dX6_settle_9 (by decide) ?_
      refine Ml_0 C h (ix_of zl0 (by omega)) dX6_settle_10 ?_
      refine lv_icmp_ge (tgt := 38) hx hb dX6_settle_11 (by decide) (fun c11 => ?_) (fun c11 => ?_)
      · have i11 := c_le c11
        exact kk x1_4 x2_4 _ _ _ (show f_X6_settle_L4 σ (n + 1) x1_4 x2_4 = (x1_4, x2_4) from (by exact ((if_pos c11).trans rfl)))  (by first | assumption | omega) h (lv_sub hl [0, 1] rfl)
      · have i11 := c_nle c11
        refine lv_iload_n hx hb dX6_settle_14 rfl (lv_at hl 1 rfl) ?_
        refine lv_aload_n hx hb dX6_settle_15 rfl (lv_at hl 0 rfl) ?_
        refine lv_iload_n hx hb dX6_settle_16 rfl (lv_at hl 2 rfl) ?_
        refine M_calli (As := [.int x2_4]) (rest := [.int x1_4]) 1 C h (k_X6_balanceOf l g σ x2_4 (by first | assumption | omega) (by first | assumption | omega)) (lw_V q1986 q1988 qs112 q152 q1989) rfl rfl (by decide +kernel) ⟨Nat.le_of_ble_eq_true rfl, Nat.le_of_ble_eq_true rfl⟩ rfl hl.1 rfl (Nat.le_of_ble_eq_true rfl) ⟨Nat.le_of_ble_eq_true rfl, Nat.le_of_ble_eq_true rfl⟩ dX6_settle_17 (fun r17 σ17 H locs eσ17 er17 hE17 h => ?_)
        rw [eσ17] at h
        clear hE17
        clear eσ17
        have j30 : ∀ (t0_30 : Int32) (H : Heap) (locs : List Loc) (ls : Array Slot) (ej30 : (if r17 = (0 : Int32) then ((0 : Int32)) else (((1 : Int32) <<< (x2_4 &&& (31 : Int32))))) = t0_30) (hI30 : 0 ≤ t0_30.toInt ∧ t0_30.toInt ≤ 63) (h : MH g σ s H locs) (hl : lv_has ls 5 [(0, .ref (g.2.1 99)), (2, .int x2_4)]), W p l e ({ frames := 2, cells := 0, slots := 0, locals := 44 } : Room) s m args below meth c H locs 0 0 (MQ below (mQi g (f_X6_settle σ).1 (f_X6_settle σ).2 (fun u r => ((ga u 0 (0 : Int32)).toInt = (ga σ 0 (0 : Int32)).toInt) ∧ (MFr σ u))) args s 0 0 (mA g)) (F0 m 30 ls [.int t0_30, .int x1_4]) := by
          intro t0_30 H locs ls ej30 hI30 h hl
          have et0_30 := ej30.symm
          refine lv_ior hx hb dX6_settle_30 ?_
          refine lv_topi (fun v31 ev31 => ?_)
          refine lv_istore_n (lv' := [(1, .int v31), (0, .ref (g.2.1 99)), (2, .int x2_4)]) hx hb dX6_settle_31 rfl hl (by decide) rfl (fun ls hl => ?_)
          have w31 : 0 ≤ v31.toInt ∧ v31.toInt ≤ 63 := by rw [ev31]; exact or63 (by omega) hI30
          refine lv_iinc (v := (x2_4 + (1 : Int32))) (lv' := [(2, .int (x2_4 + (1 : Int32))), (1, .int v31), (0, .ref (g.2.1 99))]) hx hb dX6_settle_32 hl (k := 2) rfl rfl (by decide) rfl (fun ls hl => ?_)
          refine lv_goto (tgt := 4) hx hb dX6_settle_35 (by decide) ?_
          have tt2 : (x2_4 + (1 : Int32)).toInt = (x2_4.toInt + (1)) := (i_add (rfl : x2_4.toInt = x2_4.toInt) zl1 (by omega))
          exact ih v31 (x2_4 + (1 : Int32)) _ _ _  (by first | assumption | omega) (by omega) h (lv_sub hl [2, 1, 0] rfl) (fun x1_4' x2_4' H locs ls en hI h hl => kk x1_4' x2_4' H locs ls ((show f_X6_settle_L4 σ (n + 1) x1_4 x2_4 = f_X6_settle_L4 σ n v31 (x2_4 + (1 : Int32)) from (by subst er17; subst et0_30; subst ev31; exact ((if_neg c11).trans rfl))).trans en) hI h hl)
        refine lv_if_eq (tgt := 29) hx hb dX6_settle_20 (by decide) (fun c20 => ?_) (fun c20 => ?_)
        · have i20 := c_eq c20
          refine lv_iconst (v := 0) hx hb dX6_settle_29 (by decide) ?_
          have s30 := shl5_rng (b := x2_4) (by omega)
          exact j30 _ _ _ _ (by exact ((if_pos c20).trans rfl)) (by first | assumption | omega) h (lv_sub hl [0, 2] rfl)
        · have i20 := c_ne c20
          refine lv_iconst (v := 1) hx hb dX6_settle_23 (by decide) ?_
          refine lv_iload_n hx hb dX6_settle_24 rfl (lv_at hl 2 rfl) ?_
          refine lv_ishl hx hb dX6_settle_25 ?_
          refine lv_goto (tgt := 30) hx hb dX6_settle_26 (by decide) ?_
          have tjt0_30 : ((1 : Int32) <<< (x2_4 &&& (31 : Int32))).toInt = ((1 : Int32) <<< (x2_4 &&& (31 : Int32))).toInt := (rfl : ((1 : Int32) <<< (x2_4 &&& (31 : Int32))).toInt = ((1 : Int32) <<< (x2_4 &&& (31 : Int32))).toInt)
          have s30 := shl5_rng (b := x2_4) (by omega)
          exact j30 _ _ _ _ (by exact ((if_neg c20).trans rfl)) (by first | assumption | omega) h (lv_sub hl [0, 2] rfl)
  refine hL4 (7) (0 : Int32) (0 : Int32) _ _ _  (by first | assumption | omega) (by omega) h (lv_sub hl [2, 1, 0] rfl) (fun x1_4e x2_4e H locs ls eL4 hI4 h hl => ?_)
  have ex1_4e : x1_4e = (f_X6_settle_L4 σ (7) (0 : Int32) (0 : Int32)).1 := by rw [eL4]
  have ex2_4e : x2_4e = (f_X6_settle_L4 σ (7) (0 : Int32) (0 : Int32)).2 := by rw [eL4]
  refine lv_iconst (v := 0) hx hb dX6_settle_38 (by decide) ?_
  refine lv_istore_n (lv' := [(2, .int (0 : Int32)), (0, .ref (g.2.1 99)), (1, .int x1_4e)]) hx hb dX6_settle_39 rfl hl (by decide) rfl (fun ls hl => ?_)
  have hL40 : ∀ (n : Nat) (x2_40 : Int32) (σL40 : MS) (H : Heap) (locs : List Loc) (ls : Array Slot), (0 ≤ (ga σL40 0 (0 : Int32)).toInt ∧ (ga σL40 0 (0 : Int32)).toInt ≤ 6) → ((ga σL40 0 (0 : Int32)).toInt = (ga σ 0 (0 : Int32)).toInt) → (MFr σ σL40) → (0 ≤ x2_40.toInt ∧ x2_40.toInt ≤ 64) → (64 - x2_40.toInt).toNat < n → MH g σL40 s H locs → lv_has ls 5 [(0, .ref (g.2.1 99)), (1, .int x1_4e), (2, .int x2_40)] → (∀ (x2_40' : Int32) (σL40' : MS) (H : Heap) (locs : List Loc) (ls : Array Slot), f_X6_settle_L40 x1_4e n x2_40 σL40 = (x2_40', σL40') → (0 ≤ (ga σL40' 0 (0 : Int32)).toInt ∧ (ga σL40' 0 (0 : Int32)).toInt ≤ 6) → ((ga σL40' 0 (0 : Int32)).toInt = (ga σ 0 (0 : Int32)).toInt) → (MFr σ σL40') → (0 ≤ x2_40'.toInt ∧ x2_40'.toInt ≤ 64) → MH g σL40' s H locs → lv_has ls 5 [(0, .ref (g.2.1 99)), (1, .int x1_4e)] → W p l e ({ frames := 2, cells := 0, slots := 0, locals := 44 } : Room) s m args below meth c H locs 0 0 (MQ below (mQi g (f_X6_settle σ).1 (f_X6_settle σ).2 (fun u r => ((ga u 0 (0 : Int32)).toInt = (ga σ 0 (0 : Int32)).toInt) ∧ (MFr σ u))) args s 0 0 (mA g)) (F0 m 160 ls [])) → W p l e ({ frames := 2, cells := 0, slots := 0, locals := 44 } : Room) s m args below meth c H locs 0 0 (MQ below (mQi g (f_X6_settle σ).1 (f_X6_settle σ).2 (fun u r => ((ga u 0 (0 : Int32)).toInt = (ga σ 0 (0 : Int32)).toInt) ∧ (MFr σ u))) args s 0 0 (mA g)) (F0 m 40 ls []) := by
    intro n
    induction n with
    | zero =>
      intro x2_40 σL40 H locs ls hp hpq hLF _ hm; exact absurd hm (Nat.not_lt_zero _)
    | succ n ih =>
      intro x2_40 σL40 H locs ls hp hpq hLF hI40 hm h hl kk
      refine lv_iload_n hx hb dX6_settle_40 rfl (lv_at hl 2 rfl) ?_
      refine lv_iload_n hx hb dX6_settle_41 rfl (lv_at hl 1 rfl) ?_
      refine lv_icmp_gt (tgt := 160) hx hb dX6_settle_42 (by decide) (fun c42 => ?_) (fun c42 => ?_)
      · have i42 := c_lt c42
        exact kk x2_40 σL40 _ _ _ (show f_X6_settle_L40 x1_4e (n + 1) x2_40 σL40 = (x2_40, σL40) from (by exact ((if_pos c42).trans rfl))) hp hpq hLF (by first | assumption | omega) h (lv_sub hl [0, 1] rfl)
      · have i42 := c_nlt c42
        refine lv_aload_n hx hb dX6_settle_45 rfl (lv_at hl 0 rfl) ?_
        refine Mg_24 C h dX6_settle_46 ?_
        refine lv_iload_n hx hb dX6_settle_49 rfl (lv_at hl 2 rfl) ?_
        refine lv_iconst (v := 0) hx hb dX6_settle_50 (by decide) ?_
        refine Ms_24 C h (ix_of (rfl : x2_40.toInt = x2_40.toInt) (by omega)) dX6_settle_51 (fun σ51 H locs eσ51 h => ?_)
        have hNEW : (0 ≤ (ga σ51 0 (0 : Int32)).toInt ∧ (ga σ51 0 (0 : Int32)).toInt ≤ 6) ∧ ((ga σ51 0 (0 : Int32)).toInt = (ga σ 0 (0 : Int32)).toInt) ∧ (MFr σ σ51) := ⟨(by rw [eσ51] <;> exact hp), (by rw [eσ51] <;> exact hpq), (by rw [eσ51]; exact (Fr_xa (by decide) (by decide) hLF))⟩
        obtain ⟨hp, hpq, hLF⟩ := hNEW
        refine lv_iload_n hx hb dX6_settle_52 rfl (lv_at hl 2 rfl) ?_
        refine lv_iload_n hx hb dX6_settle_53 rfl (lv_at hl 1 rfl) ?_
        refine lv_iconst (v := -1) hx hb dX6_settle_54 (by decide) ?_
        refine lv_ixor hx hb dX6_settle_55 ?_
        refine lv_iand hx hb dX6_settle_56 ?_
        refine lv_if_ne (tgt := 154) hx hb dX6_settle_57 (by decide) (fun c57 => ?_) (fun c57 => ?_)
        · have i57 := c_ne c57
          refine lv_iinc (v := (x2_40 + (1 : Int32))) (lv' := [(2, .int (x2_40 + (1 : Int32))), (0, .ref (g.2.1 99)), (1, .int x1_4e)]) hx hb dX6_settle_154 hl (k := 2) rfl rfl (by decide) rfl (fun ls hl => ?_)
          refine lv_goto (tgt := 40) hx hb dX6_settle_157 (by decide) ?_
          have tt2 : (x2_40 + (1 : Int32)).toInt = (x2_40.toInt + (1)) := (i_add (rfl : x2_40.toInt = x2_40.toInt) zl1 (by omega))
          exact ih (x2_40 + (1 : Int32)) σ51 _ _ _ hp hpq hLF (by first | assumption | omega) (by omega) h (lv_sub hl [1, 2, 0] rfl) (fun x2_40' σL40' H locs ls en hp hpq hLF hI h hl => kk x2_40' σL40' H locs ls ((show f_X6_settle_L40 x1_4e (n + 1) x2_40 σL40 = f_X6_settle_L40 x1_4e n (x2_40 + (1 : Int32)) σ51 from (by subst eσ51; exact ((if_neg c42).trans ((if_neg c57).trans rfl)))).trans en) hp hpq hLF hI h hl)
        · have i57 := c_eq c57
          refine lv_iload_n hx hb dX6_settle_60 rfl (lv_at hl 2 rfl) ?_
          refine lv_if_ne (tgt := 67) hx hb dX6_settle_61 (by decide) (fun c61 => ?_) (fun c61 => ?_)
          · have i61 := c_ne c61
            refine lv_iconst (v := 0) hx hb dX6_settle_67 (by decide) ?_
            refine lv_istore_n (lv' := [(3, .int (0 : Int32)), (0, .ref (g.2.1 99)), (1, .int x1_4e), (2, .int x2_40)]) hx hb dX6_settle_68 rfl hl (by decide) rfl (fun ls hl => ?_)
            refine lv_iconst (v := 0) hx hb dX6_settle_69 (by decide) ?_
            refine lv_istore (lv' := [(4, .int (0 : Int32)), (3, .int (0 : Int32)), (0, .ref (g.2.1 99)), (1, .int x1_4e), (2, .int x2_40)]) hx hb dX6_settle_70 hl (by decide) rfl (fun ls hl => ?_)
            have hL72 : ∀ (n : Nat) (x3_72 : Int32) (x4_72 : Int32) (σL72 : MS) (H : Heap) (locs : List Loc) (ls : Array Slot), (0 ≤ (ga σL72 0 (0 : Int32)).toInt ∧ (ga σL72 0 (0 : Int32)).toInt ≤ 6) → ((ga σL72 0 (0 : Int32)).toInt = (ga σ 0 (0 : Int32)).toInt) → (MFr σ σL72) → (0 ≤ x4_72.toInt ∧ x4_72.toInt ≤ (ga σL72 0 (0 : Int32)).toInt) → ((ga σL72 0 (0 : Int32)).toInt - x4_72.toInt).toNat < n → MH g σL72 s H locs → lv_has ls 5 [(0, .ref (g.2.1 99)), (1, .int x1_4e), (2, .int x2_40), (3, .int x3_72), (4, .int x4_72)] → (∀ (x3_72' : Int32) (x4_72' : Int32) (σL72' : MS) (H : Heap) (locs : List Loc) (ls : Array Slot), f_X6_settle_L72 x1_4e x2_40 n x3_72 x4_72 σL72 = (x3_72', x4_72', σL72') → (0 ≤ (ga σL72' 0 (0 : Int32)).toInt ∧ (ga σL72' 0 (0 : Int32)).toInt ≤ 6) → ((ga σL72' 0 (0 : Int32)).toInt = (ga σ 0 (0 : Int32)).toInt) → (MFr σ σL72') → (0 ≤ x4_72'.toInt ∧ x4_72'.toInt ≤ (ga σL72' 0 (0 : Int32)).toInt) → MH g σL72' s H locs → lv_has ls 5 [(0, .ref (g.2.1 99)), (1, .int x1_4e), (2, .int x2_40), (3, .int x3_72')] → W p l e ({ frames := 2, cells := 0, slots := 0, locals := 44 } : Room) s m args below meth c H locs 0 0 (MQ below (mQi g (f_X6_settle σ).1 (f_X6_settle σ).2 (fun u r => ((ga u 0 (0 : Int32)).toInt = (ga σ 0 (0 : Int32)).toInt) ∧ (MFr σ u))) args s 0 0 (mA g)) (F0 m 136 ls [])) → W p l e ({ frames := 2, cells := 0, slots := 0, locals := 44 } : Room) s m args below meth c H locs 0 0 (MQ below (mQi g (f_X6_settle σ).1 (f_X6_settle σ).2 (fun u r => ((ga u 0 (0 : Int32)).toInt = (ga σ 0 (0 : Int32)).toInt) ∧ (MFr σ u))) args s 0 0 (mA g)) (F0 m 72 ls []) := by
              intro n
              induction n with
              | zero =>
                intro x3_72 x4_72 σL72 H locs ls hp hpq hLF _ hm; exact absurd hm (Nat.not_lt_zero _)
              | succ n ih =>
                intro x3_72 x4_72 σL72 H locs ls hp hpq hLF hI72 hm h hl kk
                refine lv_iload hx hb dX6_settle_72 (lv_at hl 4 rfl) ?_
                refine lv_aload_n hx hb dX6_settle_74 rfl (lv_at hl 0 rfl) ?_
                refine Mg_0 C h dX6_settle_75 ?_
                refine lv_iconst (v := 0) hx hb dX6_settle_78 (by decide) ?_
                refine Ml_0 C h (ix_of zl0 (by omega)) dX6_settle_79 ?_
                refine lv_icmp_ge (tgt := 136) hx hb dX6_settle_80 (by decide) (fun c80 => ?_) (fun c80 => ?_)
                · have i80 := c_le c80
                  exact kk x3_72 x4_72 σL72 _ _ _ (show f_X6_settle_L72 x1_4e x2_40 (n + 1) x3_72 x4_72 σL72 = (x3_72, x4_72, σL72) from (by exact ((if_pos c80).trans rfl))) hp hpq hLF (by first | assumption | omega) h (lv_sub hl [0, 1, 2, 3] rfl)
                · have i80 := c_nle c80
                  refine lv_aload_n hx hb dX6_settle_83 rfl (lv_at hl 0 rfl) ?_
                  refine lv_iload_n hx hb dX6_settle_84 rfl (lv_at hl 2 rfl) ?_
                  refine lv_iload hx hb dX6_settle_85 (lv_at hl 4 rfl) ?_
                  refine M_callz (As := [.int x2_40, .int x4_72]) (rest := []) 2 C h (k_X6_isIn l g σL72 x2_40 x4_72) (lw_V q1906 q1908 qs107 q152 q1909) rfl rfl (by decide +kernel) ⟨Nat.le_of_ble_eq_true rfl, Nat.le_of_ble_eq_true rfl⟩ rfl hl.1 rfl (Nat.le_of_ble_eq_true rfl) ⟨Nat.le_of_ble_eq_true rfl, Nat.le_of_ble_eq_true rfl⟩ dX6_settle_87 (fun r87 σ87 H locs eσ87 er87 br87 hE87 h => ?_)
                  rw [eσ87] at h
                  clear hE87
                  clear eσ87
                  refine lv_if_eq (tgt := 130) hx hb dX6_settle_90 (by decide) (fun c90 => ?_) (fun c90 => ?_)
                  · have i90 := c_eq c90
                    refine lv_iinc (v := (x4_72 + (1 : Int32))) (lv' := [(4, .int (x4_72 + (1 : Int32))), (0, .ref (g.2.1 99)), (1, .int x1_4e), (2, .int x2_40), (3, .int x3_72)]) hx hb dX6_settle_130 hl (k := 4) rfl rfl (by decide) rfl (fun ls hl => ?_)
                    refine lv_goto (tgt := 72) hx hb dX6_settle_133 (by decide) ?_
                    have tt4 : (x4_72 + (1 : Int32)).toInt = (x4_72.toInt + (1)) := (i_add (rfl : x4_72.toInt = x4_72.toInt) zl1 (by omega))
                    exact ih x3_72 (x4_72 + (1 : Int32)) σL72 _ _ _ hp hpq hLF (by first | assumption | omega) (by omega) h (lv_sub hl [1, 2, 3, 4, 0] rfl) (fun x3_72' x4_72' σL72' H locs ls en hp hpq hLF hI h hl => kk x3_72' x4_72' σL72' H locs ls ((show f_X6_settle_L72 x1_4e x2_40 (n + 1) x3_72 x4_72 σL72 = f_X6_settle_L72 x1_4e x2_40 n x3_72 (x4_72 + (1 : Int32)) σL72 from (by subst er87; exact ((if_neg c80).trans ((if_pos c90).trans rfl)))).trans en) hp hpq hLF hI h hl)
                  · have i90 := c_ne c90
                    have okr87 := isIn_ok er87 c90
                    refine lv_iload_n hx hb dX6_settle_93 rfl (lv_at hl 3 rfl) ?_
                    refine lv_aload_n hx hb dX6_settle_94 rfl (lv_at hl 0 rfl) ?_
                    refine lv_iload hx hb dX6_settle_95 (lv_at hl 4 rfl) ?_
                    refine M_calli (As := [.int x4_72]) (rest := [.int x3_72]) 1 C h (k_X6_balanceOf l g σL72 x4_72 (by first | assumption | omega) (by first | assumption | omega)) (lw_V q1986 q1988 qs112 q152 q1989) rfl rfl (by decide +kernel) ⟨Nat.le_of_ble_eq_true rfl, Nat.le_of_ble_eq_true rfl⟩ rfl hl.1 rfl (Nat.le_of_ble_eq_true rfl) ⟨Nat.le_of_ble_eq_true rfl, Nat.le_of_ble_eq_true rfl⟩ dX6_settle_97 (fun r97 σ97 H locs eσ97 er97 hE97 h => ?_)
                    rw [eσ97] at h
                    clear hE97
                    clear eσ97
                    refine lv_iadd hx hb dX6_settle_100 ?_
                    refine lv_topi (fun v101 ev101 => ?_)
                    refine lv_istore_n (lv' := [(3, .int v101), (0, .ref (g.2.1 99)), (1, .int x1_4e), (2, .int x2_40), (4, .int x4_72)]) hx hb dX6_settle_101 rfl hl (by decide) rfl (fun ls hl => ?_)
                    refine lv_aload_n hx hb dX6_settle_102 rfl (lv_at hl 1 rfl) ?_
                    refine Mg_24 C h dX6_settle_103 ?_
                    refine lv_iload_n hx hb dX6_settle_106 rfl (lv_at hl 3 rfl) ?_
                    refine lv_aload_n hx hb dX6_settle_107 rfl (lv_at hl 1 rfl) ?_
                    refine Mg_24 C h dX6_settle_108 ?_
                    refine lv_iload_n hx hb dX6_settle_111 rfl (lv_at hl 3 rfl) ?_
                    refine Ml_24 C h (ix_of (rfl : x2_40.toInt = x2_40.toInt) (by omega)) dX6_settle_112 ?_
                    refine lv_aload_n hx hb dX6_settle_113 rfl (lv_at hl 1 rfl) ?_
                    refine Mg_24 C h dX6_settle_114 ?_
                    refine lv_iload_n hx hb dX6_settle_117 rfl (lv_at hl 3 rfl) ?_
                    refine lv_iconst (v := 1) hx hb dX6_settle_118 (by decide) ?_
                    refine lv_iload hx hb dX6_settle_119 (lv_at hl 4 rfl) ?_
                    refine lv_ishl hx hb dX6_settle_121 ?_
                    refine lv_iconst (v := -1) hx hb dX6_settle_122 (by decide) ?_
                    refine lv_ixor hx hb dX6_settle_123 ?_
                    refine lv_iand hx hb dX6_settle_124 ?_
                    refine Ml_24 C h (ix63 (and63 (by omega))) dX6_settle_125 ?_
                    refine va_mmax hx hb (hml.trans hl.1.symm) hown (hts _ q2080) (hts _ q1273) (hts _ q164) (hts _ q1274) (Nat.le_of_ble_eq_true rfl) (Nat.le_of_ble_eq_true rfl) (Nat.le_of_ble_eq_true rfl) (Nat.le_of_ble_eq_true rfl) dX6_settle_126 ?_
                    refine Ms_24 C h (ix_of (rfl : x2_40.toInt = x2_40.toInt) (by omega)) dX6_settle_129 (fun σ129 H locs eσ129 h => ?_)
                    have hNEW : (0 ≤ (ga σ129 0 (0 : Int32)).toInt ∧ (ga σ129 0 (0 : Int32)).toInt ≤ 6) ∧ ((ga σ129 0 (0 : Int32)).toInt = (ga σ 0 (0 : Int32)).toInt) ∧ (MFr σ σ129) := ⟨(by rw [eσ129] <;> exact hp), (by rw [eσ129] <;> exact hpq), (by rw [eσ129]; exact (Fr_xa (by decide) (by decide) hLF))⟩
                    obtain ⟨hp, hpq, hLF⟩ := hNEW
                    refine lv_iinc (v := (x4_72 + (1 : Int32))) (lv' := [(4, .int (x4_72 + (1 : Int32))), (3, .int v101), (0, .ref (g.2.1 99)), (1, .int x1_4e), (2, .int x2_40)]) hx hb dX6_settle_130 hl (k := 4) rfl rfl (by decide) rfl (fun ls hl => ?_)
                    refine lv_goto (tgt := 72) hx hb dX6_settle_133 (by decide) ?_
                    have tt4 : (x4_72 + (1 : Int32)).toInt = (x4_72.toInt + (1)) := (i_add (rfl : x4_72.toInt = x4_72.toInt) zl1 (by omega))
                    exact ih v101 (x4_72 + (1 : Int32)) σ129 _ _ _ hp hpq hLF (by first | assumption | omega) (by omega) h (lv_sub hl [2, 3, 4, 1, 0] rfl) (fun x3_72' x4_72' σL72' H locs ls en hp hpq hLF hI h hl => kk x3_72' x4_72' σL72' H locs ls ((show f_X6_settle_L72 x1_4e x2_40 (n + 1) x3_72 x4_72 σL72 = f_X6_settle_L72 x1_4e x2_40 n v101 (x4_72 + (1 : Int32)) σ129 from (by subst er87; subst er97; subst ev101; subst eσ129; exact ((if_neg c80).trans ((if_neg c90).trans rfl)))).trans en) hp hpq hLF hI h hl)
            refine hL72 (7) (0 : Int32) (0 : Int32) σ51 _ _ _ hp hpq hLF (by first | assumption | omega) (by omega) h (lv_sub hl [2, 3, 4, 1, 0] rfl) (fun x3_72e x4_72e σL72e H locs ls eL72 hp hpq hLF hI72 h hl => ?_)
            have ex3_72e : x3_72e = (f_X6_settle_L72 x1_4e x2_40 (7) (0 : Int32) (0 : Int32) σ51).1 := by rw [eL72]
            have ex4_72e : x4_72e = (f_X6_settle_L72 x1_4e x2_40 (7) (0 : Int32) (0 : Int32) σ51).2.1 := by rw [eL72]
            have eσL72e : σL72e = (f_X6_settle_L72 x1_4e x2_40 (7) (0 : Int32) (0 : Int32) σ51).2.2 := by rw [eL72]
            refine lv_aload_n hx hb dX6_settle_136 rfl (lv_at hl 0 rfl) ?_
            refine Mg_24 C h dX6_settle_137 ?_
            refine lv_iload_n hx hb dX6_settle_140 rfl (lv_at hl 2 rfl) ?_
            refine lv_dup2_11 hx hb dX6_settle_141 rfl rfl ?_
            refine Ml_24 C h (ix_of (rfl : x2_40.toInt = x2_40.toInt) (by omega)) dX6_settle_142 ?_
            refine lv_iload_n hx hb dX6_settle_143 rfl (lv_at hl 3 rfl) ?_
            have j152 : ∀ (t0_152 : Int32) (H : Heap) (locs : List Loc) (ls : Array Slot) (ej152 : (if x3_72e = (0 : Int32) then ((1 : Int32)) else ((0 : Int32))) = t0_152) (bt0_152 : t0_152 = 0 ∨ t0_152 = 1) (h : MH g σL72e s H locs) (hl : lv_has ls 5 [(0, .ref (g.2.1 99)), (1, .int x1_4e), (2, .int x2_40)]), W p l e ({ frames := 2, cells := 0, slots := 0, locals := 44 } : Room) s m args below meth c H locs 0 0 (MQ below (mQi g (f_X6_settle σ).1 (f_X6_settle σ).2 (fun u r => ((ga u 0 (0 : Int32)).toInt = (ga σ 0 (0 : Int32)).toInt) ∧ (MFr σ u))) args s 0 0 (mA g)) (F0 m 152 ls [.int t0_152, .int (ga σL72e 24 x2_40), .int x2_40, .ref (g.2.1 24)]) := by
              intro t0_152 H locs ls ej152 bt0_152 h hl
              have et0_152 := ej152.symm
              refine lv_iadd hx hb dX6_settle_152 ?_
              refine Ms_24 C h (ix_of (rfl : x2_40.toInt = x2_40.toInt) (by omega)) dX6_settle_153 (fun σ153 H locs eσ153 h => ?_)
              have hNEW : (0 ≤ (ga σ153 0 (0 : Int32)).toInt ∧ (ga σ153 0 (0 : Int32)).toInt ≤ 6) ∧ ((ga σ153 0 (0 : Int32)).toInt = (ga σ 0 (0 : Int32)).toInt) ∧ (MFr σ σ153) := ⟨(by rw [eσ153] <;> exact hp), (by rw [eσ153] <;> exact hpq), (by rw [eσ153]; exact (Fr_xa (by decide) (by decide) hLF))⟩
              obtain ⟨hp, hpq, hLF⟩ := hNEW
              refine lv_iinc (v := (x2_40 + (1 : Int32))) (lv' := [(2, .int (x2_40 + (1 : Int32))), (0, .ref (g.2.1 99)), (1, .int x1_4e)]) hx hb dX6_settle_154 hl (k := 2) rfl rfl (by decide) rfl (fun ls hl => ?_)
              refine lv_goto (tgt := 40) hx hb dX6_settle_157 (by decide) ?_
              have tt2 : (x2_40 + (1 : Int32)).toInt = (x2_40.toInt + (1)) := (i_add (rfl : x2_40.toInt = x2_40.toInt) zl1 (by omega))
              exact ih (x2_40 + (1 : Int32)) σ153 _ _ _ hp hpq hLF (by first | assumption | omega) (by omega) h (lv_sub hl [1, 2, 0] rfl) (fun x2_40' σL40' H locs ls en hp hpq hLF hI h hl => kk x2_40' σL40' H locs ls ((show f_X6_settle_L40 x1_4e (n + 1) x2_40 σL40 = f_X6_settle_L40 x1_4e n (x2_40 + (1 : Int32)) σ153 from (by subst eσ51; subst ex3_72e; subst ex4_72e; subst eσL72e; subst et0_152; subst eσ153; exact ((if_neg c42).trans ((if_pos c57).trans ((if_neg c61).trans rfl))))).trans en) hp hpq hLF hI h hl)
            refine lv_if_ne (tgt := 151) hx hb dX6_settle_144 (by decide) (fun c144 => ?_) (fun c144 => ?_)
            · have i144 := c_ne c144
              refine lv_iconst (v := 0) hx hb dX6_settle_151 (by decide) ?_
              exact j152 _ _ _ _ (by exact ((if_neg c144).trans rfl)) (Or.inl rfl) h (lv_sub hl [0, 1, 2] rfl)
            · have i144 := c_eq c144
              refine lv_iconst (v := 1) hx hb dX6_settle_147 (by decide) ?_
              refine lv_goto (tgt := 152) hx hb dX6_settle_148 (by decide) ?_
              exact j152 _ _ _ _ (by exact ((if_pos c144).trans rfl)) (Or.inr rfl) h (lv_sub hl [0, 1, 2] rfl)
          · have i61 := c_eq c61
            refine lv_goto (tgt := 154) hx hb dX6_settle_64 (by decide) ?_
            refine lv_iinc (v := (x2_40 + (1 : Int32))) (lv' := [(2, .int (x2_40 + (1 : Int32))), (0, .ref (g.2.1 99)), (1, .int x1_4e)]) hx hb dX6_settle_154 hl (k := 2) rfl rfl (by decide) rfl (fun ls hl => ?_)
            refine lv_goto (tgt := 40) hx hb dX6_settle_157 (by decide) ?_
            have tt2 : (x2_40 + (1 : Int32)).toInt = (x2_40.toInt + (1)) := (i_add (rfl : x2_40.toInt = x2_40.toInt) zl1 (by omega))
            exact ih (x2_40 + (1 : Int32)) σ51 _ _ _ hp hpq hLF (by first | assumption | omega) (by omega) h (lv_sub hl [1, 2, 0] rfl) (fun x2_40' σL40' H locs ls en hp hpq hLF hI h hl => kk x2_40' σL40' H locs ls ((show f_X6_settle_L40 x1_4e (n + 1) x2_40 σL40 = f_X6_settle_L40 x1_4e n (x2_40 + (1 : Int32)) σ51 from (by subst eσ51; exact ((if_neg c42).trans ((if_pos c57).trans ((if_pos c61).trans rfl))))).trans en) hp hpq hLF hI h hl)
  refine hL40 (65) (0 : Int32) σ _ _ _ hp hpq hLF (by first | assumption | omega) (by omega) h (lv_sub hl [1, 2, 0] rfl) (fun x2_40e σL40e H locs ls eL40 hp hpq hLF hI40 h hl => ?_)
  have ex2_40e : x2_40e = (f_X6_settle_L40 x1_4e (65) (0 : Int32) σ).1 := by rw [eL40]
  have eσL40e : σL40e = (f_X6_settle_L40 x1_4e (65) (0 : Int32) σ).2 := by rw [eL40]
  refine lv_aload_n hx hb dX6_settle_160 rfl (lv_at hl 0 rfl) ?_
  refine lv_iload_n hx hb dX6_settle_161 rfl (lv_at hl 1 rfl) ?_
  refine s_calli (As := [.int x1_4e]) (rest := [.ref (g.2.1 99)]) 1 C.1 (k_X6_bits l x1_4e) (lw_S q1850 q1851 q152 q1852) rfl rfl (by decide +kernel) ⟨Nat.le_of_ble_eq_true rfl, Nat.le_of_ble_eq_true rfl⟩ rfl hl.1 rfl (Nat.le_of_ble_eq_true rfl) ⟨Nat.le_of_ble_eq_true rfl, Nat.le_of_ble_eq_true rfl⟩ dX6_settle_162 h.2.2 (fun r162 H locs er162 hz1 hk1 hS1 => ?_)
  have h := h.same hk1 hS1
  clear hz1 hk1 hS1
  refine lv_aload_n hx hb dX6_settle_165 rfl (lv_at hl 0 rfl) ?_
  refine Mg_24 C h dX6_settle_166 ?_
  refine lv_iload_n hx hb dX6_settle_169 rfl (lv_at hl 1 rfl) ?_
  refine Ml_24 C h (ix_of (rfl : x1_4e.toInt = x1_4e.toInt) (by omega)) dX6_settle_170 ?_
  refine lv_isub hx hb dX6_settle_171 ?_
  refine M_calli (As := [.int (r162 - (ga σL40e 24 x1_4e))]) (rest := []) 1 C h (k_X6_gives l g σL40e (r162 - (ga σL40e 24 x1_4e))) (lw_V q1806 q1808 qs91 q152 q1809) rfl rfl (by decide +kernel) ⟨Nat.le_of_ble_eq_true rfl, Nat.le_of_ble_eq_true rfl⟩ rfl hl.1 rfl (Nat.le_of_ble_eq_true rfl) ⟨Nat.le_of_ble_eq_true rfl, Nat.le_of_ble_eq_true rfl⟩ dX6_settle_172 (fun r172 σ172 H locs eσ172 er172 hE172 h => ?_)
  clear hE172
  have hNEW : (0 ≤ (ga σ172 0 (0 : Int32)).toInt ∧ (ga σ172 0 (0 : Int32)).toInt ≤ 6) ∧ ((ga σ172 0 (0 : Int32)).toInt = (ga σ 0 (0 : Int32)).toInt) ∧ (MFr σ σ172) := ⟨(by rw [eσ172, gives_s] <;> exact hp), (by rw [eσ172, gives_s] <;> exact hpq), (by rw [eσ172, gives_s]; exact Fr_si (by decide) hLF)⟩
  obtain ⟨hp, hpq, hLF⟩ := hNEW
  have he : f_X6_settle σ = (σ172, r172) := (by subst ex1_4e; subst ex2_4e; subst ex2_40e; subst eσL40e; subst er162; subst eσ172; subst er172; exact rfl)
  exact M_reti C h hr hlocks (congrArg Prod.fst he) (congrArg Prod.snd he) ⟨hpq, hLF⟩ dX6_settle_175
def f_X6_receipts_L157 (y1_157 : Int32) (y2_157 : Int32) (y3_157 : Int32) (y4_157 : Int32) : Nat → Int32 → MS → Int32 × MS
  | 0, x5_157, σL157 => (x5_157, σL157)
  | n + 1, x5_157, σL157 => if (ga σL157 0 (0 : Int32)) ≤ x5_157 then ((x5_157, σL157)) else ((let σ175 := sa σL157 25 x5_157 (0 : Int32); f_X6_receipts_L157 y1_157 y2_157 y3_157 y4_157 n (x5_157 + (1 : Int32)) σ175))
def f_X6_receipts_L209 (y1_209 : Int32) (y2_209 : Int32) (y3_209 : Int32) (y4_209 : Int32) (y5_209 : Int32) (y6_209 : Int32) : Nat → Int32 → MS → Int32 × MS
  | 0, x7_209, σL209 => (x7_209, σL209)
  | n + 1, x7_209, σL209 => if (ga σL209 0 (0 : Int32)) ≤ x7_209 then ((x7_209, σL209)) else (if x7_209 = y6_209 then (f_X6_receipts_L209 y1_209 y2_209 y3_209 y4_209 y5_209 y6_209 n (x7_209 + (1 : Int32)) σL209) else ((let r229 := (f_X6_heads σL209); let r234 := (f_X6_isIn σL209 r229 x7_209); if r234 = (0 : Int32) then (f_X6_receipts_L209 y1_209 y2_209 y3_209 y4_209 y5_209 y6_209 n (x7_209 + (1 : Int32)) σL209) else ((let σ253 := sa σL209 25 x7_209 ((ga σL209 25 x7_209) - y3_209); let σ264 := sa σ253 25 y6_209 ((ga σ253 25 y6_209) + y3_209); f_X6_receipts_L209 y1_209 y2_209 y3_209 y4_209 y5_209 y6_209 n (x7_209 + (1 : Int32)) σ264)))))
def f_X6_receipts_L185 (y1_185 : Int32) (y2_185 : Int32) (y3_185 : Int32) (y4_185 : Int32) : Nat → Int32 → MS → Int32 × MS
  | 0, x5_185, σL185 => (x5_185, σL185)
  | n + 1, x5_185, σL185 => if y2_185 ≤ x5_185 then ((x5_185, σL185)) else ((let v204 := (gb σL185 7 (((60 : Int32) * y1_185) + x5_185)).toInt32; (let zL209 := f_X6_receipts_L209 y1_185 y2_185 y3_185 y4_185 x5_185 v204 (7) (0 : Int32) σL185; let x7_209e := zL209.1; let σL209e := zL209.2; f_X6_receipts_L185 y1_185 y2_185 y3_185 y4_185 n (x5_185 + (1 : Int32)) σL209e)))
def f_X6_receipts_L280 (y4_280 : Int32) : Nat → Int32 → MS → Int32 × MS
  | 0, x5_280, σL280 => (x5_280, σL280)
  | n + 1, x5_280, σL280 => if (ga σL280 0 (0 : Int32)) ≤ x5_280 then ((x5_280, σL280)) else ((let z304 := (f_X6_write σL280 y4_280 x5_280 (ga σL280 25 x5_280).toInt64); let σ304 := z304.1; let r304 := z304.2; f_X6_receipts_L280 y4_280 n (x5_280 + (1 : Int32)) σ304))
def f_X6_receipts_L108 (σ : MS) (y1_108 : Int32) (y2_108 : Int32) (y3_108 : Int32) (y4_108 : Int32) : Nat → Int32 → MS × Int32
  | 0, x5_108 => (m00, 0)
  | n + 1, x5_108 => if y2_108 ≤ x5_108 then ((let zL157 := f_X6_receipts_L157 y1_108 y2_108 y3_108 y4_108 (7) (0 : Int32) σ; let x5_157e := zL157.1; let σL157e := zL157.2; (let zL185 := f_X6_receipts_L185 y1_108 y2_108 y3_108 y4_108 (61) (0 : Int32) σL157e; let x5_185e := zL185.1; let σL185e := zL185.2; (let zL280 := f_X6_receipts_L280 y4_108 (7) (0 : Int32) σL185e; let x5_280e := zL280.1; let σL280e := zL280.2; (let z321 := (f_X6_gives σL280e (ga σL280e 0 (0 : Int32))); let σ321 := z321.1; let r321 := z321.2; (σ321, r321)))))) else ((let r136 := (f_X6_isFrom (gb σ 7 (((60 : Int32) * y1_108) + x5_108)) (0 : Int64) ((ga σ 0 (0 : Int32)).toInt64 - (1 : Int64))); if r136 = (0 : Int32) then ((let z144 := (f_X6_refuse σ (5 : Int32)); let σ144 := z144.1; let r144 := z144.2; (σ144, r144))) else (f_X6_receipts_L108 σ y1_108 y2_108 y3_108 y4_108 n (x5_108 + (1 : Int32)))))
def f_X6_receipts (σ : MS) (p1 : Int32) (p2 : Int32) (p3 : Int32) (p4 : Int32) : MS × Int32 := (let r1 := (f_X6_isTray p1); if r1 = (0 : Int32) then ((let z42 := (f_X6_refuse σ (1 : Int32)); let σ42 := z42.1; let r42 := z42.2; (σ42, r42))) else ((let r9 := (f_X6_isTray p4); if r9 = (0 : Int32) then ((let z42 := (f_X6_refuse σ (1 : Int32)); let σ42 := z42.1; let r42 := z42.2; (σ42, r42))) else (if p2 < (0 : Int32) then ((let z42 := (f_X6_refuse σ (1 : Int32)); let σ42 := z42.1; let r42 := z42.2; (σ42, r42))) else ((let r25 := (f_X6_isFrom p3.toInt64 (1 : Int64) (999 : Int64)); if r25 = (0 : Int32) then ((let z42 := (f_X6_refuse σ (1 : Int32)); let σ42 := z42.1; let r42 := z42.2; (σ42, r42))) else (if (ga σ 0 (0 : Int32)) = (0 : Int32) then ((let z42 := (f_X6_refuse σ (1 : Int32)); let σ42 := z42.1; let r42 := z42.2; (σ42, r42))) else (if (ga σ 6 p1) = (-1 : Int32) then ((let z69 := (f_X6_refuse σ (2 : Int32)); let σ69 := z69.1; let r69 := z69.2; (σ69, r69))) else (if (ga σ 6 p4) = (-1 : Int32) then ((let z69 := (f_X6_refuse σ (2 : Int32)); let σ69 := z69.1; let r69 := z69.2; (σ69, r69))) else (if (ga σ 6 p1) < p2 then ((let z101 := (f_X6_refuse σ (3 : Int32)); let σ101 := z101.1; let r101 := z101.2; (σ101, r101))) else (if (ga σ 0 (0 : Int32)) ≤ (ga σ 6 p4) then (f_X6_receipts_L108 σ p1 p2 p3 p4 (61) (0 : Int32)) else ((let z101 := (f_X6_refuse σ (3 : Int32)); let σ101 := z101.1; let r101 := z101.2; (σ101, r101))))))))))))))
set_option maxHeartbeats 4000000 in
set_option maxRecDepth 100000 in
theorem k_X6_receipts (l : Launch) (g : GE) (σ : MS) (p1 : Int32) (p2 : Int32) (p3 : Int32) (p4 : Int32) (hp : 0 ≤ (ga σ 0 (0 : Int32)).toInt ∧ (ga σ 0 (0 : Int32)).toInt ≤ 6) (hT : ∀ t : Int32, (0 ≤ t.toInt ∧ t.toInt ≤ 3) → -1 ≤ (ga σ 6 t).toInt ∧ (ga σ 6 t).toInt ≤ 60) : Met l yX6_receipts (ws_ yX6_receipts cX6_receipts 8 (some .int)) ({ frames := 3, cells := 0, slots := 0, locals := 67 } : Room) (mPc g σ [.int p1, .int p2, .int p3, .int p4]) (mQi g (f_X6_receipts σ p1 p2 p3 p4).1 (f_X6_receipts σ p1 p2 p3 p4).2 (fun u r => ((ga u 0 (0 : Int32)).toInt = (ga σ 0 (0 : Int32)).toInt))) 0 0 (mA g) := by
  refine met_M (by decide) rfl (Nat.le_of_ble_eq_true rfl) ?_
  intro p e s m args below meth c C hr hlocks h ls hl
  have hx := C.1.1
  have hb := C.1.2.1
  have hml := C.1.2.2.1
  have hown := C.1.2.2.2.1
  have hts := C.1.2.2.2.2
  have hl : lv_has ls 8 [(0, .ref (g.2.1 99)), (1, .int p1), (2, .int p2), (3, .int p3), (4, .int p4)] := hl
  have hpq : (ga σ 0 (0 : Int32)).toInt = (ga σ 0 (0 : Int32)).toInt := rfl
  have hG : ∀ j : Int32, gb σ 7 j = gb σ 7 j := fun _ => rfl
  have zlm1 : (-1 : Int32).toInt = -1 := rfl
  have zl0 : (0 : Int32).toInt = 0 := rfl
  have zl1 : (1 : Int32).toInt = 1 := rfl
  have zl2 : (2 : Int32).toInt = 2 := rfl
  have zl3 : (3 : Int32).toInt = 3 := rfl
  have zl5 : (5 : Int32).toInt = 5 := rfl
  have zl60 : (60 : Int32).toInt = 60 := rfl
  refine lv_iload_n hx hb dX6_receipts_0 rfl (lv_at hl 1 rfl) ?_
  refine s_callz (As := [.int p1]) (rest := []) 1 C.1 (k_X6_isTray l p1) (lw_S q1660 q1661 q152 q1662) rfl rfl (by decide +kernel) ⟨Nat.le_of_ble_eq_true rfl, Nat.le_of_ble_eq_true rfl⟩ rfl hl.1 rfl (Nat.le_of_ble_eq_true rfl) ⟨Nat.le_of_ble_eq_true rfl, Nat.le_of_ble_eq_true rfl⟩ dX6_receipts_1 h.2.2 (fun r1 H locs er1 br1 hz1 hk1 hS1 => ?_)
  have h := h.same hk1 hS1
  clear hz1 hk1 hS1
  refine lv_if_eq (tgt := 40) hx hb dX6_receipts_4 (by decide) (fun c4 => ?_) (fun c4 => ?_)
  · have i4 := c_eq c4
    refine lv_aload_n hx hb dX6_receipts_40 rfl (lv_at hl 0 rfl) ?_
    refine lv_iconst (v := 1) hx hb dX6_receipts_41 (by decide) ?_
    refine M_calli (As := [.int (1 : Int32)]) (rest := []) 1 C h (k_X6_refuse l g σ (1 : Int32)) (lw_V q1723 q1725 qs71 q152 q1726) rfl rfl (by decide +kernel) ⟨Nat.le_of_ble_eq_true rfl, Nat.le_of_ble_eq_true rfl⟩ rfl hl.1 rfl (Nat.le_of_ble_eq_true rfl) ⟨Nat.le_of_ble_eq_true rfl, Nat.le_of_ble_eq_true rfl⟩ dX6_receipts_42 (fun r42 σ42 H locs eσ42 er42 hE42 h => ?_)
    clear hE42
    have hNEW : (0 ≤ (ga σ42 0 (0 : Int32)).toInt ∧ (ga σ42 0 (0 : Int32)).toInt ≤ 6) ∧ (∀ t : Int32, (0 ≤ t.toInt ∧ t.toInt ≤ 3) → -1 ≤ (ga σ42 6 t).toInt ∧ (ga σ42 6 t).toInt ≤ 60) ∧ ((ga σ42 0 (0 : Int32)).toInt = (ga σ 0 (0 : Int32)).toInt) ∧ (∀ j : Int32, gb σ42 7 j = gb σ 7 j) := ⟨(by rw [eσ42, refuse_s] <;> exact hp), (by rw [eσ42, refuse_s] <;> exact hT), (by rw [eσ42, refuse_s] <;> exact hpq), (by rw [eσ42, refuse_s] <;> exact hG)⟩
    obtain ⟨hp, hT, hpq, hG⟩ := hNEW
    have he : f_X6_receipts σ p1 p2 p3 p4 = (σ42, r42) := (by subst er1; subst eσ42; subst er42; exact ((if_pos c4).trans rfl))
    exact M_reti C h hr hlocks (congrArg Prod.fst he) (congrArg Prod.snd he) hpq dX6_receipts_45
  · have i4 := c_ne c4
    have okr1 := isTray_ok er1 c4
    refine lv_iload hx hb dX6_receipts_7 (lv_at hl 4 rfl) ?_
    refine s_callz (As := [.int p4]) (rest := []) 1 C.1 (k_X6_isTray l p4) (lw_S q1660 q1661 q152 q1662) rfl rfl (by decide +kernel) ⟨Nat.le_of_ble_eq_true rfl, Nat.le_of_ble_eq_true rfl⟩ rfl hl.1 rfl (Nat.le_of_ble_eq_true rfl) ⟨Nat.le_of_ble_eq_true rfl, Nat.le_of_ble_eq_true rfl⟩ dX6_receipts_9 h.2.2 (fun r9 H locs er9 br9 hz1 hk1 hS1 => ?_)
    have h := h.same hk1 hS1
    clear hz1 hk1 hS1
    refine lv_if_eq (tgt := 40) hx hb dX6_receipts_12 (by decide) (fun c12 => ?_) (fun c12 => ?_)
    · have i12 := c_eq c12
      refine lv_aload_n hx hb dX6_receipts_40 rfl (lv_at hl 0 rfl) ?_
      refine lv_iconst (v := 1) hx hb dX6_receipts_41 (by decide) ?_
      refine M_calli (As := [.int (1 : Int32)]) (rest := []) 1 C h (k_X6_refuse l g σ (1 : Int32)) (lw_V q1723 q1725 qs71 q152 q1726) rfl rfl (by decide +kernel) ⟨Nat.le_of_ble_eq_true rfl, Nat.le_of_ble_eq_true rfl⟩ rfl hl.1 rfl (Nat.le_of_ble_eq_true rfl) ⟨Nat.le_of_ble_eq_true rfl, Nat.le_of_ble_eq_true rfl⟩ dX6_receipts_42 (fun r42 σ42 H locs eσ42 er42 hE42 h => ?_)
      clear hE42
      have hNEW : (0 ≤ (ga σ42 0 (0 : Int32)).toInt ∧ (ga σ42 0 (0 : Int32)).toInt ≤ 6) ∧ (∀ t : Int32, (0 ≤ t.toInt ∧ t.toInt ≤ 3) → -1 ≤ (ga σ42 6 t).toInt ∧ (ga σ42 6 t).toInt ≤ 60) ∧ ((ga σ42 0 (0 : Int32)).toInt = (ga σ 0 (0 : Int32)).toInt) ∧ (∀ j : Int32, gb σ42 7 j = gb σ 7 j) := ⟨(by rw [eσ42, refuse_s] <;> exact hp), (by rw [eσ42, refuse_s] <;> exact hT), (by rw [eσ42, refuse_s] <;> exact hpq), (by rw [eσ42, refuse_s] <;> exact hG)⟩
      obtain ⟨hp, hT, hpq, hG⟩ := hNEW
      have he : f_X6_receipts σ p1 p2 p3 p4 = (σ42, r42) := (by subst er1; subst er9; subst eσ42; subst er42; exact ((if_neg c4).trans ((if_pos c12).trans rfl)))
      exact M_reti C h hr hlocks (congrArg Prod.fst he) (congrArg Prod.snd he) hpq dX6_receipts_45
    · have i12 := c_ne c12
      have okr9 := isTray_ok er9 c12
      refine lv_iload_n hx hb dX6_receipts_15 rfl (lv_at hl 2 rfl) ?_
      refine lv_if_lt (tgt := 40) hx hb dX6_receipts_16 (by decide) (fun c16 => ?_) (fun c16 => ?_)
      · have i16 := c_lt c16
        refine lv_aload_n hx hb dX6_receipts_40 rfl (lv_at hl 0 rfl) ?_
        refine lv_iconst (v := 1) hx hb dX6_receipts_41 (by decide) ?_
        refine M_calli (As := [.int (1 : Int32)]) (rest := []) 1 C h (k_X6_refuse l g σ (1 : Int32)) (lw_V q1723 q1725 qs71 q152 q1726) rfl rfl (by decide +kernel) ⟨Nat.le_of_ble_eq_true rfl, Nat.le_of_ble_eq_true rfl⟩ rfl hl.1 rfl (Nat.le_of_ble_eq_true rfl) ⟨Nat.le_of_ble_eq_true rfl, Nat.le_of_ble_eq_true rfl⟩ dX6_receipts_42 (fun r42 σ42 H locs eσ42 er42 hE42 h => ?_)
        clear hE42
        have hNEW : (0 ≤ (ga σ42 0 (0 : Int32)).toInt ∧ (ga σ42 0 (0 : Int32)).toInt ≤ 6) ∧ (∀ t : Int32, (0 ≤ t.toInt ∧ t.toInt ≤ 3) → -1 ≤ (ga σ42 6 t).toInt ∧ (ga σ42 6 t).toInt ≤ 60) ∧ ((ga σ42 0 (0 : Int32)).toInt = (ga σ 0 (0 : Int32)).toInt) ∧ (∀ j : Int32, gb σ42 7 j = gb σ 7 j) := ⟨(by rw [eσ42, refuse_s] <;> exact hp), (by rw [eσ42, refuse_s] <;> exact hT), (by rw [eσ42, refuse_s] <;> exact hpq), (by rw [eσ42, refuse_s] <;> exact hG)⟩
        obtain ⟨hp, hT, hpq, hG⟩ := hNEW
        have he : f_X6_receipts σ p1 p2 p3 p4 = (σ42, r42) := (by subst er1; subst er9; subst eσ42; subst er42; exact ((if_neg c4).trans ((if_neg c12).trans ((if_pos c16).trans rfl))))
        exact M_reti C h hr hlocks (congrArg Prod.fst he) (congrArg Prod.snd he) hpq dX6_receipts_45
      · have i16 := c_nlt c16
        refine lv_iload_n hx hb dX6_receipts_19 rfl (lv_at hl 3 rfl) ?_
        refine lv_i2l (v := p3.toInt64) hx hb dX6_receipts_20 rfl ?_
        refine lv_lconst (v := 1) hx hb dX6_receipts_21 (by decide) ?_
        refine lv_ldc2 hx hb hown (hts _ q1935) dX6_receipts_22 ?_
        refine s_callz (As := [.long p3.toInt64, .long (1 : Int64), .long (999 : Int64)]) (rest := []) 3 C.1 (k_X6_isFrom l p3.toInt64 (1 : Int64) (999 : Int64)) (lw_S q1936 q1937 q152 q1938) rfl rfl (by decide +kernel) ⟨Nat.le_of_ble_eq_true rfl, Nat.le_of_ble_eq_true rfl⟩ rfl hl.1 rfl (Nat.le_of_ble_eq_true rfl) ⟨Nat.le_of_ble_eq_true rfl, Nat.le_of_ble_eq_true rfl⟩ dX6_receipts_25 h.2.2 (fun r25 H locs er25 br25 hz1 hk1 hS1 => ?_)
        have h := h.same hk1 hS1
        clear hz1 hk1 hS1
        refine lv_if_eq (tgt := 40) hx hb dX6_receipts_28 (by decide) (fun c28 => ?_) (fun c28 => ?_)
        · have i28 := c_eq c28
          refine lv_aload_n hx hb dX6_receipts_40 rfl (lv_at hl 0 rfl) ?_
          refine lv_iconst (v := 1) hx hb dX6_receipts_41 (by decide) ?_
          refine M_calli (As := [.int (1 : Int32)]) (rest := []) 1 C h (k_X6_refuse l g σ (1 : Int32)) (lw_V q1723 q1725 qs71 q152 q1726) rfl rfl (by decide +kernel) ⟨Nat.le_of_ble_eq_true rfl, Nat.le_of_ble_eq_true rfl⟩ rfl hl.1 rfl (Nat.le_of_ble_eq_true rfl) ⟨Nat.le_of_ble_eq_true rfl, Nat.le_of_ble_eq_true rfl⟩ dX6_receipts_42 (fun r42 σ42 H locs eσ42 er42 hE42 h => ?_)
          clear hE42
          have hNEW : (0 ≤ (ga σ42 0 (0 : Int32)).toInt ∧ (ga σ42 0 (0 : Int32)).toInt ≤ 6) ∧ (∀ t : Int32, (0 ≤ t.toInt ∧ t.toInt ≤ 3) → -1 ≤ (ga σ42 6 t).toInt ∧ (ga σ42 6 t).toInt ≤ 60) ∧ ((ga σ42 0 (0 : Int32)).toInt = (ga σ 0 (0 : Int32)).toInt) ∧ (∀ j : Int32, gb σ42 7 j = gb σ 7 j) := ⟨(by rw [eσ42, refuse_s] <;> exact hp), (by rw [eσ42, refuse_s] <;> exact hT), (by rw [eσ42, refuse_s] <;> exact hpq), (by rw [eσ42, refuse_s] <;> exact hG)⟩
          obtain ⟨hp, hT, hpq, hG⟩ := hNEW
          have he : f_X6_receipts σ p1 p2 p3 p4 = (σ42, r42) := (by subst er1; subst er9; subst er25; subst eσ42; subst er42; exact ((if_neg c4).trans ((if_neg c12).trans ((if_neg c16).trans ((if_pos c28).trans rfl)))))
          exact M_reti C h hr hlocks (congrArg Prod.fst he) (congrArg Prod.snd he) hpq dX6_receipts_45
        · have i28 := c_ne c28
          have okr25 := isFrom_ok er25 c28
          refine lv_aload_n hx hb dX6_receipts_31 rfl (lv_at hl 0 rfl) ?_
          refine Mg_0 C h dX6_receipts_32 ?_
          refine lv_iconst (v := 0) hx hb dX6_receipts_35 (by decide) ?_
          refine Ml_0 C h (ix_of zl0 (by omega)) dX6_receipts_36 ?_
          refine lv_if_ne (tgt := 46) hx hb dX6_receipts_37 (by decide) (fun c37 => ?_) (fun c37 => ?_)
          · have i37 := c_ne c37
            refine lv_aload_n hx hb dX6_receipts_46 rfl (lv_at hl 0 rfl) ?_
            refine Mg_6 C h dX6_receipts_47 ?_
            refine lv_iload_n hx hb dX6_receipts_50 rfl (lv_at hl 1 rfl) ?_
            refine Ml_6 C h (ix_of (rfl : p1.toInt = p1.toInt) (by omega)) dX6_receipts_51 ?_
            refine lv_iconst (v := -1) hx hb dX6_receipts_52 (by decide) ?_
            refine lv_icmp_eq (tgt := 67) hx hb dX6_receipts_53 (by decide) (fun c53 => ?_) (fun c53 => ?_)
            · have i53 := c_eq c53
              refine lv_aload_n hx hb dX6_receipts_67 rfl (lv_at hl 0 rfl) ?_
              refine lv_iconst (v := 2) hx hb dX6_receipts_68 (by decide) ?_
              refine M_calli (As := [.int (2 : Int32)]) (rest := []) 1 C h (k_X6_refuse l g σ (2 : Int32)) (lw_V q1723 q1725 qs71 q152 q1726) rfl rfl (by decide +kernel) ⟨Nat.le_of_ble_eq_true rfl, Nat.le_of_ble_eq_true rfl⟩ rfl hl.1 rfl (Nat.le_of_ble_eq_true rfl) ⟨Nat.le_of_ble_eq_true rfl, Nat.le_of_ble_eq_true rfl⟩ dX6_receipts_69 (fun r69 σ69 H locs eσ69 er69 hE69 h => ?_)
              clear hE69
              have hNEW : (0 ≤ (ga σ69 0 (0 : Int32)).toInt ∧ (ga σ69 0 (0 : Int32)).toInt ≤ 6) ∧ (∀ t : Int32, (0 ≤ t.toInt ∧ t.toInt ≤ 3) → -1 ≤ (ga σ69 6 t).toInt ∧ (ga σ69 6 t).toInt ≤ 60) ∧ ((ga σ69 0 (0 : Int32)).toInt = (ga σ 0 (0 : Int32)).toInt) ∧ (∀ j : Int32, gb σ69 7 j = gb σ 7 j) := ⟨(by rw [eσ69, refuse_s] <;> exact hp), (by rw [eσ69, refuse_s] <;> exact hT), (by rw [eσ69, refuse_s] <;> exact hpq), (by rw [eσ69, refuse_s] <;> exact hG)⟩
              obtain ⟨hp, hT, hpq, hG⟩ := hNEW
              have he : f_X6_receipts σ p1 p2 p3 p4 = (σ69, r69) := (by subst er1; subst er9; subst er25; subst eσ69; subst er69; exact ((if_neg c4).trans ((if_neg c12).trans ((if_neg c16).trans ((if_neg c28).trans ((if_neg c37).trans ((if_pos c53).trans rfl)))))))
              exact M_reti C h hr hlocks (congrArg Prod.fst he) (congrArg Prod.snd he) hpq dX6_receipts_72
            · have i53 := c_ne c53
              refine lv_aload_n hx hb dX6_receipts_56 rfl (lv_at hl 0 rfl) ?_
              refine Mg_6 C h dX6_receipts_57 ?_
              refine lv_iload hx hb dX6_receipts_60 (lv_at hl 4 rfl) ?_
              refine Ml_6 C h (ix_of (rfl : p4.toInt = p4.toInt) (by omega)) dX6_receipts_62 ?_
              refine lv_iconst (v := -1) hx hb dX6_receipts_63 (by decide) ?_
              refine lv_icmp_ne (tgt := 73) hx hb dX6_receipts_64 (by decide) (fun c64 => ?_) (fun c64 => ?_)
              · have i64 := c_ne c64
                have ht1 := hT p1 (by omega)
                have ht4 := hT p4 (by omega)
                refine lv_aload_n hx hb dX6_receipts_73 rfl (lv_at hl 0 rfl) ?_
                refine Mg_6 C h dX6_receipts_74 ?_
                refine lv_iload_n hx hb dX6_receipts_77 rfl (lv_at hl 1 rfl) ?_
                refine Ml_6 C h (ix_of (rfl : p1.toInt = p1.toInt) (by omega)) dX6_receipts_78 ?_
                refine lv_iload_n hx hb dX6_receipts_79 rfl (lv_at hl 2 rfl) ?_
                refine lv_icmp_lt (tgt := 99) hx hb dX6_receipts_80 (by decide) (fun c80 => ?_) (fun c80 => ?_)
                · have i80 := c_lt c80
                  refine lv_aload_n hx hb dX6_receipts_99 rfl (lv_at hl 0 rfl) ?_
                  refine lv_iconst (v := 3) hx hb dX6_receipts_100 (by decide) ?_
                  refine M_calli (As := [.int (3 : Int32)]) (rest := []) 1 C h (k_X6_refuse l g σ (3 : Int32)) (lw_V q1723 q1725 qs71 q152 q1726) rfl rfl (by decide +kernel) ⟨Nat.le_of_ble_eq_true rfl, Nat.le_of_ble_eq_true rfl⟩ rfl hl.1 rfl (Nat.le_of_ble_eq_true rfl) ⟨Nat.le_of_ble_eq_true rfl, Nat.le_of_ble_eq_true rfl⟩ dX6_receipts_101 (fun r101 σ101 H locs eσ101 er101 hE101 h => ?_)
                  clear hE101
                  have hNEW : (0 ≤ (ga σ101 0 (0 : Int32)).toInt ∧ (ga σ101 0 (0 : Int32)).toInt ≤ 6) ∧ (∀ t : Int32, (0 ≤ t.toInt ∧ t.toInt ≤ 3) → -1 ≤ (ga σ101 6 t).toInt ∧ (ga σ101 6 t).toInt ≤ 60) ∧ ((ga σ101 0 (0 : Int32)).toInt = (ga σ 0 (0 : Int32)).toInt) ∧ (∀ j : Int32, gb σ101 7 j = gb σ 7 j) := ⟨(by rw [eσ101, refuse_s] <;> exact hp), (by rw [eσ101, refuse_s] <;> exact hT), (by rw [eσ101, refuse_s] <;> exact hpq), (by rw [eσ101, refuse_s] <;> exact hG)⟩
                  obtain ⟨hp, hT, hpq, hG⟩ := hNEW
                  have he : f_X6_receipts σ p1 p2 p3 p4 = (σ101, r101) := (by subst er1; subst er9; subst er25; subst eσ101; subst er101; exact ((if_neg c4).trans ((if_neg c12).trans ((if_neg c16).trans ((if_neg c28).trans ((if_neg c37).trans ((if_neg c53).trans ((if_neg c64).trans ((if_pos c80).trans rfl)))))))))
                  exact M_reti C h hr hlocks (congrArg Prod.fst he) (congrArg Prod.snd he) hpq dX6_receipts_104
                · have i80 := c_nlt c80
                  refine lv_aload_n hx hb dX6_receipts_83 rfl (lv_at hl 0 rfl) ?_
                  refine Mg_6 C h dX6_receipts_84 ?_
                  refine lv_iload hx hb dX6_receipts_87 (lv_at hl 4 rfl) ?_
                  refine Ml_6 C h (ix_of (rfl : p4.toInt = p4.toInt) (by omega)) dX6_receipts_89 ?_
                  refine lv_aload_n hx hb dX6_receipts_90 rfl (lv_at hl 0 rfl) ?_
                  refine Mg_0 C h dX6_receipts_91 ?_
                  refine lv_iconst (v := 0) hx hb dX6_receipts_94 (by decide) ?_
                  refine Ml_0 C h (ix_of zl0 (by omega)) dX6_receipts_95 ?_
                  refine lv_icmp_ge (tgt := 105) hx hb dX6_receipts_96 (by decide) (fun c96 => ?_) (fun c96 => ?_)
                  · have i96 := c_le c96
                    refine lv_iconst (v := 0) hx hb dX6_receipts_105 (by decide) ?_
                    refine lv_istore (lv' := [(5, .int (0 : Int32)), (0, .ref (g.2.1 99)), (1, .int p1), (2, .int p2), (3, .int p3), (4, .int p4)]) hx hb dX6_receipts_106 hl (by decide) rfl (fun ls hl => ?_)
                    have hL108 : ∀ (n : Nat) (x5_108 : Int32) (H : Heap) (locs : List Loc) (ls : Array Slot), (0 ≤ x5_108.toInt ∧ x5_108.toInt ≤ p2.toInt ∧ (∀ j : Int32, 0 ≤ j.toInt → j.toInt < x5_108.toInt → (0 : Int64).toInt ≤ (gb σ 7 (((60 : Int32) * p1) + j)).toInt ∧ (gb σ 7 (((60 : Int32) * p1) + j)).toInt ≤ ((ga σ 0 (0 : Int32)).toInt64 - (1 : Int64)).toInt)) → (p2.toInt - x5_108.toInt).toNat < n → f_X6_receipts σ p1 p2 p3 p4 = f_X6_receipts_L108 σ p1 p2 p3 p4 n x5_108 → MH g σ s H locs → lv_has ls 8 [(0, .ref (g.2.1 99)), (1, .int p1), (2, .int p2), (3, .int p3), (4, .int p4), (5, .int x5_108)] → W p l e ({ frames := 3, cells := 0, slots := 0, locals := 67 } : Room) s m args below meth c H locs 0 0 (MQ below (mQi g (f_X6_receipts σ p1 p2 p3 p4).1 (f_X6_receipts σ p1 p2 p3 p4).2 (fun u r => ((ga u 0 (0 : Int32)).toInt = (ga σ 0 (0 : Int32)).toInt))) args s 0 0 (mA g)) (F0 m 108 ls []) := by
                      intro n
                      induction n with
                      | zero =>
                        intro x5_108 H locs ls _ hm; exact absurd hm (Nat.not_lt_zero _)
                      | succ n ih =>
                        intro x5_108 H locs ls hI108 hm hf108 h hl
                        refine lv_iload hx hb dX6_receipts_108 (lv_at hl 5 rfl) ?_
                        refine lv_iload_n hx hb dX6_receipts_110 rfl (lv_at hl 2 rfl) ?_
                        refine lv_icmp_ge (tgt := 154) hx hb dX6_receipts_111 (by decide) (fun c111 => ?_) (fun c111 => ?_)
                        · have i111 := c_le c111
                          refine lv_iconst (v := 0) hx hb dX6_receipts_154 (by decide) ?_
                          refine lv_istore (lv' := [(5, .int (0 : Int32)), (0, .ref (g.2.1 99)), (1, .int p1), (2, .int p2), (3, .int p3), (4, .int p4)]) hx hb dX6_receipts_155 hl (by decide) rfl (fun ls hl => ?_)
                          have hL157 : ∀ (n : Nat) (x5_157 : Int32) (σL157 : MS) (H : Heap) (locs : List Loc) (ls : Array Slot), (0 ≤ (ga σL157 0 (0 : Int32)).toInt ∧ (ga σL157 0 (0 : Int32)).toInt ≤ 6) → (∀ t : Int32, (0 ≤ t.toInt ∧ t.toInt ≤ 3) → -1 ≤ (ga σL157 6 t).toInt ∧ (ga σL157 6 t).toInt ≤ 60) → ((ga σL157 0 (0 : Int32)).toInt = (ga σ 0 (0 : Int32)).toInt) → (∀ j : Int32, gb σL157 7 j = gb σ 7 j) → (0 ≤ x5_157.toInt ∧ x5_157.toInt ≤ (ga σL157 0 (0 : Int32)).toInt) → ((ga σL157 0 (0 : Int32)).toInt - x5_157.toInt).toNat < n → MH g σL157 s H locs → lv_has ls 8 [(0, .ref (g.2.1 99)), (1, .int p1), (2, .int p2), (3, .int p3), (4, .int p4), (5, .int x5_157)] → (∀ (x5_157' : Int32) (σL157' : MS) (H : Heap) (locs : List Loc) (ls : Array Slot), f_X6_receipts_L157 p1 p2 p3 p4 n x5_157 σL157 = (x5_157', σL157') → (0 ≤ (ga σL157' 0 (0 : Int32)).toInt ∧ (ga σL157' 0 (0 : Int32)).toInt ≤ 6) → (∀ t : Int32, (0 ≤ t.toInt ∧ t.toInt ≤ 3) → -1 ≤ (ga σL157' 6 t).toInt ∧ (ga σL157' 6 t).toInt ≤ 60) → ((ga σL157' 0 (0 : Int32)).toInt = (ga σ 0 (0 : Int32)).toInt) → (∀ j : Int32, gb σL157' 7 j = gb σ 7 j) → (0 ≤ x5_157'.toInt ∧ x5_157'.toInt ≤ (ga σL157' 0 (0 : Int32)).toInt) → MH g σL157' s H locs → lv_has ls 8 [(0, .ref (g.2.1 99)), (1, .int p1), (2, .int p2), (3, .int p3), (4, .int p4)] → W p l e ({ frames := 3, cells := 0, slots := 0, locals := 67 } : Room) s m args below meth c H locs 0 0 (MQ below (mQi g (f_X6_receipts σ p1 p2 p3 p4).1 (f_X6_receipts σ p1 p2 p3 p4).2 (fun u r => ((ga u 0 (0 : Int32)).toInt = (ga σ 0 (0 : Int32)).toInt))) args s 0 0 (mA g)) (F0 m 182 ls [])) → W p l e ({ frames := 3, cells := 0, slots := 0, locals := 67 } : Room) s m args below meth c H locs 0 0 (MQ below (mQi g (f_X6_receipts σ p1 p2 p3 p4).1 (f_X6_receipts σ p1 p2 p3 p4).2 (fun u r => ((ga u 0 (0 : Int32)).toInt = (ga σ 0 (0 : Int32)).toInt))) args s 0 0 (mA g)) (F0 m 157 ls []) := by
                            intro n
                            induction n with
                            | zero =>
                              intro x5_157 σL157 H locs ls hp hT hpq hG _ hm; exact absurd hm (Nat.not_lt_zero _)
                            | succ n ih =>
                              intro x5_157 σL157 H locs ls hp hT hpq hG hI157 hm h hl kk
                              refine lv_iload hx hb dX6_receipts_157 (lv_at hl 5 rfl) ?_
                              refine lv_aload_n hx hb dX6_receipts_159 rfl (lv_at hl 0 rfl) ?_
                              refine Mg_0 C h dX6_receipts_160 ?_
                              refine lv_iconst (v := 0) hx hb dX6_receipts_163 (by decide) ?_
                              refine Ml_0 C h (ix_of zl0 (by omega)) dX6_receipts_164 ?_
                              refine lv_icmp_ge (tgt := 182) hx hb dX6_receipts_165 (by decide) (fun c165 => ?_) (fun c165 => ?_)
                              · have i165 := c_le c165
                                exact kk x5_157 σL157 _ _ _ (show f_X6_receipts_L157 p1 p2 p3 p4 (n + 1) x5_157 σL157 = (x5_157, σL157) from (by exact ((if_pos c165).trans rfl))) hp hT hpq hG (by first | assumption | omega) h (lv_sub hl [0, 1, 2, 3, 4] rfl)
                              · have i165 := c_nle c165
                                refine lv_aload_n hx hb dX6_receipts_168 rfl (lv_at hl 0 rfl) ?_
                                refine Mg_25 C h dX6_receipts_169 ?_
                                refine lv_iload hx hb dX6_receipts_172 (lv_at hl 5 rfl) ?_
                                refine lv_iconst (v := 0) hx hb dX6_receipts_174 (by decide) ?_
                                refine Ms_25 C h (ix_of (rfl : x5_157.toInt = x5_157.toInt) (by omega)) dX6_receipts_175 (fun σ175 H locs eσ175 h => ?_)
                                have hNEW : (0 ≤ (ga σ175 0 (0 : Int32)).toInt ∧ (ga σ175 0 (0 : Int32)).toInt ≤ 6) ∧ (∀ t : Int32, (0 ≤ t.toInt ∧ t.toInt ≤ 3) → -1 ≤ (ga σ175 6 t).toInt ∧ (ga σ175 6 t).toInt ≤ 60) ∧ ((ga σ175 0 (0 : Int32)).toInt = (ga σ 0 (0 : Int32)).toInt) ∧ (∀ j : Int32, gb σ175 7 j = gb σ 7 j) := ⟨(by rw [eσ175] <;> exact hp), (by rw [eσ175] <;> exact hT), (by rw [eσ175] <;> exact hpq), (by rw [eσ175] <;> exact hG)⟩
                                obtain ⟨hp, hT, hpq, hG⟩ := hNEW
                                refine lv_iinc (v := (x5_157 + (1 : Int32))) (lv' := [(5, .int (x5_157 + (1 : Int32))), (0, .ref (g.2.1 99)), (1, .int p1), (2, .int p2), (3, .int p3), (4, .int p4)]) hx hb dX6_receipts_176 hl (k := 5) rfl rfl (by decide) rfl (fun ls hl => ?_)
                                refine lv_goto (tgt := 157) hx hb dX6_receipts_179 (by decide) ?_
                                have tt5 : (x5_157 + (1 : Int32)).toInt = (x5_157.toInt + (1)) := (i_add (rfl : x5_157.toInt = x5_157.toInt) zl1 (by omega))
                                exact ih (x5_157 + (1 : Int32)) σ175 _ _ _ hp hT hpq hG (by first | assumption | omega) (by omega) h (lv_sub hl [1, 2, 3, 4, 5, 0] rfl) (fun x5_157' σL157' H locs ls en hp hT hpq hG hI h hl => kk x5_157' σL157' H locs ls ((show f_X6_receipts_L157 p1 p2 p3 p4 (n + 1) x5_157 σL157 = f_X6_receipts_L157 p1 p2 p3 p4 n (x5_157 + (1 : Int32)) σ175 from (by subst eσ175; exact ((if_neg c165).trans rfl))).trans en) hp hT hpq hG hI h hl)
                          refine hL157 (7) (0 : Int32) σ _ _ _ hp hT hpq hG (by first | assumption | omega) (by omega) h (lv_sub hl [1, 2, 3, 4, 5, 0] rfl) (fun x5_157e σL157e H locs ls eL157 hp hT hpq hG hI157 h hl => ?_)
                          have ex5_157e : x5_157e = (f_X6_receipts_L157 p1 p2 p3 p4 (7) (0 : Int32) σ).1 := by rw [eL157]
                          have eσL157e : σL157e = (f_X6_receipts_L157 p1 p2 p3 p4 (7) (0 : Int32) σ).2 := by rw [eL157]
                          refine lv_iconst (v := 0) hx hb dX6_receipts_182 (by decide) ?_
                          refine lv_istore (lv' := [(5, .int (0 : Int32)), (0, .ref (g.2.1 99)), (1, .int p1), (2, .int p2), (3, .int p3), (4, .int p4)]) hx hb dX6_receipts_183 hl (by decide) rfl (fun ls hl => ?_)
                          have hL185 : ∀ (n : Nat) (x5_185 : Int32) (σL185 : MS) (H : Heap) (locs : List Loc) (ls : Array Slot), (0 ≤ (ga σL185 0 (0 : Int32)).toInt ∧ (ga σL185 0 (0 : Int32)).toInt ≤ 6) → (∀ t : Int32, (0 ≤ t.toInt ∧ t.toInt ≤ 3) → -1 ≤ (ga σL185 6 t).toInt ∧ (ga σL185 6 t).toInt ≤ 60) → ((ga σL185 0 (0 : Int32)).toInt = (ga σ 0 (0 : Int32)).toInt) → (∀ j : Int32, gb σL185 7 j = gb σ 7 j) → (0 ≤ x5_185.toInt ∧ x5_185.toInt ≤ p2.toInt) → (p2.toInt - x5_185.toInt).toNat < n → MH g σL185 s H locs → lv_has ls 8 [(0, .ref (g.2.1 99)), (1, .int p1), (2, .int p2), (3, .int p3), (4, .int p4), (5, .int x5_185)] → (∀ (x5_185' : Int32) (σL185' : MS) (H : Heap) (locs : List Loc) (ls : Array Slot), f_X6_receipts_L185 p1 p2 p3 p4 n x5_185 σL185 = (x5_185', σL185') → (0 ≤ (ga σL185' 0 (0 : Int32)).toInt ∧ (ga σL185' 0 (0 : Int32)).toInt ≤ 6) → (∀ t : Int32, (0 ≤ t.toInt ∧ t.toInt ≤ 3) → -1 ≤ (ga σL185' 6 t).toInt ∧ (ga σL185' 6 t).toInt ≤ 60) → ((ga σL185' 0 (0 : Int32)).toInt = (ga σ 0 (0 : Int32)).toInt) → (∀ j : Int32, gb σL185' 7 j = gb σ 7 j) → (0 ≤ x5_185'.toInt ∧ x5_185'.toInt ≤ p2.toInt) → MH g σL185' s H locs → lv_has ls 8 [(0, .ref (g.2.1 99)), (4, .int p4)] → W p l e ({ frames := 3, cells := 0, slots := 0, locals := 67 } : Room) s m args below meth c H locs 0 0 (MQ below (mQi g (f_X6_receipts σ p1 p2 p3 p4).1 (f_X6_receipts σ p1 p2 p3 p4).2 (fun u r => ((ga u 0 (0 : Int32)).toInt = (ga σ 0 (0 : Int32)).toInt))) args s 0 0 (mA g)) (F0 m 277 ls [])) → W p l e ({ frames := 3, cells := 0, slots := 0, locals := 67 } : Room) s m args below meth c H locs 0 0 (MQ below (mQi g (f_X6_receipts σ p1 p2 p3 p4).1 (f_X6_receipts σ p1 p2 p3 p4).2 (fun u r => ((ga u 0 (0 : Int32)).toInt = (ga σ 0 (0 : Int32)).toInt))) args s 0 0 (mA g)) (F0 m 185 ls []) := by
                            intro n
                            induction n with
                            | zero =>
                              intro x5_185 σL185 H locs ls hp hT hpq hG _ hm; exact absurd hm (Nat.not_lt_zero _)
                            | succ n ih =>
                              intro x5_185 σL185 H locs ls hp hT hpq hG hI185 hm h hl kk
                              refine lv_iload hx hb dX6_receipts_185 (lv_at hl 5 rfl) ?_
                              refine lv_iload_n hx hb dX6_receipts_187 rfl (lv_at hl 2 rfl) ?_
                              refine lv_icmp_ge (tgt := 277) hx hb dX6_receipts_188 (by decide) (fun c188 => ?_) (fun c188 => ?_)
                              · have i188 := c_le c188
                                exact kk x5_185 σL185 _ _ _ (show f_X6_receipts_L185 p1 p2 p3 p4 (n + 1) x5_185 σL185 = (x5_185, σL185) from (by exact ((if_pos c188).trans rfl))) hp hT hpq hG (by first | assumption | omega) h (lv_sub hl [0, 4] rfl)
                              · have i188 := c_nle c188
                                refine lv_aload_n hx hb dX6_receipts_191 rfl (lv_at hl 0 rfl) ?_
                                refine Mg_7 C h dX6_receipts_192 ?_
                                refine lv_bipush (v := 60) hx hb dX6_receipts_195 (by decide) ?_
                                refine lv_iload_n hx hb dX6_receipts_197 rfl (lv_at hl 1 rfl) ?_
                                refine lv_imul hx hb dX6_receipts_198 ?_
                                refine lv_iload hx hb dX6_receipts_199 (lv_at hl 5 rfl) ?_
                                refine lv_iadd hx hb dX6_receipts_201 ?_
                                refine Ml_7 C h (ix_of (i_add (i_mul zl60 (rfl : p1.toInt = p1.toInt) (by omega)) (rfl : x5_185.toInt = x5_185.toInt) (by omega)) (by omega)) dX6_receipts_202 ?_
                                refine lv_l2i (v := (gb σL185 7 (((60 : Int32) * p1) + x5_185)).toInt32) hx hb dX6_receipts_203 rfl ?_
                                refine lv_topi (fun v204 ev204 => ?_)
                                refine lv_istore (lv' := [(6, .int v204), (0, .ref (g.2.1 99)), (1, .int p1), (2, .int p2), (3, .int p3), (4, .int p4), (5, .int x5_185)]) hx hb dX6_receipts_204 hl (by decide) rfl (fun ls hl => ?_)
                                have w204 : 0 ≤ v204.toInt ∧ v204.toInt < (ga σ 0 (0 : Int32)).toInt := by have q := l2i_rng (n := ga σ 0 (0 : Int32)) (by omega) (hI108.2.2 x5_185 (by omega) (by omega)); rw [ev204, hG]; exact ⟨q.1, q.2.1⟩
                                refine lv_iconst (v := 0) hx hb dX6_receipts_206 (by decide) ?_
                                refine lv_istore (lv' := [(7, .int (0 : Int32)), (6, .int v204), (0, .ref (g.2.1 99)), (1, .int p1), (2, .int p2), (3, .int p3), (4, .int p4), (5, .int x5_185)]) hx hb dX6_receipts_207 hl (by decide) rfl (fun ls hl => ?_)
                                have hL209 : ∀ (n : Nat) (x7_209 : Int32) (σL209 : MS) (H : Heap) (locs : List Loc) (ls : Array Slot), (0 ≤ (ga σL209 0 (0 : Int32)).toInt ∧ (ga σL209 0 (0 : Int32)).toInt ≤ 6) → (∀ t : Int32, (0 ≤ t.toInt ∧ t.toInt ≤ 3) → -1 ≤ (ga σL209 6 t).toInt ∧ (ga σL209 6 t).toInt ≤ 60) → ((ga σL209 0 (0 : Int32)).toInt = (ga σ 0 (0 : Int32)).toInt) → (∀ j : Int32, gb σL209 7 j = gb σ 7 j) → (0 ≤ x7_209.toInt ∧ x7_209.toInt ≤ (ga σL209 0 (0 : Int32)).toInt) → ((ga σL209 0 (0 : Int32)).toInt - x7_209.toInt).toNat < n → MH g σL209 s H locs → lv_has ls 8 [(0, .ref (g.2.1 99)), (1, .int p1), (2, .int p2), (3, .int p3), (4, .int p4), (5, .int x5_185), (6, .int v204), (7, .int x7_209)] → (∀ (x7_209' : Int32) (σL209' : MS) (H : Heap) (locs : List Loc) (ls : Array Slot), f_X6_receipts_L209 p1 p2 p3 p4 x5_185 v204 n x7_209 σL209 = (x7_209', σL209') → (0 ≤ (ga σL209' 0 (0 : Int32)).toInt ∧ (ga σL209' 0 (0 : Int32)).toInt ≤ 6) → (∀ t : Int32, (0 ≤ t.toInt ∧ t.toInt ≤ 3) → -1 ≤ (ga σL209' 6 t).toInt ∧ (ga σL209' 6 t).toInt ≤ 60) → ((ga σL209' 0 (0 : Int32)).toInt = (ga σ 0 (0 : Int32)).toInt) → (∀ j : Int32, gb σL209' 7 j = gb σ 7 j) → (0 ≤ x7_209'.toInt ∧ x7_209'.toInt ≤ (ga σL209' 0 (0 : Int32)).toInt) → MH g σL209' s H locs → lv_has ls 8 [(0, .ref (g.2.1 99)), (1, .int p1), (2, .int p2), (3, .int p3), (4, .int p4), (5, .int x5_185)] → W p l e ({ frames := 3, cells := 0, slots := 0, locals := 67 } : Room) s m args below meth c H locs 0 0 (MQ below (mQi g (f_X6_receipts σ p1 p2 p3 p4).1 (f_X6_receipts σ p1 p2 p3 p4).2 (fun u r => ((ga u 0 (0 : Int32)).toInt = (ga σ 0 (0 : Int32)).toInt))) args s 0 0 (mA g)) (F0 m 271 ls [])) → W p l e ({ frames := 3, cells := 0, slots := 0, locals := 67 } : Room) s m args below meth c H locs 0 0 (MQ below (mQi g (f_X6_receipts σ p1 p2 p3 p4).1 (f_X6_receipts σ p1 p2 p3 p4).2 (fun u r => ((ga u 0 (0 : Int32)).toInt = (ga σ 0 (0 : Int32)).toInt))) args s 0 0 (mA g)) (F0 m 209 ls []) := by
                                  intro n
                                  induction n with
                                  | zero =>
                                    intro x7_209 σL209 H locs ls hp hT hpq hG _ hm; exact absurd hm (Nat.not_lt_zero _)
                                  | succ n ih =>
                                    intro x7_209 σL209 H locs ls hp hT hpq hG hI209 hm h hl kk
                                    refine lv_iload hx hb dX6_receipts_209 (lv_at hl 7 rfl) ?_
                                    refine lv_aload_n hx hb dX6_receipts_211 rfl (lv_at hl 0 rfl) ?_
                                    refine Mg_0 C h dX6_receipts_212 ?_
                                    refine lv_iconst (v := 0) hx hb dX6_receipts_215 (by decide) ?_
                                    refine Ml_0 C h (ix_of zl0 (by omega)) dX6_receipts_216 ?_
                                    refine lv_icmp_ge (tgt := 271) hx hb dX6_receipts_217 (by decide) (fun c217 => ?_) (fun c217 => ?_)
                                    · have i217 := c_le c217
                                      exact kk x7_209 σL209 _ _ _ (show f_X6_receipts_L209 p1 p2 p3 p4 x5_185 v204 (n + 1) x7_209 σL209 = (x7_209, σL209) from (by exact ((if_pos c217).trans rfl))) hp hT hpq hG (by first | assumption | omega) h (lv_sub hl [0, 1, 2, 3, 4, 5] rfl)
                                    · have i217 := c_nle c217
                                      refine lv_iload hx hb dX6_receipts_220 (lv_at hl 7 rfl) ?_
                                      refine lv_iload hx hb dX6_receipts_222 (lv_at hl 6 rfl) ?_
                                      refine lv_icmp_eq (tgt := 265) hx hb dX6_receipts_224 (by decide) (fun c224 => ?_) (fun c224 => ?_)
                                      · have i224 := c_eq c224
                                        refine lv_iinc (v := (x7_209 + (1 : Int32))) (lv' := [(7, .int (x7_209 + (1 : Int32))), (0, .ref (g.2.1 99)), (1, .int p1), (2, .int p2), (3, .int p3), (4, .int p4), (5, .int x5_185), (6, .int v204)]) hx hb dX6_receipts_265 hl (k := 7) rfl rfl (by decide) rfl (fun ls hl => ?_)
                                        refine lv_goto (tgt := 209) hx hb dX6_receipts_268 (by decide) ?_
                                        have tt7 : (x7_209 + (1 : Int32)).toInt = (x7_209.toInt + (1)) := (i_add (rfl : x7_209.toInt = x7_209.toInt) zl1 (by omega))
                                        exact ih (x7_209 + (1 : Int32)) σL209 _ _ _ hp hT hpq hG (by first | assumption | omega) (by omega) h (lv_sub hl [1, 2, 3, 4, 5, 6, 7, 0] rfl) (fun x7_209' σL209' H locs ls en hp hT hpq hG hI h hl => kk x7_209' σL209' H locs ls ((show f_X6_receipts_L209 p1 p2 p3 p4 x5_185 v204 (n + 1) x7_209 σL209 = f_X6_receipts_L209 p1 p2 p3 p4 x5_185 v204 n (x7_209 + (1 : Int32)) σL209 from (by exact ((if_neg c217).trans ((if_pos c224).trans rfl)))).trans en) hp hT hpq hG hI h hl)
                                      · have i224 := c_ne c224
                                        refine lv_aload_n hx hb dX6_receipts_227 rfl (lv_at hl 0 rfl) ?_
                                        refine lv_aload_n hx hb dX6_receipts_228 rfl (lv_at hl 0 rfl) ?_
                                        refine M_calli (As := []) (rest := [.ref (g.2.1 99)]) 0 C h (k_X6_heads l g σL209) (lw_V q1842 q1844 qs98 q152 q1845) rfl rfl (by decide +kernel) ⟨Nat.le_of_ble_eq_true rfl, Nat.le_of_ble_eq_true rfl⟩ rfl hl.1 rfl (Nat.le_of_ble_eq_true rfl) ⟨Nat.le_of_ble_eq_true rfl, Nat.le_of_ble_eq_true rfl⟩ dX6_receipts_229 (fun r229 σ229 H locs eσ229 er229 hE229 h => ?_)
                                        rw [eσ229] at h
                                        clear hE229
                                        clear eσ229
                                        have rgr229 := heads_rng hp er229
                                        refine lv_iload hx hb dX6_receipts_232 (lv_at hl 7 rfl) ?_
                                        refine M_callz (As := [.int r229, .int x7_209]) (rest := []) 2 C h (k_X6_isIn l g σL209 r229 x7_209) (lw_V q1906 q1908 qs107 q152 q1909) rfl rfl (by decide +kernel) ⟨Nat.le_of_ble_eq_true rfl, Nat.le_of_ble_eq_true rfl⟩ rfl hl.1 rfl (Nat.le_of_ble_eq_true rfl) ⟨Nat.le_of_ble_eq_true rfl, Nat.le_of_ble_eq_true rfl⟩ dX6_receipts_234 (fun r234 σ234 H locs eσ234 er234 br234 hE234 h => ?_)
                                        rw [eσ234] at h
                                        clear hE234
                                        clear eσ234
                                        refine lv_if_ne (tgt := 243) hx hb dX6_receipts_237 (by decide) (fun c237 => ?_) (fun c237 => ?_)
                                        · have i237 := c_ne c237
                                          have okr234 := isIn_ok er234 c237
                                          refine lv_aload_n hx hb dX6_receipts_243 rfl (lv_at hl 0 rfl) ?_
                                          refine Mg_25 C h dX6_receipts_244 ?_
                                          refine lv_iload hx hb dX6_receipts_247 (lv_at hl 7 rfl) ?_
                                          refine lv_dup2_11 hx hb dX6_receipts_249 rfl rfl ?_
                                          refine Ml_25 C h (ix_of (rfl : x7_209.toInt = x7_209.toInt) (by omega)) dX6_receipts_250 ?_
                                          refine lv_iload_n hx hb dX6_receipts_251 rfl (lv_at hl 3 rfl) ?_
                                          refine lv_isub hx hb dX6_receipts_252 ?_
                                          refine Ms_25 C h (ix_of (rfl : x7_209.toInt = x7_209.toInt) (by omega)) dX6_receipts_253 (fun σ253 H locs eσ253 h => ?_)
                                          have hNEW : (0 ≤ (ga σ253 0 (0 : Int32)).toInt ∧ (ga σ253 0 (0 : Int32)).toInt ≤ 6) ∧ (∀ t : Int32, (0 ≤ t.toInt ∧ t.toInt ≤ 3) → -1 ≤ (ga σ253 6 t).toInt ∧ (ga σ253 6 t).toInt ≤ 60) ∧ ((ga σ253 0 (0 : Int32)).toInt = (ga σ 0 (0 : Int32)).toInt) ∧ (∀ j : Int32, gb σ253 7 j = gb σ 7 j) := ⟨(by rw [eσ253] <;> exact hp), (by rw [eσ253] <;> exact hT), (by rw [eσ253] <;> exact hpq), (by rw [eσ253] <;> exact hG)⟩
                                          obtain ⟨hp, hT, hpq, hG⟩ := hNEW
                                          refine lv_aload_n hx hb dX6_receipts_254 rfl (lv_at hl 0 rfl) ?_
                                          refine Mg_25 C h dX6_receipts_255 ?_
                                          refine lv_iload hx hb dX6_receipts_258 (lv_at hl 6 rfl) ?_
                                          refine lv_dup2_11 hx hb dX6_receipts_260 rfl rfl ?_
                                          refine Ml_25 C h (ix_of (rfl : v204.toInt = v204.toInt) (by omega)) dX6_receipts_261 ?_
                                          refine lv_iload_n hx hb dX6_receipts_262 rfl (lv_at hl 3 rfl) ?_
                                          refine lv_iadd hx hb dX6_receipts_263 ?_
                                          refine Ms_25 C h (ix_of (rfl : v204.toInt = v204.toInt) (by omega)) dX6_receipts_264 (fun σ264 H locs eσ264 h => ?_)
                                          have hNEW : (0 ≤ (ga σ264 0 (0 : Int32)).toInt ∧ (ga σ264 0 (0 : Int32)).toInt ≤ 6) ∧ (∀ t : Int32, (0 ≤ t.toInt ∧ t.toInt ≤ 3) → -1 ≤ (ga σ264 6 t).toInt ∧ (ga σ264 6 t).toInt ≤ 60) ∧ ((ga σ264 0 (0 : Int32)).toInt = (ga σ 0 (0 : Int32)).toInt) ∧ (∀ j : Int32, gb σ264 7 j = gb σ 7 j) := ⟨(by rw [eσ264] <;> exact hp), (by rw [eσ264] <;> exact hT), (by rw [eσ264] <;> exact hpq), (by rw [eσ264] <;> exact hG)⟩
                                          clear hp hT hpq hG
                                          obtain ⟨hp, hT, hpq, hG⟩ := hNEW
                                          refine lv_iinc (v := (x7_209 + (1 : Int32))) (lv' := [(7, .int (x7_209 + (1 : Int32))), (0, .ref (g.2.1 99)), (1, .int p1), (2, .int p2), (3, .int p3), (4, .int p4), (5, .int x5_185), (6, .int v204)]) hx hb dX6_receipts_265 hl (k := 7) rfl rfl (by decide) rfl (fun ls hl => ?_)
                                          refine lv_goto (tgt := 209) hx hb dX6_receipts_268 (by decide) ?_
                                          have tt7 : (x7_209 + (1 : Int32)).toInt = (x7_209.toInt + (1)) := (i_add (rfl : x7_209.toInt = x7_209.toInt) zl1 (by omega))
                                          exact ih (x7_209 + (1 : Int32)) σ264 _ _ _ hp hT hpq hG (by first | assumption | omega) (by omega) h (lv_sub hl [1, 2, 3, 4, 5, 6, 7, 0] rfl) (fun x7_209' σL209' H locs ls en hp hT hpq hG hI h hl => kk x7_209' σL209' H locs ls ((show f_X6_receipts_L209 p1 p2 p3 p4 x5_185 v204 (n + 1) x7_209 σL209 = f_X6_receipts_L209 p1 p2 p3 p4 x5_185 v204 n (x7_209 + (1 : Int32)) σ264 from (by subst er229; subst er234; subst eσ253; subst eσ264; exact ((if_neg c217).trans ((if_neg c224).trans ((if_neg c237).trans rfl))))).trans en) hp hT hpq hG hI h hl)
                                        · have i237 := c_eq c237
                                          refine lv_goto (tgt := 265) hx hb dX6_receipts_240 (by decide) ?_
                                          refine lv_iinc (v := (x7_209 + (1 : Int32))) (lv' := [(7, .int (x7_209 + (1 : Int32))), (0, .ref (g.2.1 99)), (1, .int p1), (2, .int p2), (3, .int p3), (4, .int p4), (5, .int x5_185), (6, .int v204)]) hx hb dX6_receipts_265 hl (k := 7) rfl rfl (by decide) rfl (fun ls hl => ?_)
                                          refine lv_goto (tgt := 209) hx hb dX6_receipts_268 (by decide) ?_
                                          have tt7 : (x7_209 + (1 : Int32)).toInt = (x7_209.toInt + (1)) := (i_add (rfl : x7_209.toInt = x7_209.toInt) zl1 (by omega))
                                          exact ih (x7_209 + (1 : Int32)) σL209 _ _ _ hp hT hpq hG (by first | assumption | omega) (by omega) h (lv_sub hl [1, 2, 3, 4, 5, 6, 7, 0] rfl) (fun x7_209' σL209' H locs ls en hp hT hpq hG hI h hl => kk x7_209' σL209' H locs ls ((show f_X6_receipts_L209 p1 p2 p3 p4 x5_185 v204 (n + 1) x7_209 σL209 = f_X6_receipts_L209 p1 p2 p3 p4 x5_185 v204 n (x7_209 + (1 : Int32)) σL209 from (by subst er229; subst er234; exact ((if_neg c217).trans ((if_neg c224).trans ((if_pos c237).trans rfl))))).trans en) hp hT hpq hG hI h hl)
                                refine hL209 (7) (0 : Int32) σL185 _ _ _ hp hT hpq hG (by first | assumption | omega) (by omega) h (lv_sub hl [2, 3, 4, 5, 6, 7, 1, 0] rfl) (fun x7_209e σL209e H locs ls eL209 hp hT hpq hG hI209 h hl => ?_)
                                have ex7_209e : x7_209e = (f_X6_receipts_L209 p1 p2 p3 p4 x5_185 v204 (7) (0 : Int32) σL185).1 := by rw [eL209]
                                have eσL209e : σL209e = (f_X6_receipts_L209 p1 p2 p3 p4 x5_185 v204 (7) (0 : Int32) σL185).2 := by rw [eL209]
                                refine lv_iinc (v := (x5_185 + (1 : Int32))) (lv' := [(5, .int (x5_185 + (1 : Int32))), (0, .ref (g.2.1 99)), (1, .int p1), (2, .int p2), (3, .int p3), (4, .int p4)]) hx hb dX6_receipts_271 hl (k := 5) rfl rfl (by decide) rfl (fun ls hl => ?_)
                                refine lv_goto (tgt := 185) hx hb dX6_receipts_274 (by decide) ?_
                                have tt5 : (x5_185 + (1 : Int32)).toInt = (x5_185.toInt + (1)) := (i_add (rfl : x5_185.toInt = x5_185.toInt) zl1 (by omega))
                                exact ih (x5_185 + (1 : Int32)) σL209e _ _ _ hp hT hpq hG (by first | assumption | omega) (by omega) h (lv_sub hl [1, 2, 3, 4, 5, 0] rfl) (fun x5_185' σL185' H locs ls en hp hT hpq hG hI h hl => kk x5_185' σL185' H locs ls ((show f_X6_receipts_L185 p1 p2 p3 p4 (n + 1) x5_185 σL185 = f_X6_receipts_L185 p1 p2 p3 p4 n (x5_185 + (1 : Int32)) σL209e from (by subst ev204; subst ex7_209e; subst eσL209e; exact ((if_neg c188).trans rfl))).trans en) hp hT hpq hG hI h hl)
                          refine hL185 (61) (0 : Int32) σL157e _ _ _ hp hT hpq hG (by first | assumption | omega) (by omega) h (lv_sub hl [1, 2, 3, 4, 5, 0] rfl) (fun x5_185e σL185e H locs ls eL185 hp hT hpq hG hI185 h hl => ?_)
                          have ex5_185e : x5_185e = (f_X6_receipts_L185 p1 p2 p3 p4 (61) (0 : Int32) σL157e).1 := by rw [eL185]
                          have eσL185e : σL185e = (f_X6_receipts_L185 p1 p2 p3 p4 (61) (0 : Int32) σL157e).2 := by rw [eL185]
                          refine lv_iconst (v := 0) hx hb dX6_receipts_277 (by decide) ?_
                          refine lv_istore (lv' := [(5, .int (0 : Int32)), (0, .ref (g.2.1 99)), (4, .int p4)]) hx hb dX6_receipts_278 hl (by decide) rfl (fun ls hl => ?_)
                          have hL280 : ∀ (n : Nat) (x5_280 : Int32) (σL280 : MS) (H : Heap) (locs : List Loc) (ls : Array Slot), (0 ≤ (ga σL280 0 (0 : Int32)).toInt ∧ (ga σL280 0 (0 : Int32)).toInt ≤ 6) → (∀ t : Int32, (0 ≤ t.toInt ∧ t.toInt ≤ 3) → -1 ≤ (ga σL280 6 t).toInt ∧ (ga σL280 6 t).toInt ≤ 60) → ((ga σL280 0 (0 : Int32)).toInt = (ga σ 0 (0 : Int32)).toInt) → (0 ≤ x5_280.toInt ∧ x5_280.toInt ≤ (ga σL280 0 (0 : Int32)).toInt) → ((ga σL280 0 (0 : Int32)).toInt - x5_280.toInt).toNat < n → MH g σL280 s H locs → lv_has ls 8 [(0, .ref (g.2.1 99)), (4, .int p4), (5, .int x5_280)] → (∀ (x5_280' : Int32) (σL280' : MS) (H : Heap) (locs : List Loc) (ls : Array Slot), f_X6_receipts_L280 p4 n x5_280 σL280 = (x5_280', σL280') → (0 ≤ (ga σL280' 0 (0 : Int32)).toInt ∧ (ga σL280' 0 (0 : Int32)).toInt ≤ 6) → (∀ t : Int32, (0 ≤ t.toInt ∧ t.toInt ≤ 3) → -1 ≤ (ga σL280' 6 t).toInt ∧ (ga σL280' 6 t).toInt ≤ 60) → ((ga σL280' 0 (0 : Int32)).toInt = (ga σ 0 (0 : Int32)).toInt) → (0 ≤ x5_280'.toInt ∧ x5_280'.toInt ≤ (ga σL280' 0 (0 : Int32)).toInt) → MH g σL280' s H locs → lv_has ls 8 [(0, .ref (g.2.1 99))] → W p l e ({ frames := 3, cells := 0, slots := 0, locals := 67 } : Room) s m args below meth c H locs 0 0 (MQ below (mQi g (f_X6_receipts σ p1 p2 p3 p4).1 (f_X6_receipts σ p1 p2 p3 p4).2 (fun u r => ((ga u 0 (0 : Int32)).toInt = (ga σ 0 (0 : Int32)).toInt))) args s 0 0 (mA g)) (F0 m 314 ls [])) → W p l e ({ frames := 3, cells := 0, slots := 0, locals := 67 } : Room) s m args below meth c H locs 0 0 (MQ below (mQi g (f_X6_receipts σ p1 p2 p3 p4).1 (f_X6_receipts σ p1 p2 p3 p4).2 (fun u r => ((ga u 0 (0 : Int32)).toInt = (ga σ 0 (0 : Int32)).toInt))) args s 0 0 (mA g)) (F0 m 280 ls []) := by
                            intro n
                            induction n with
                            | zero =>
                              intro x5_280 σL280 H locs ls hp hT hpq _ hm; exact absurd hm (Nat.not_lt_zero _)
                            | succ n ih =>
                              intro x5_280 σL280 H locs ls hp hT hpq hI280 hm h hl kk
                              refine lv_iload hx hb dX6_receipts_280 (lv_at hl 2 rfl) ?_
                              refine lv_aload_n hx hb dX6_receipts_282 rfl (lv_at hl 0 rfl) ?_
                              refine Mg_0 C h dX6_receipts_283 ?_
                              refine lv_iconst (v := 0) hx hb dX6_receipts_286 (by decide) ?_
                              refine Ml_0 C h (ix_of zl0 (by omega)) dX6_receipts_287 ?_
                              refine lv_icmp_ge (tgt := 314) hx hb dX6_receipts_288 (by decide) (fun c288 => ?_) (fun c288 => ?_)
                              · have i288 := c_le c288
                                exact kk x5_280 σL280 _ _ _ (show f_X6_receipts_L280 p4 (n + 1) x5_280 σL280 = (x5_280, σL280) from (by exact ((if_pos c288).trans rfl))) hp hT hpq (by first | assumption | omega) h (lv_sub hl [0] rfl)
                              · have i288 := c_nle c288
                                refine lv_aload_n hx hb dX6_receipts_291 rfl (lv_at hl 0 rfl) ?_
                                refine lv_iload hx hb dX6_receipts_292 (lv_at hl 1 rfl) ?_
                                refine lv_iload hx hb dX6_receipts_294 (lv_at hl 2 rfl) ?_
                                refine lv_aload_n hx hb dX6_receipts_296 rfl (lv_at hl 0 rfl) ?_
                                refine Mg_25 C h dX6_receipts_297 ?_
                                refine lv_iload hx hb dX6_receipts_300 (lv_at hl 2 rfl) ?_
                                refine Ml_25 C h (ix_of (rfl : x5_280.toInt = x5_280.toInt) (by omega)) dX6_receipts_302 ?_
                                refine lv_i2l (v := (ga σL280 25 x5_280).toInt64) hx hb dX6_receipts_303 rfl ?_
                                refine M_callz (As := [.int p4, .int x5_280, .long (ga σL280 25 x5_280).toInt64]) (rest := []) 3 C h (k_X6_write l g σL280 p4 x5_280 (ga σL280 25 x5_280).toInt64 (by first | assumption | omega) (by first | assumption | omega)) (lw_V q2199 q1668 q1669 q152 q1670) rfl rfl (by decide +kernel) ⟨Nat.le_of_ble_eq_true rfl, Nat.le_of_ble_eq_true rfl⟩ rfl hl.1 rfl (Nat.le_of_ble_eq_true rfl) ⟨Nat.le_of_ble_eq_true rfl, Nat.le_of_ble_eq_true rfl⟩ dX6_receipts_304 (fun r304 σ304 H locs eσ304 er304 br304 hE304 h => ?_)
                                have hE304 : ((ga σ304 0 (0 : Int32)).toInt = (ga σL280 0 (0 : Int32)).toInt) ∧ (∀ t : Int32, (0 ≤ t.toInt ∧ t.toInt ≤ 3) → -1 ≤ (ga σ304 6 t).toInt ∧ (ga σ304 6 t).toInt ≤ 60) := hE304
                                obtain ⟨hpq_304, hT_304⟩ := hE304
                                have hNEW : (0 ≤ (ga σ304 0 (0 : Int32)).toInt ∧ (ga σ304 0 (0 : Int32)).toInt ≤ 6) ∧ (∀ t : Int32, (0 ≤ t.toInt ∧ t.toInt ≤ 3) → -1 ≤ (ga σ304 6 t).toInt ∧ (ga σ304 6 t).toInt ≤ 60) ∧ ((ga σ304 0 (0 : Int32)).toInt = (ga σ 0 (0 : Int32)).toInt) := ⟨(by first | assumption | omega), (by first | assumption | omega), (by first | assumption | omega)⟩
                                obtain ⟨hp, hT, hpq⟩ := hNEW
                                refine lv_pop hx hb dX6_receipts_307 rfl ?_
                                refine lv_iinc (v := (x5_280 + (1 : Int32))) (lv' := [(5, .int (x5_280 + (1 : Int32))), (0, .ref (g.2.1 99)), (4, .int p4)]) hx hb dX6_receipts_308 hl (k := 2) rfl rfl (by decide) rfl (fun ls hl => ?_)
                                refine lv_goto (tgt := 280) hx hb dX6_receipts_311 (by decide) ?_
                                have tt5 : (x5_280 + (1 : Int32)).toInt = (x5_280.toInt + (1)) := (i_add (rfl : x5_280.toInt = x5_280.toInt) zl1 (by omega))
                                exact ih (x5_280 + (1 : Int32)) σ304 _ _ _ hp hT hpq (by first | assumption | omega) (by omega) h (lv_sub hl [1, 2, 0] rfl) (fun x5_280' σL280' H locs ls en hp hT hpq hI h hl => kk x5_280' σL280' H locs ls ((show f_X6_receipts_L280 p4 (n + 1) x5_280 σL280 = f_X6_receipts_L280 p4 n (x5_280 + (1 : Int32)) σ304 from (by subst eσ304; subst er304; exact ((if_neg c288).trans rfl))).trans en) hp hT hpq hI h hl)
                          refine hL280 (7) (0 : Int32) σL185e _ _ _ hp hT hpq (by first | assumption | omega) (by omega) h (lv_sub hl [1, 2, 0] rfl) (fun x5_280e σL280e H locs ls eL280 hp hT hpq hI280 h hl => ?_)
                          have ex5_280e : x5_280e = (f_X6_receipts_L280 p4 (7) (0 : Int32) σL185e).1 := by rw [eL280]
                          have eσL280e : σL280e = (f_X6_receipts_L280 p4 (7) (0 : Int32) σL185e).2 := by rw [eL280]
                          refine lv_aload_n hx hb dX6_receipts_314 rfl (lv_at hl 0 rfl) ?_
                          refine lv_aload_n hx hb dX6_receipts_315 rfl (lv_at hl 0 rfl) ?_
                          refine Mg_0 C h dX6_receipts_316 ?_
                          refine lv_iconst (v := 0) hx hb dX6_receipts_319 (by decide) ?_
                          refine Ml_0 C h (ix_of zl0 (by omega)) dX6_receipts_320 ?_
                          refine M_calli (As := [.int (ga σL280e 0 (0 : Int32))]) (rest := []) 1 C h (k_X6_gives l g σL280e (ga σL280e 0 (0 : Int32))) (lw_V q1806 q1808 qs91 q152 q1809) rfl rfl (by decide +kernel) ⟨Nat.le_of_ble_eq_true rfl, Nat.le_of_ble_eq_true rfl⟩ rfl hl.1 rfl (Nat.le_of_ble_eq_true rfl) ⟨Nat.le_of_ble_eq_true rfl, Nat.le_of_ble_eq_true rfl⟩ dX6_receipts_321 (fun r321 σ321 H locs eσ321 er321 hE321 h => ?_)
                          clear hE321
                          have hNEW : (0 ≤ (ga σ321 0 (0 : Int32)).toInt ∧ (ga σ321 0 (0 : Int32)).toInt ≤ 6) ∧ (∀ t : Int32, (0 ≤ t.toInt ∧ t.toInt ≤ 3) → -1 ≤ (ga σ321 6 t).toInt ∧ (ga σ321 6 t).toInt ≤ 60) ∧ ((ga σ321 0 (0 : Int32)).toInt = (ga σ 0 (0 : Int32)).toInt) := ⟨(by rw [eσ321, gives_s] <;> exact hp), (by rw [eσ321, gives_s] <;> exact hT), (by rw [eσ321, gives_s] <;> exact hpq)⟩
                          obtain ⟨hp, hT, hpq⟩ := hNEW
                          have he : f_X6_receipts σ p1 p2 p3 p4 = (σ321, r321) := (by subst ex5_157e; subst eσL157e; subst ex5_185e; subst eσL185e; subst ex5_280e; subst eσL280e; subst eσ321; subst er321; exact (hf108.trans ((if_pos c111).trans rfl)))
                          exact M_reti C h hr hlocks (congrArg Prod.fst he) (congrArg Prod.snd he) hpq dX6_receipts_324
                        · have i111 := c_nle c111
                          refine lv_aload_n hx hb dX6_receipts_114 rfl (lv_at hl 0 rfl) ?_
                          refine Mg_7 C h dX6_receipts_115 ?_
                          refine lv_bipush (v := 60) hx hb dX6_receipts_118 (by decide) ?_
                          refine lv_iload_n hx hb dX6_receipts_120 rfl (lv_at hl 1 rfl) ?_
                          refine lv_imul hx hb dX6_receipts_121 ?_
                          refine lv_iload hx hb dX6_receipts_122 (lv_at hl 5 rfl) ?_
                          refine lv_iadd hx hb dX6_receipts_124 ?_
                          refine Ml_7 C h (ix_of (i_add (i_mul zl60 (rfl : p1.toInt = p1.toInt) (by omega)) (rfl : x5_108.toInt = x5_108.toInt) (by omega)) (by omega)) dX6_receipts_125 ?_
                          refine lv_lconst (v := 0) hx hb dX6_receipts_126 (by decide) ?_
                          refine lv_aload_n hx hb dX6_receipts_127 rfl (lv_at hl 0 rfl) ?_
                          refine Mg_0 C h dX6_receipts_128 ?_
                          refine lv_iconst (v := 0) hx hb dX6_receipts_131 (by decide) ?_
                          refine Ml_0 C h (ix_of zl0 (by omega)) dX6_receipts_132 ?_
                          refine lv_i2l (v := (ga σ 0 (0 : Int32)).toInt64) hx hb dX6_receipts_133 rfl ?_
                          refine lv_lconst (v := 1) hx hb dX6_receipts_134 (by decide) ?_
                          refine lv_lsub hx hb dX6_receipts_135 ?_
                          refine s_callz (As := [.long (gb σ 7 (((60 : Int32) * p1) + x5_108)), .long (0 : Int64), .long ((ga σ 0 (0 : Int32)).toInt64 - (1 : Int64))]) (rest := []) 3 C.1 (k_X6_isFrom l (gb σ 7 (((60 : Int32) * p1) + x5_108)) (0 : Int64) ((ga σ 0 (0 : Int32)).toInt64 - (1 : Int64))) (lw_S q1936 q1937 q152 q1938) rfl rfl (by decide +kernel) ⟨Nat.le_of_ble_eq_true rfl, Nat.le_of_ble_eq_true rfl⟩ rfl hl.1 rfl (Nat.le_of_ble_eq_true rfl) ⟨Nat.le_of_ble_eq_true rfl, Nat.le_of_ble_eq_true rfl⟩ dX6_receipts_136 h.2.2 (fun r136 H locs er136 br136 hz1 hk1 hS1 => ?_)
                          have h := h.same hk1 hS1
                          clear hz1 hk1 hS1
                          refine lv_if_ne (tgt := 148) hx hb dX6_receipts_139 (by decide) (fun c139 => ?_) (fun c139 => ?_)
                          · have i139 := c_ne c139
                            have okr136 := isFrom_ok er136 c139
                            refine lv_iinc (v := (x5_108 + (1 : Int32))) (lv' := [(5, .int (x5_108 + (1 : Int32))), (0, .ref (g.2.1 99)), (1, .int p1), (2, .int p2), (3, .int p3), (4, .int p4)]) hx hb dX6_receipts_148 hl (k := 5) rfl rfl (by decide) rfl (fun ls hl => ?_)
                            refine lv_goto (tgt := 108) hx hb dX6_receipts_151 (by decide) ?_
                            have tt5 : (x5_108 + (1 : Int32)).toInt = (x5_108.toInt + (1)) := (i_add (rfl : x5_108.toInt = x5_108.toInt) zl1 (by omega))
                            exact ih (x5_108 + (1 : Int32)) _ _ _  ⟨by omega, by omega, fun j h0 h1 => by
            rcases (show j.toInt < x5_108.toInt ∨ j.toInt = x5_108.toInt by omega) with q | q
            · exact hI108.2.2 j h0 q
            · exact (Int32.toInt_inj.mp q) ▸ okr136⟩ (by omega) (by subst er136; exact (hf108.trans ((if_neg c111).trans ((if_neg c139).trans rfl)))) h (lv_sub hl [1, 2, 3, 4, 5, 0] rfl)
                          · have i139 := c_eq c139
                            refine lv_aload_n hx hb dX6_receipts_142 rfl (lv_at hl 0 rfl) ?_
                            refine lv_iconst (v := 5) hx hb dX6_receipts_143 (by decide) ?_
                            refine M_calli (As := [.int (5 : Int32)]) (rest := []) 1 C h (k_X6_refuse l g σ (5 : Int32)) (lw_V q1723 q1725 qs71 q152 q1726) rfl rfl (by decide +kernel) ⟨Nat.le_of_ble_eq_true rfl, Nat.le_of_ble_eq_true rfl⟩ rfl hl.1 rfl (Nat.le_of_ble_eq_true rfl) ⟨Nat.le_of_ble_eq_true rfl, Nat.le_of_ble_eq_true rfl⟩ dX6_receipts_144 (fun r144 σ144 H locs eσ144 er144 hE144 h => ?_)
                            clear hE144
                            have hNEW : (0 ≤ (ga σ144 0 (0 : Int32)).toInt ∧ (ga σ144 0 (0 : Int32)).toInt ≤ 6) ∧ (∀ t : Int32, (0 ≤ t.toInt ∧ t.toInt ≤ 3) → -1 ≤ (ga σ144 6 t).toInt ∧ (ga σ144 6 t).toInt ≤ 60) ∧ ((ga σ144 0 (0 : Int32)).toInt = (ga σ 0 (0 : Int32)).toInt) ∧ (∀ j : Int32, gb σ144 7 j = gb σ 7 j) := ⟨(by rw [eσ144, refuse_s] <;> exact hp), (by rw [eσ144, refuse_s] <;> exact hT), (by rw [eσ144, refuse_s] <;> exact hpq), (by rw [eσ144, refuse_s] <;> exact hG)⟩
                            obtain ⟨hp, hT, hpq, hG⟩ := hNEW
                            have he : f_X6_receipts σ p1 p2 p3 p4 = (σ144, r144) := (by subst er136; subst eσ144; subst er144; exact (hf108.trans ((if_neg c111).trans ((if_pos c139).trans rfl))))
                            exact M_reti C h hr hlocks (congrArg Prod.fst he) (congrArg Prod.snd he) hpq dX6_receipts_147
                    exact hL108 (61) (0 : Int32) _ _ _  ⟨by omega, by omega, fun j h0 h1 => absurd h1 (by omega)⟩ (by omega) (by subst er1; subst er9; subst er25; exact ((if_neg c4).trans ((if_neg c12).trans ((if_neg c16).trans ((if_neg c28).trans ((if_neg c37).trans ((if_neg c53).trans ((if_neg c64).trans ((if_neg c80).trans ((if_pos c96).trans rfl)))))))))) h (lv_sub hl [1, 2, 3, 4, 5, 0] rfl)
                  · have i96 := c_nle c96
                    refine lv_aload_n hx hb dX6_receipts_99 rfl (lv_at hl 0 rfl) ?_
                    refine lv_iconst (v := 3) hx hb dX6_receipts_100 (by decide) ?_
                    refine M_calli (As := [.int (3 : Int32)]) (rest := []) 1 C h (k_X6_refuse l g σ (3 : Int32)) (lw_V q1723 q1725 qs71 q152 q1726) rfl rfl (by decide +kernel) ⟨Nat.le_of_ble_eq_true rfl, Nat.le_of_ble_eq_true rfl⟩ rfl hl.1 rfl (Nat.le_of_ble_eq_true rfl) ⟨Nat.le_of_ble_eq_true rfl, Nat.le_of_ble_eq_true rfl⟩ dX6_receipts_101 (fun r101 σ101 H locs eσ101 er101 hE101 h => ?_)
                    clear hE101
                    have hNEW : (0 ≤ (ga σ101 0 (0 : Int32)).toInt ∧ (ga σ101 0 (0 : Int32)).toInt ≤ 6) ∧ (∀ t : Int32, (0 ≤ t.toInt ∧ t.toInt ≤ 3) → -1 ≤ (ga σ101 6 t).toInt ∧ (ga σ101 6 t).toInt ≤ 60) ∧ ((ga σ101 0 (0 : Int32)).toInt = (ga σ 0 (0 : Int32)).toInt) ∧ (∀ j : Int32, gb σ101 7 j = gb σ 7 j) := ⟨(by rw [eσ101, refuse_s] <;> exact hp), (by rw [eσ101, refuse_s] <;> exact hT), (by rw [eσ101, refuse_s] <;> exact hpq), (by rw [eσ101, refuse_s] <;> exact hG)⟩
                    obtain ⟨hp, hT, hpq, hG⟩ := hNEW
                    have he : f_X6_receipts σ p1 p2 p3 p4 = (σ101, r101) := (by subst er1; subst er9; subst er25; subst eσ101; subst er101; exact ((if_neg c4).trans ((if_neg c12).trans ((if_neg c16).trans ((if_neg c28).trans ((if_neg c37).trans ((if_neg c53).trans ((if_neg c64).trans ((if_neg c80).trans ((if_neg c96).trans rfl))))))))))
                    exact M_reti C h hr hlocks (congrArg Prod.fst he) (congrArg Prod.snd he) hpq dX6_receipts_104
              · have i64 := c_eq c64
                refine lv_aload_n hx hb dX6_receipts_67 rfl (lv_at hl 0 rfl) ?_
                refine lv_iconst (v := 2) hx hb dX6_receipts_68 (by decide) ?_
                refine M_calli (As := [.int (2 : Int32)]) (rest := []) 1 C h (k_X6_refuse l g σ (2 : Int32)) (lw_V q1723 q1725 qs71 q152 q1726) rfl rfl (by decide +kernel) ⟨Nat.le_of_ble_eq_true rfl, Nat.le_of_ble_eq_true rfl⟩ rfl hl.1 rfl (Nat.le_of_ble_eq_true rfl) ⟨Nat.le_of_ble_eq_true rfl, Nat.le_of_ble_eq_true rfl⟩ dX6_receipts_69 (fun r69 σ69 H locs eσ69 er69 hE69 h => ?_)
                clear hE69
                have hNEW : (0 ≤ (ga σ69 0 (0 : Int32)).toInt ∧ (ga σ69 0 (0 : Int32)).toInt ≤ 6) ∧ (∀ t : Int32, (0 ≤ t.toInt ∧ t.toInt ≤ 3) → -1 ≤ (ga σ69 6 t).toInt ∧ (ga σ69 6 t).toInt ≤ 60) ∧ ((ga σ69 0 (0 : Int32)).toInt = (ga σ 0 (0 : Int32)).toInt) ∧ (∀ j : Int32, gb σ69 7 j = gb σ 7 j) := ⟨(by rw [eσ69, refuse_s] <;> exact hp), (by rw [eσ69, refuse_s] <;> exact hT), (by rw [eσ69, refuse_s] <;> exact hpq), (by rw [eσ69, refuse_s] <;> exact hG)⟩
                obtain ⟨hp, hT, hpq, hG⟩ := hNEW
                have he : f_X6_receipts σ p1 p2 p3 p4 = (σ69, r69) := (by subst er1; subst er9; subst er25; subst eσ69; subst er69; exact ((if_neg c4).trans ((if_neg c12).trans ((if_neg c16).trans ((if_neg c28).trans ((if_neg c37).trans ((if_neg c53).trans ((if_pos c64).trans rfl))))))))
                exact M_reti C h hr hlocks (congrArg Prod.fst he) (congrArg Prod.snd he) hpq dX6_receipts_72
          · have i37 := c_eq c37
            refine lv_aload_n hx hb dX6_receipts_40 rfl (lv_at hl 0 rfl) ?_
            refine lv_iconst (v := 1) hx hb dX6_receipts_41 (by decide) ?_
            refine M_calli (As := [.int (1 : Int32)]) (rest := []) 1 C h (k_X6_refuse l g σ (1 : Int32)) (lw_V q1723 q1725 qs71 q152 q1726) rfl rfl (by decide +kernel) ⟨Nat.le_of_ble_eq_true rfl, Nat.le_of_ble_eq_true rfl⟩ rfl hl.1 rfl (Nat.le_of_ble_eq_true rfl) ⟨Nat.le_of_ble_eq_true rfl, Nat.le_of_ble_eq_true rfl⟩ dX6_receipts_42 (fun r42 σ42 H locs eσ42 er42 hE42 h => ?_)
            clear hE42
            have hNEW : (0 ≤ (ga σ42 0 (0 : Int32)).toInt ∧ (ga σ42 0 (0 : Int32)).toInt ≤ 6) ∧ (∀ t : Int32, (0 ≤ t.toInt ∧ t.toInt ≤ 3) → -1 ≤ (ga σ42 6 t).toInt ∧ (ga σ42 6 t).toInt ≤ 60) ∧ ((ga σ42 0 (0 : Int32)).toInt = (ga σ 0 (0 : Int32)).toInt) ∧ (∀ j : Int32, gb σ42 7 j = gb σ 7 j) := ⟨(by rw [eσ42, refuse_s] <;> exact hp), (by rw [eσ42, refuse_s] <;> exact hT), (by rw [eσ42, refuse_s] <;> exact hpq), (by rw [eσ42, refuse_s] <;> exact hG)⟩
            obtain ⟨hp, hT, hpq, hG⟩ := hNEW
            have he : f_X6_receipts σ p1 p2 p3 p4 = (σ42, r42) := (by subst er1; subst er9; subst er25; subst eσ42; subst er42; exact ((if_neg c4).trans ((if_neg c12).trans ((if_neg c16).trans ((if_neg c28).trans ((if_pos c37).trans rfl))))))
            exact M_reti C h hr hlocks (congrArg Prod.fst he) (congrArg Prod.snd he) hpq dX6_receipts_45
def f_X6_remembers_L104 (σ : MS) (y1_104 : Int32) : Nat → Int32 → Int64 → Int32 → Int32 × Int64 × Int32
  | 0, x2_104, x3_104, x5_104 => (x2_104, x3_104, x5_104)
  | n + 1, x2_104, x3_104, x5_104 => if (ga σ 0 (0 : Int32)) ≤ x5_104 then ((x2_104, x3_104, x5_104)) else ((let r130 := (f_X6_balanceOf σ x5_104); let v138 := (jabsL ((gb σ 7 (((60 : Int32) * y1_104) + x5_104)) - r130.toInt64)); if (0 : Int32) < (lg_cmp v138 x3_104) then (f_X6_remembers_L104 σ y1_104 n x5_104 v138 (x5_104 + (1 : Int32))) else (f_X6_remembers_L104 σ y1_104 n x2_104 x3_104 (x5_104 + (1 : Int32)))))
def f_X6_remembers_L52 (σ : MS) (y1_52 : Int32) : Nat → Int32 → MS × Int32
  | 0, x2_52 => (m00, 0)
  | n + 1, x2_52 => if (ga σ 0 (0 : Int32)) ≤ x2_52 then ((let zL104 := f_X6_remembers_L104 σ y1_52 (7) (-1 : Int32) (0 : Int64) (0 : Int32); let x2_104e := zL104.1; let x3_104e := zL104.2.1; let x5_104e := zL104.2.2; (let z164 := (f_X6_orNone σ x2_104e); let σ164 := z164.1; let r164 := z164.2; (σ164, r164)))) else ((let r79 := (f_X6_isFrom (gb σ 7 (((60 : Int32) * y1_52) + x2_52)) (-9999999 : Int64) (9999999 : Int64)); if r79 = (0 : Int32) then ((let z87 := (f_X6_refuse σ (5 : Int32)); let σ87 := z87.1; let r87 := z87.2; (σ87, r87))) else (f_X6_remembers_L52 σ y1_52 n (x2_52 + (1 : Int32)))))
def f_X6_remembers (σ : MS) (p1 : Int32) : MS × Int32 := (let r1 := (f_X6_isTray p1); if r1 = (0 : Int32) then ((let z9 := (f_X6_refuse σ (1 : Int32)); let σ9 := z9.1; let r9 := z9.2; (σ9, r9))) else (if (ga σ 6 p1) = (-1 : Int32) then ((let z25 := (f_X6_refuse σ (2 : Int32)); let σ25 := z25.1; let r25 := z25.2; (σ25, r25))) else (if (ga σ 0 (0 : Int32)) ≤ (ga σ 6 p1) then (f_X6_remembers_L52 σ p1 (7) (0 : Int32)) else ((let z46 := (f_X6_refuse σ (3 : Int32)); let σ46 := z46.1; let r46 := z46.2; (σ46, r46))))))
set_option maxHeartbeats 4000000 in
set_option maxRecDepth 100000 in
theorem k_X6_remembers (l : Launch) (g : GE) (σ : MS) (p1 : Int32) (hp : 0 ≤ (ga σ 0 (0 : Int32)).toInt ∧ (ga σ 0 (0 : Int32)).toInt ≤ 6) (hT : ∀ t : Int32, (0 ≤ t.toInt ∧ t.toInt ≤ 3) → -1 ≤ (ga σ 6 t).toInt ∧ (ga σ 6 t).toInt ≤ 60) : Met l yX6_remembers (ws_ yX6_remembers cX6_remembers 8 (some .int)) ({ frames := 2, cells := 0, slots := 0, locals := 44 } : Room) (mPc g σ [.int p1]) (mQi g (f_X6_remembers σ p1).1 (f_X6_remembers σ p1).2 (fun u r => ((ga u 0 (0 : Int32)).toInt = (ga σ 0 (0 : Int32)).toInt))) 0 0 (mA g) := by
  refine met_M (by decide) rfl (Nat.le_of_ble_eq_true rfl) ?_
  intro p e s m args below meth c C hr hlocks h ls hl
  have hx := C.1.1
  have hb := C.1.2.1
  have hml := C.1.2.2.1
  have hown := C.1.2.2.2.1
  have hts := C.1.2.2.2.2
  have hl : lv_has ls 8 [(0, .ref (g.2.1 99)), (1, .int p1)] := hl
  have hpq : (ga σ 0 (0 : Int32)).toInt = (ga σ 0 (0 : Int32)).toInt := rfl
  have zlm1 : (-1 : Int32).toInt = -1 := rfl
  have zl0 : (0 : Int32).toInt = 0 := rfl
  have zl1 : (1 : Int32).toInt = 1 := rfl
  have zl2 : (2 : Int32).toInt = 2 := rfl
  have zl3 : (3 : Int32).toInt = 3 := rfl
  have zl5 : (5 : Int32).toInt = 5 := rfl
  have zl60 : (60 : Int32).toInt = 60 := rfl
  refine lv_iload_n hx hb dX6_remembers_0 rfl (lv_at hl 1 rfl) ?_
  refine s_callz (As := [.int p1]) (rest := []) 1 C.1 (k_X6_isTray l p1) (lw_S q1660 q1661 q152 q1662) rfl rfl (by decide +kernel) ⟨Nat.le_of_ble_eq_true rfl, Nat.le_of_ble_eq_true rfl⟩ rfl hl.1 rfl (Nat.le_of_ble_eq_true rfl) ⟨Nat.le_of_ble_eq_true rfl, Nat.le_of_ble_eq_true rfl⟩ dX6_remembers_1 h.2.2 (fun r1 H locs er1 br1 hz1 hk1 hS1 => ?_)
  have h := h.same hk1 hS1
  clear hz1 hk1 hS1
  refine lv_if_ne (tgt := 13) hx hb dX6_remembers_4 (by decide) (fun c4 => ?_) (fun c4 => ?_)
  · have i4 := c_ne c4
    have okr1 := isTray_ok er1 c4
    refine lv_aload_n hx hb dX6_remembers_13 rfl (lv_at hl 0 rfl) ?_
    refine Mg_6 C h dX6_remembers_14 ?_
    refine lv_iload_n hx hb dX6_remembers_17 rfl (lv_at hl 1 rfl) ?_
    refine Ml_6 C h (ix_of (rfl : p1.toInt = p1.toInt) (by omega)) dX6_remembers_18 ?_
    refine lv_iconst (v := -1) hx hb dX6_remembers_19 (by decide) ?_
    refine lv_icmp_ne (tgt := 29) hx hb dX6_remembers_20 (by decide) (fun c20 => ?_) (fun c20 => ?_)
    · have i20 := c_ne c20
      refine lv_aload_n hx hb dX6_remembers_29 rfl (lv_at hl 0 rfl) ?_
      refine Mg_6 C h dX6_remembers_30 ?_
      refine lv_iload_n hx hb dX6_remembers_33 rfl (lv_at hl 1 rfl) ?_
      refine Ml_6 C h (ix_of (rfl : p1.toInt = p1.toInt) (by omega)) dX6_remembers_34 ?_
      refine lv_aload_n hx hb dX6_remembers_35 rfl (lv_at hl 0 rfl) ?_
      refine Mg_0 C h dX6_remembers_36 ?_
      refine lv_iconst (v := 0) hx hb dX6_remembers_39 (by decide) ?_
      refine Ml_0 C h (ix_of zl0 (by omega)) dX6_remembers_40 ?_
      refine lv_icmp_ge (tgt := 50) hx hb dX6_remembers_41 (by decide) (fun c41 => ?_) (fun c41 => ?_)
      · have i41 := c_le c41
        have ht1 := hT p1 (by omega)
        refine lv_iconst (v := 0) hx hb dX6_remembers_50 (by decide) ?_
        refine lv_istore_n (lv' := [(2, .int (0 : Int32)), (0, .ref (g.2.1 99)), (1, .int p1)]) hx hb dX6_remembers_51 rfl hl (by decide) rfl (fun ls hl => ?_)
        have hL52 : ∀ (n : Nat) (x2_52 : Int32) (H : Heap) (locs : List Loc) (ls : Array Slot), (0 ≤ x2_52.toInt ∧ x2_52.toInt ≤ (ga σ 0 (0 : Int32)).toInt) → ((ga σ 0 (0 : Int32)).toInt - x2_52.toInt).toNat < n → f_X6_remembers σ p1 = f_X6_remembers_L52 σ p1 n x2_52 → MH g σ s H locs → lv_has ls 8 [(0, .ref (g.2.1 99)), (1, .int p1), (2, .int x2_52)] → W p l e ({ frames := 2, cells := 0, slots := 0, locals := 44 } : Room) s m args below meth c H locs 0 0 (MQ below (mQi g (f_X6_remembers σ p1).1 (f_X6_remembers σ p1).2 (fun u r => ((ga u 0 (0 : Int32)).toInt = (ga σ 0 (0 : Int32)).toInt))) args s 0 0 (mA g)) (F0 m 52 ls []) := by
          intro n
          induction n with
          | zero =>
            intro x2_52 H locs ls _ hm; exact absurd hm (Nat.not_lt_zero _)
          | succ n ih =>
            intro x2_52 H locs ls hI52 hm hf52 h hl
            refine lv_iload_n hx hb dX6_remembers_52 rfl (lv_at hl 2 rfl) ?_
            refine lv_aload_n hx hb dX6_remembers_53 rfl (lv_at hl 0 rfl) ?_
            refine Mg_0 C h dX6_remembers_54 ?_
            refine lv_iconst (v := 0) hx hb dX6_remembers_57 (by decide) ?_
            refine Ml_0 C h (ix_of zl0 (by omega)) dX6_remembers_58 ?_
            refine lv_icmp_ge (tgt := 97) hx hb dX6_remembers_59 (by decide) (fun c59 => ?_) (fun c59 => ?_)
            · have i59 := c_le c59
              refine lv_iconst (v := -1) hx hb dX6_remembers_97 (by decide) ?_
              refine lv_istore_n (lv' := [(2, .int (-1 : Int32)), (0, .ref (g.2.1 99)), (1, .int p1)]) hx hb dX6_remembers_98 rfl hl (by decide) rfl (fun ls hl => ?_)
              refine lv_lconst (v := 0) hx hb dX6_remembers_99 (by decide) ?_
              refine lv_lstore_n (lv' := [(3, .long (0 : Int64)), (2, .int (-1 : Int32)), (0, .ref (g.2.1 99)), (1, .int p1)]) hx hb dX6_remembers_100 rfl hl (by decide) rfl (fun ls hl => ?_)
              refine lv_iconst (v := 0) hx hb dX6_remembers_101 (by decide) ?_
              refine lv_istore (lv' := [(5, .int (0 : Int32)), (3, .long (0 : Int64)), (2, .int (-1 : Int32)), (0, .ref (g.2.1 99)), (1, .int p1)]) hx hb dX6_remembers_102 hl (by decide) rfl (fun ls hl => ?_)
              have hL104 : ∀ (n : Nat) (x2_104 : Int32) (x3_104 : Int64) (x5_104 : Int32) (H : Heap) (locs : List Loc) (ls : Array Slot), (0 ≤ x5_104.toInt ∧ x5_104.toInt ≤ (ga σ 0 (0 : Int32)).toInt) → ((ga σ 0 (0 : Int32)).toInt - x5_104.toInt).toNat < n → MH g σ s H locs → lv_has ls 8 [(0, .ref (g.2.1 99)), (1, .int p1), (2, .int x2_104), (3, .long x3_104), (5, .int x5_104)] → (∀ (x2_104' : Int32) (x3_104' : Int64) (x5_104' : Int32) (H : Heap) (locs : List Loc) (ls : Array Slot), f_X6_remembers_L104 σ p1 n x2_104 x3_104 x5_104 = (x2_104', x3_104', x5_104') → (0 ≤ x5_104'.toInt ∧ x5_104'.toInt ≤ (ga σ 0 (0 : Int32)).toInt) → MH g σ s H locs → lv_has ls 8 [(0, .ref (g.2.1 99)), (2, .int x2_104')] → W p l e ({ frames := 2, cells := 0, slots := 0, locals := 44 } : Room) s m args below meth c H locs 0 0 (MQ below (mQi g (f_X6_remembers σ p1).1 (f_X6_remembers σ p1).2 (fun u r => ((ga u 0 (0 : Int32)).toInt = (ga σ 0 (0 : Int32)).toInt))) args s 0 0 (mA g)) (F0 m 162 ls [])) → W p l e ({ frames := 2, cells := 0, slots := 0, locals := 44 } : Room) s m args below meth c H locs 0 0 (MQ below (mQi g (f_X6_remembers σ p1).1 (f_X6_remembers σ p1).2 (fun u r => ((ga u 0 (0 : Int32)).toInt = (ga σ 0 (0 : Int32)).toInt))) args s 0 0 (mA g)) (F0 m 104 ls []) := by
                intro n
                induction n with
                | zero =>
                  intro x2_104 x3_104 x5_104 H locs ls _ hm; exact absurd hm (Nat.not_lt_zero _)
                | succ n ih =>
                  intro x2_104 x3_104 x5_104 H locs ls hI104 hm h hl kk
                  refine lv_iload hx hb dX6_remembers_104 (lv_at hl 4 rfl) ?_
                  refine lv_aload_n hx hb dX6_remembers_106 rfl (lv_at hl 0 rfl) ?_
                  refine Mg_0 C h dX6_remembers_107 ?_
                  refine lv_iconst (v := 0) hx hb dX6_remembers_110 (by decide) ?_
                  refine Ml_0 C h (ix_of zl0 (by omega)) dX6_remembers_111 ?_
                  refine lv_icmp_ge (tgt := 162) hx hb dX6_remembers_112 (by decide) (fun c112 => ?_) (fun c112 => ?_)
                  · have i112 := c_le c112
                    exact kk x2_104 x3_104 x5_104 _ _ _ (show f_X6_remembers_L104 σ p1 (n + 1) x2_104 x3_104 x5_104 = (x2_104, x3_104, x5_104) from (by exact ((if_pos c112).trans rfl)))  (by first | assumption | omega) h (lv_sub hl [0, 2] rfl)
                  · have i112 := c_nle c112
                    refine lv_aload_n hx hb dX6_remembers_115 rfl (lv_at hl 0 rfl) ?_
                    refine Mg_7 C h dX6_remembers_116 ?_
                    refine lv_bipush (v := 60) hx hb dX6_remembers_119 (by decide) ?_
                    refine lv_iload_n hx hb dX6_remembers_121 rfl (lv_at hl 1 rfl) ?_
                    refine lv_imul hx hb dX6_remembers_122 ?_
                    refine lv_iload hx hb dX6_remembers_123 (lv_at hl 4 rfl) ?_
                    refine lv_iadd hx hb dX6_remembers_125 ?_
                    refine Ml_7 C h (ix_of (i_add (i_mul zl60 (rfl : p1.toInt = p1.toInt) (by omega)) (rfl : x5_104.toInt = x5_104.toInt) (by omega)) (by omega)) dX6_remembers_126 ?_
                    refine lv_aload_n hx hb dX6_remembers_127 rfl (lv_at hl 0 rfl) ?_
                    refine lv_iload hx hb dX6_remembers_128 (lv_at hl 4 rfl) ?_
                    refine M_calli (As := [.int x5_104]) (rest := [.long (gb σ 7 (((60 : Int32) * p1) + x5_104))]) 1 C h (k_X6_balanceOf l g σ x5_104 (by first | assumption | omega) (by first | assumption | omega)) (lw_V q1986 q1988 qs112 q152 q1989) rfl rfl (by decide +kernel) ⟨Nat.le_of_ble_eq_true rfl, Nat.le_of_ble_eq_true rfl⟩ rfl hl.1 rfl (Nat.le_of_ble_eq_true rfl) ⟨Nat.le_of_ble_eq_true rfl, Nat.le_of_ble_eq_true rfl⟩ dX6_remembers_130 (fun r130 σ130 H locs eσ130 er130 hE130 h => ?_)
                    rw [eσ130] at h
                    clear hE130
                    clear eσ130
                    refine lv_i2l (v := r130.toInt64) hx hb dX6_remembers_133 rfl ?_
                    refine lv_lsub hx hb dX6_remembers_134 ?_
                    refine va_mabs_long hx hb (hml.trans hl.1.symm) hown (hts _ q2206) (hts _ q1195) (hts _ q164) (hts _ q1196) (Nat.le_of_ble_eq_true rfl) (Nat.le_of_ble_eq_true rfl) (Nat.le_of_ble_eq_true rfl) (Nat.le_of_ble_eq_true rfl) dX6_remembers_135 ?_
                    refine lv_topl (fun v138 ev138 => ?_)
                    refine lv_lstore (lv' := [(6, .long v138), (0, .ref (g.2.1 99)), (1, .int p1), (2, .int x2_104), (3, .long x3_104), (5, .int x5_104)]) hx hb dX6_remembers_138 hl (by decide) rfl (fun ls hl => ?_)
                    refine lv_lload hx hb dX6_remembers_140 (lv_at hl 0 rfl) ?_
                    refine lv_lload_n hx hb dX6_remembers_142 rfl (lv_at hl 4 rfl) ?_
                    refine W.lcmp hx hb dX6_remembers_143 ?_
                    refine lv_if_gt (tgt := 150) hx hb dX6_remembers_144 (by decide) (fun c144 => ?_) (fun c144 => ?_)
                    · have i144 := c_lt c144
                      refine lv_lload hx hb dX6_remembers_150 (lv_at hl 0 rfl) ?_
                      refine lv_lstore_n (lv' := [(3, .long v138), (6, .long v138), (0, .ref (g.2.1 99)), (1, .int p1), (2, .int x2_104), (5, .int x5_104)]) hx hb dX6_remembers_152 rfl hl (by decide) rfl (fun ls hl => ?_)
                      refine lv_iload hx hb dX6_remembers_153 (lv_at hl 5 rfl) ?_
                      refine lv_istore_n (lv' := [(2, .int x5_104), (3, .long v138), (6, .long v138), (0, .ref (g.2.1 99)), (1, .int p1), (5, .int x5_104)]) hx hb dX6_remembers_155 rfl hl (by decide) rfl (fun ls hl => ?_)
                      refine lv_iinc (v := (x5_104 + (1 : Int32))) (lv' := [(5, .int (x5_104 + (1 : Int32))), (2, .int x5_104), (3, .long v138), (6, .long v138), (0, .ref (g.2.1 99)), (1, .int p1)]) hx hb dX6_remembers_156 hl (k := 5) rfl rfl (by decide) rfl (fun ls hl => ?_)
                      refine lv_goto (tgt := 104) hx hb dX6_remembers_159 (by decide) ?_
                      have tt5 : (x5_104 + (1 : Int32)).toInt = (x5_104.toInt + (1)) := (i_add (rfl : x5_104.toInt = x5_104.toInt) zl1 (by omega))
                      exact ih x5_104 v138 (x5_104 + (1 : Int32)) _ _ _  (by first | assumption | omega) (by omega) h (lv_sub hl [4, 5, 1, 2, 0] rfl) (fun x2_104' x3_104' x5_104' H locs ls en hI h hl => kk x2_104' x3_104' x5_104' H locs ls ((show f_X6_remembers_L104 σ p1 (n + 1) x2_104 x3_104 x5_104 = f_X6_remembers_L104 σ p1 n x5_104 v138 (x5_104 + (1 : Int32)) from (by subst er130; subst ev138; exact ((if_neg c112).trans ((if_pos c144).trans rfl)))).trans en) hI h hl)
                    · have i144 := c_nlt c144
                      refine lv_goto (tgt := 156) hx hb dX6_remembers_147 (by decide) ?_
                      refine lv_iinc (v := (x5_104 + (1 : Int32))) (lv' := [(5, .int (x5_104 + (1 : Int32))), (6, .long v138), (0, .ref (g.2.1 99)), (1, .int p1), (2, .int x2_104), (3, .long x3_104)]) hx hb dX6_remembers_156 hl (k := 5) rfl rfl (by decide) rfl (fun ls hl => ?_)
                      refine lv_goto (tgt := 104) hx hb dX6_remembers_159 (by decide) ?_
                      have tt5 : (x5_104 + (1 : Int32)).toInt = (x5_104.toInt + (1)) := (i_add (rfl : x5_104.toInt = x5_104.toInt) zl1 (by omega))
                      exact ih x2_104 x3_104 (x5_104 + (1 : Int32)) _ _ _  (by first | assumption | omega) (by omega) h (lv_sub hl [2, 3, 4, 5, 0] rfl) (fun x2_104' x3_104' x5_104' H locs ls en hI h hl => kk x2_104' x3_104' x5_104' H locs ls ((show f_X6_remembers_L104 σ p1 (n + 1) x2_104 x3_104 x5_104 = f_X6_remembers_L104 σ p1 n x2_104 x3_104 (x5_104 + (1 : Int32)) from (by subst er130; subst ev138; exact ((if_neg c112).trans ((if_neg c144).trans rfl)))).trans en) hI h hl)
              refine hL104 (7) (-1 : Int32) (0 : Int64) (0 : Int32) _ _ _  (by first | assumption | omega) (by omega) h (lv_sub hl [3, 4, 2, 1, 0] rfl) (fun x2_104e x3_104e x5_104e H locs ls eL104 hI104 h hl => ?_)
              have ex2_104e : x2_104e = (f_X6_remembers_L104 σ p1 (7) (-1 : Int32) (0 : Int64) (0 : Int32)).1 := by rw [eL104]
              have ex3_104e : x3_104e = (f_X6_remembers_L104 σ p1 (7) (-1 : Int32) (0 : Int64) (0 : Int32)).2.1 := by rw [eL104]
              have ex5_104e : x5_104e = (f_X6_remembers_L104 σ p1 (7) (-1 : Int32) (0 : Int64) (0 : Int32)).2.2 := by rw [eL104]
              refine lv_aload_n hx hb dX6_remembers_162 rfl (lv_at hl 0 rfl) ?_
              refine lv_iload_n hx hb dX6_remembers_163 rfl (lv_at hl 1 rfl) ?_
              refine M_calli (As := [.int x2_104e]) (rest := []) 1 C h (k_X6_orNone l g σ x2_104e) (lw_V q1868 q1870 qs102 q152 q1871) rfl rfl (by decide +kernel) ⟨Nat.le_of_ble_eq_true rfl, Nat.le_of_ble_eq_true rfl⟩ rfl hl.1 rfl (Nat.le_of_ble_eq_true rfl) ⟨Nat.le_of_ble_eq_true rfl, Nat.le_of_ble_eq_true rfl⟩ dX6_remembers_164 (fun r164 σ164 H locs eσ164 er164 hE164 h => ?_)
              clear hE164
              have hNEW : (0 ≤ (ga σ164 0 (0 : Int32)).toInt ∧ (ga σ164 0 (0 : Int32)).toInt ≤ 6) ∧ (∀ t : Int32, (0 ≤ t.toInt ∧ t.toInt ≤ 3) → -1 ≤ (ga σ164 6 t).toInt ∧ (ga σ164 6 t).toInt ≤ 60) ∧ ((ga σ164 0 (0 : Int32)).toInt = (ga σ 0 (0 : Int32)).toInt) := ⟨(by rw [eσ164, orNone_s] <;> exact hp), (by rw [eσ164, orNone_s] <;> exact hT), (by rw [eσ164, orNone_s] <;> exact hpq)⟩
              obtain ⟨hp, hT, hpq⟩ := hNEW
              have he : f_X6_remembers σ p1 = (σ164, r164) := (by subst ex2_104e; subst ex3_104e; subst ex5_104e; subst eσ164; subst er164; exact (hf52.trans ((if_pos c59).trans rfl)))
              exact M_reti C h hr hlocks (congrArg Prod.fst he) (congrArg Prod.snd he) hpq dX6_remembers_167
            · have i59 := c_nle c59
              refine lv_aload_n hx hb dX6_remembers_62 rfl (lv_at hl 0 rfl) ?_
              refine Mg_7 C h dX6_remembers_63 ?_
              refine lv_bipush (v := 60) hx hb dX6_remembers_66 (by decide) ?_
              refine lv_iload_n hx hb dX6_remembers_68 rfl (lv_at hl 1 rfl) ?_
              refine lv_imul hx hb dX6_remembers_69 ?_
              refine lv_iload_n hx hb dX6_remembers_70 rfl (lv_at hl 2 rfl) ?_
              refine lv_iadd hx hb dX6_remembers_71 ?_
              refine Ml_7 C h (ix_of (i_add (i_mul zl60 (rfl : p1.toInt = p1.toInt) (by omega)) (rfl : x2_52.toInt = x2_52.toInt) (by omega)) (by omega)) dX6_remembers_72 ?_
              refine lv_ldc2 hx hb hown (hts _ q2204) dX6_remembers_73 ?_
              refine lv_ldc2 hx hb hown (hts _ q2205) dX6_remembers_76 ?_
              refine s_callz (As := [.long (gb σ 7 (((60 : Int32) * p1) + x2_52)), .long (-9999999 : Int64), .long (9999999 : Int64)]) (rest := []) 3 C.1 (k_X6_isFrom l (gb σ 7 (((60 : Int32) * p1) + x2_52)) (-9999999 : Int64) (9999999 : Int64)) (lw_S q1936 q1937 q152 q1938) rfl rfl (by decide +kernel) ⟨Nat.le_of_ble_eq_true rfl, Nat.le_of_ble_eq_true rfl⟩ rfl hl.1 rfl (Nat.le_of_ble_eq_true rfl) ⟨Nat.le_of_ble_eq_true rfl, Nat.le_of_ble_eq_true rfl⟩ dX6_remembers_79 h.2.2 (fun r79 H locs er79 br79 hz1 hk1 hS1 => ?_)
              have h := h.same hk1 hS1
              clear hz1 hk1 hS1
              refine lv_if_ne (tgt := 91) hx hb dX6_remembers_82 (by decide) (fun c82 => ?_) (fun c82 => ?_)
              · have i82 := c_ne c82
                have okr79 := isFrom_ok er79 c82
                refine lv_iinc (v := (x2_52 + (1 : Int32))) (lv' := [(2, .int (x2_52 + (1 : Int32))), (0, .ref (g.2.1 99)), (1, .int p1)]) hx hb dX6_remembers_91 hl (k := 2) rfl rfl (by decide) rfl (fun ls hl => ?_)
                refine lv_goto (tgt := 52) hx hb dX6_remembers_94 (by decide) ?_
                have tt2 : (x2_52 + (1 : Int32)).toInt = (x2_52.toInt + (1)) := (i_add (rfl : x2_52.toInt = x2_52.toInt) zl1 (by omega))
                exact ih (x2_52 + (1 : Int32)) _ _ _  (by first | assumption | omega) (by omega) (by subst er79; exact (hf52.trans ((if_neg c59).trans ((if_neg c82).trans rfl)))) h (lv_sub hl [1, 2, 0] rfl)
              · have i82 := c_eq c82
                refine lv_aload_n hx hb dX6_remembers_85 rfl (lv_at hl 0 rfl) ?_
                refine lv_iconst (v := 5) hx hb dX6_remembers_86 (by decide) ?_
                refine M_calli (As := [.int (5 : Int32)]) (rest := []) 1 C h (k_X6_refuse l g σ (5 : Int32)) (lw_V q1723 q1725 qs71 q152 q1726) rfl rfl (by decide +kernel) ⟨Nat.le_of_ble_eq_true rfl, Nat.le_of_ble_eq_true rfl⟩ rfl hl.1 rfl (Nat.le_of_ble_eq_true rfl) ⟨Nat.le_of_ble_eq_true rfl, Nat.le_of_ble_eq_true rfl⟩ dX6_remembers_87 (fun r87 σ87 H locs eσ87 er87 hE87 h => ?_)
                clear hE87
                have hNEW : (0 ≤ (ga σ87 0 (0 : Int32)).toInt ∧ (ga σ87 0 (0 : Int32)).toInt ≤ 6) ∧ (∀ t : Int32, (0 ≤ t.toInt ∧ t.toInt ≤ 3) → -1 ≤ (ga σ87 6 t).toInt ∧ (ga σ87 6 t).toInt ≤ 60) ∧ ((ga σ87 0 (0 : Int32)).toInt = (ga σ 0 (0 : Int32)).toInt) := ⟨(by rw [eσ87, refuse_s] <;> exact hp), (by rw [eσ87, refuse_s] <;> exact hT), (by rw [eσ87, refuse_s] <;> exact hpq)⟩
                obtain ⟨hp, hT, hpq⟩ := hNEW
                have he : f_X6_remembers σ p1 = (σ87, r87) := (by subst er79; subst eσ87; subst er87; exact (hf52.trans ((if_neg c59).trans ((if_pos c82).trans rfl))))
                exact M_reti C h hr hlocks (congrArg Prod.fst he) (congrArg Prod.snd he) hpq dX6_remembers_90
        exact hL52 (7) (0 : Int32) _ _ _  (by first | assumption | omega) (by omega) (by subst er1; exact ((if_neg c4).trans ((if_neg c20).trans ((if_pos c41).trans rfl)))) h (lv_sub hl [1, 2, 0] rfl)
      · have i41 := c_nle c41
        refine lv_aload_n hx hb dX6_remembers_44 rfl (lv_at hl 0 rfl) ?_
        refine lv_iconst (v := 3) hx hb dX6_remembers_45 (by decide) ?_
        refine M_calli (As := [.int (3 : Int32)]) (rest := []) 1 C h (k_X6_refuse l g σ (3 : Int32)) (lw_V q1723 q1725 qs71 q152 q1726) rfl rfl (by decide +kernel) ⟨Nat.le_of_ble_eq_true rfl, Nat.le_of_ble_eq_true rfl⟩ rfl hl.1 rfl (Nat.le_of_ble_eq_true rfl) ⟨Nat.le_of_ble_eq_true rfl, Nat.le_of_ble_eq_true rfl⟩ dX6_remembers_46 (fun r46 σ46 H locs eσ46 er46 hE46 h => ?_)
        clear hE46
        have hNEW : (0 ≤ (ga σ46 0 (0 : Int32)).toInt ∧ (ga σ46 0 (0 : Int32)).toInt ≤ 6) ∧ (∀ t : Int32, (0 ≤ t.toInt ∧ t.toInt ≤ 3) → -1 ≤ (ga σ46 6 t).toInt ∧ (ga σ46 6 t).toInt ≤ 60) ∧ ((ga σ46 0 (0 : Int32)).toInt = (ga σ 0 (0 : Int32)).toInt) := ⟨(by rw [eσ46, refuse_s] <;> exact hp), (by rw [eσ46, refuse_s] <;> exact hT), (by rw [eσ46, refuse_s] <;> exact hpq)⟩
        obtain ⟨hp, hT, hpq⟩ := hNEW
        have he : f_X6_remembers σ p1 = (σ46, r46) := (by subst er1; subst eσ46; subst er46; exact ((if_neg c4).trans ((if_neg c20).trans ((if_neg c41).trans rfl))))
        exact M_reti C h hr hlocks (congrArg Prod.fst he) (congrArg Prod.snd he) hpq dX6_remembers_49
    · have i20 := c_eq c20
      refine lv_aload_n hx hb dX6_remembers_23 rfl (lv_at hl 0 rfl) ?_
      refine lv_iconst (v := 2) hx hb dX6_remembers_24 (by decide) ?_
      refine M_calli (As := [.int (2 : Int32)]) (rest := []) 1 C h (k_X6_refuse l g σ (2 : Int32)) (lw_V q1723 q1725 qs71 q152 q1726) rfl rfl (by decide +kernel) ⟨Nat.le_of_ble_eq_true rfl, Nat.le_of_ble_eq_true rfl⟩ rfl hl.1 rfl (Nat.le_of_ble_eq_true rfl) ⟨Nat.le_of_ble_eq_true rfl, Nat.le_of_ble_eq_true rfl⟩ dX6_remembers_25 (fun r25 σ25 H locs eσ25 er25 hE25 h => ?_)
      clear hE25
      have hNEW : (0 ≤ (ga σ25 0 (0 : Int32)).toInt ∧ (ga σ25 0 (0 : Int32)).toInt ≤ 6) ∧ (∀ t : Int32, (0 ≤ t.toInt ∧ t.toInt ≤ 3) → -1 ≤ (ga σ25 6 t).toInt ∧ (ga σ25 6 t).toInt ≤ 60) ∧ ((ga σ25 0 (0 : Int32)).toInt = (ga σ 0 (0 : Int32)).toInt) := ⟨(by rw [eσ25, refuse_s] <;> exact hp), (by rw [eσ25, refuse_s] <;> exact hT), (by rw [eσ25, refuse_s] <;> exact hpq)⟩
      obtain ⟨hp, hT, hpq⟩ := hNEW
      have he : f_X6_remembers σ p1 = (σ25, r25) := (by subst er1; subst eσ25; subst er25; exact ((if_neg c4).trans ((if_pos c20).trans rfl)))
      exact M_reti C h hr hlocks (congrArg Prod.fst he) (congrArg Prod.snd he) hpq dX6_remembers_28
  · have i4 := c_eq c4
    refine lv_aload_n hx hb dX6_remembers_7 rfl (lv_at hl 0 rfl) ?_
    refine lv_iconst (v := 1) hx hb dX6_remembers_8 (by decide) ?_
    refine M_calli (As := [.int (1 : Int32)]) (rest := []) 1 C h (k_X6_refuse l g σ (1 : Int32)) (lw_V q1723 q1725 qs71 q152 q1726) rfl rfl (by decide +kernel) ⟨Nat.le_of_ble_eq_true rfl, Nat.le_of_ble_eq_true rfl⟩ rfl hl.1 rfl (Nat.le_of_ble_eq_true rfl) ⟨Nat.le_of_ble_eq_true rfl, Nat.le_of_ble_eq_true rfl⟩ dX6_remembers_9 (fun r9 σ9 H locs eσ9 er9 hE9 h => ?_)
    clear hE9
    have hNEW : (0 ≤ (ga σ9 0 (0 : Int32)).toInt ∧ (ga σ9 0 (0 : Int32)).toInt ≤ 6) ∧ (∀ t : Int32, (0 ≤ t.toInt ∧ t.toInt ≤ 3) → -1 ≤ (ga σ9 6 t).toInt ∧ (ga σ9 6 t).toInt ≤ 60) ∧ ((ga σ9 0 (0 : Int32)).toInt = (ga σ 0 (0 : Int32)).toInt) := ⟨(by rw [eσ9, refuse_s] <;> exact hp), (by rw [eσ9, refuse_s] <;> exact hT), (by rw [eσ9, refuse_s] <;> exact hpq)⟩
    obtain ⟨hp, hT, hpq⟩ := hNEW
    have he : f_X6_remembers σ p1 = (σ9, r9) := (by subst er1; subst eσ9; subst er9; exact ((if_pos c4).trans rfl))
    exact M_reti C h hr hlocks (congrArg Prod.fst he) (congrArg Prod.snd he) hpq dX6_remembers_12
def f_X6_copies_L2 (y1_2 : Int32) (y2_2 : Int32) : Nat → Int32 → MS → Int32 × MS
  | 0, x3_2, σL2 => (x3_2, σL2)
  | n + 1, x3_2, σL2 => if (500 : Int32) ≤ x3_2 then ((x3_2, σL2)) else ((let σ32 := sa σL2 0 (((500 : Int32) * y2_2) + x3_2) (ga σL2 0 (((500 : Int32) * y1_2) + x3_2)); f_X6_copies_L2 y1_2 y2_2 n (x3_2 + (1 : Int32)) σ32))
def f_X6_copies_L41 (y1_41 : Int32) (y2_41 : Int32) : Nat → Int32 → MS → Int32 × MS
  | 0, x3_41, σL41 => (x3_41, σL41)
  | n + 1, x3_41, σL41 => if (6 : Int32) ≤ x3_41 then ((x3_41, σL41)) else ((let σ68 := sb σL41 1 (((6 : Int32) * y2_41) + x3_41) (gb σL41 1 (((6 : Int32) * y1_41) + x3_41)); f_X6_copies_L41 y1_41 y2_41 n (x3_41 + (1 : Int32)) σ68))
def f_X6_copies (σ : MS) (p1 : Int32) (p2 : Int32) : MS := (let zL2 := f_X6_copies_L2 p1 p2 (501) (0 : Int32) σ; let x3_2e := zL2.1; let σL2e := zL2.2; (let zL41 := f_X6_copies_L41 p1 p2 (7) (0 : Int32) σL2e; let x3_41e := zL41.1; let σL41e := zL41.2; σL41e))
set_option maxHeartbeats 4000000 in
set_option maxRecDepth 100000 in
theorem k_X6_copies (l : Launch) (g : GE) (σ : MS) (p1 : Int32) (p2 : Int32) (h1c : 0 ≤ p1.toInt ∧ p1.toInt ≤ 3) (h2c : 0 ≤ p2.toInt ∧ p2.toInt ≤ 3) : Met l yX6_copies (ws_ yX6_copies cX6_copies 4 none) ({ frames := 0, cells := 0, slots := 0, locals := 0 } : Room) (mPc g σ [.int p1, .int p2]) (mQv g (f_X6_copies σ p1 p2) (fun u => True)) 0 0 (mA g) := by
  refine met_M (by decide) rfl (Nat.le_of_ble_eq_true rfl) ?_
  intro p e s m args below meth c C hr hlocks h ls hl
  have hx := C.1.1
  have hb := C.1.2.1
  have hml := C.1.2.2.1
  have hown := C.1.2.2.2.1
  have hts := C.1.2.2.2.2
  have hl : lv_has ls 4 [(0, .ref (g.2.1 99)), (1, .int p1), (2, .int p2)] := hl
  have zl0 : (0 : Int32).toInt = 0 := rfl
  have zl1 : (1 : Int32).toInt = 1 := rfl
  have zl6 : (6 : Int32).toInt = 6 := rfl
  have zl500 : (500 : Int32).toInt = 500 := rfl
  refine lv_iconst (v := 0) hx hb dX6_copies_0 (by decide) ?_
  refine lv_istore_n (lv' := [(3, .int (0 : Int32)), (0, .ref (g.2.1 99)), (1, .int p1), (2, .int p2)]) hx hb dX6_copies_1 rfl hl (by decide) rfl (fun ls hl => ?_)
  have hL2 : ∀ (n : Nat) (x3_2 : Int32) (σL2 : MS) (H : Heap) (locs : List Loc) (ls : Array Slot), (0 ≤ x3_2.toInt ∧ x3_2.toInt ≤ 500) → (500 - x3_2.toInt).toNat < n → MH g σL2 s H locs → lv_has ls 4 [(0, .ref (g.2.1 99)), (1, .int p1), (2, .int p2), (3, .int x3_2)] → (∀ (x3_2' : Int32) (σL2' : MS) (H : Heap) (locs : List Loc) (ls : Array Slot), f_X6_copies_L2 p1 p2 n x3_2 σL2 = (x3_2', σL2') → (0 ≤ x3_2'.toInt ∧ x3_2'.toInt ≤ 500) → MH g σL2' s H locs → lv_has ls 4 [(0, .ref (g.2.1 99)), (1, .int p1), (2, .int p2)] → W p l e ({ frames := 0, cells := 0, slots := 0, locals := 0 } : Room) s m args below meth c H locs 0 0 (MQ below (mQv g (f_X6_copies σ p1 p2) (fun u => True)) args s 0 0 (mA g)) (F0 m 39 ls [])) → W p l e ({ frames := 0, cells := 0, slots := 0, locals := 0 } : Room) s m args below meth c H locs 0 0 (MQ below (mQv g (f_X6_copies σ p1 p2) (fun u => True)) args s 0 0 (mA g)) (F0 m 2 ls []) := by
    intro n
    induction n with
    | zero =>
      intro x3_2 σL2 H locs ls _ hm; exact absurd hm (Nat.not_lt_zero _)
    | succ n ih =>
      intro x3_2 σL2 H locs ls hI2 hm h hl kk
      refine lv_iload_n hx hb dX6_copies_2 rfl (lv_at hl 3 rfl) ?_
      refine lv_sipush (v := 500) hx hb dX6_copies_3 (by decide) ?_
      refine lv_icmp_ge (tgt := 39) hx hb dX6_copies_6 (by decide) (fun c6 => ?_) (fun c6 => ?_)
      · have i6 := c_le c6
        exact kk x3_2 σL2 _ _ _ (show f_X6_copies_L2 p1 p2 (n + 1) x3_2 σL2 = (x3_2, σL2) from (by exact ((if_pos c6).trans rfl)))  (by first | assumption | omega) h (lv_sub hl [0, 1, 2] rfl)
      · have i6 := c_nle c6
        refine lv_aload_n hx hb dX6_copies_9 rfl (lv_at hl 0 rfl) ?_
        refine Mg_0 C h dX6_copies_10 ?_
        refine lv_sipush (v := 500) hx hb dX6_copies_13 (by decide) ?_
        refine lv_iload_n hx hb dX6_copies_16 rfl (lv_at hl 2 rfl) ?_
        refine lv_imul hx hb dX6_copies_17 ?_
        refine lv_iload_n hx hb dX6_copies_18 rfl (lv_at hl 3 rfl) ?_
        refine lv_iadd hx hb dX6_copies_19 ?_
        refine lv_aload_n hx hb dX6_copies_20 rfl (lv_at hl 0 rfl) ?_
        refine Mg_0 C h dX6_copies_21 ?_
        refine lv_sipush (v := 500) hx hb dX6_copies_24 (by decide) ?_
        refine lv_iload_n hx hb dX6_copies_27 rfl (lv_at hl 1 rfl) ?_
        refine lv_imul hx hb dX6_copies_28 ?_
        refine lv_iload_n hx hb dX6_copies_29 rfl (lv_at hl 3 rfl) ?_
        refine lv_iadd hx hb dX6_copies_30 ?_
        refine Ml_0 C h (ix_of (i_add (i_mul zl500 (rfl : p1.toInt = p1.toInt) (by omega)) (rfl : x3_2.toInt = x3_2.toInt) (by omega)) (by omega)) dX6_copies_31 ?_
        refine Ms_0 C h (ix_of (i_add (i_mul zl500 (rfl : p2.toInt = p2.toInt) (by omega)) (rfl : x3_2.toInt = x3_2.toInt) (by omega)) (by omega)) dX6_copies_32 (fun σ32 H locs eσ32 h => ?_)
        refine lv_iinc (v := (x3_2 + (1 : Int32))) (lv' := [(3, .int (x3_2 + (1 : Int32))), (0, .ref (g.2.1 99)), (1, .int p1), (2, .int p2)]) hx hb dX6_copies_33 hl (k := 3) rfl rfl (by decide) rfl (fun ls hl => ?_)
        refine lv_goto (tgt := 2) hx hb dX6_copies_36 (by decide) ?_
        have tt3 : (x3_2 + (1 : Int32)).toInt = (x3_2.toInt + (1)) := (i_add (rfl : x3_2.toInt = x3_2.toInt) zl1 (by omega))
        exact ih (x3_2 + (1 : Int32)) σ32 _ _ _  (by first | assumption | omega) (by omega) h (lv_sub hl [1, 2, 3, 0] rfl) (fun x3_2' σL2' H locs ls en hI h hl => kk x3_2' σL2' H locs ls ((show f_X6_copies_L2 p1 p2 (n + 1) x3_2 σL2 = f_X6_copies_L2 p1 p2 n (x3_2 + (1 : Int32)) σ32 from (by subst eσ32; exact ((if_neg c6).trans rfl))).trans en) hI h hl)
  refine hL2 (501) (0 : Int32) σ _ _ _  (by first | assumption | omega) (by omega) h (lv_sub hl [1, 2, 3, 0] rfl) (fun x3_2e σL2e H locs ls eL2 hI2 h hl => ?_)
  have ex3_2e : x3_2e = (f_X6_copies_L2 p1 p2 (501) (0 : Int32) σ).1 := by rw [eL2]
  have eσL2e : σL2e = (f_X6_copies_L2 p1 p2 (501) (0 : Int32) σ).2 := by rw [eL2]
  refine lv_iconst (v := 0) hx hb dX6_copies_39 (by decide) ?_
  refine lv_istore_n (lv' := [(3, .int (0 : Int32)), (0, .ref (g.2.1 99)), (1, .int p1), (2, .int p2)]) hx hb dX6_copies_40 rfl hl (by decide) rfl (fun ls hl => ?_)
  have hL41 : ∀ (n : Nat) (x3_41 : Int32) (σL41 : MS) (H : Heap) (locs : List Loc) (ls : Array Slot), (0 ≤ x3_41.toInt ∧ x3_41.toInt ≤ 6) → (6 - x3_41.toInt).toNat < n → MH g σL41 s H locs → lv_has ls 4 [(0, .ref (g.2.1 99)), (1, .int p1), (2, .int p2), (3, .int x3_41)] → (∀ (x3_41' : Int32) (σL41' : MS) (H : Heap) (locs : List Loc) (ls : Array Slot), f_X6_copies_L41 p1 p2 n x3_41 σL41 = (x3_41', σL41') → (0 ≤ x3_41'.toInt ∧ x3_41'.toInt ≤ 6) → MH g σL41' s H locs → lv_has ls 4 [] → W p l e ({ frames := 0, cells := 0, slots := 0, locals := 0 } : Room) s m args below meth c H locs 0 0 (MQ below (mQv g (f_X6_copies σ p1 p2) (fun u => True)) args s 0 0 (mA g)) (F0 m 75 ls [])) → W p l e ({ frames := 0, cells := 0, slots := 0, locals := 0 } : Room) s m args below meth c H locs 0 0 (MQ below (mQv g (f_X6_copies σ p1 p2) (fun u => True)) args s 0 0 (mA g)) (F0 m 41 ls []) := by
    intro n
    induction n with
    | zero =>
      intro x3_41 σL41 H locs ls _ hm; exact absurd hm (Nat.not_lt_zero _)
    | succ n ih =>
      intro x3_41 σL41 H locs ls hI41 hm h hl kk
      refine lv_iload_n hx hb dX6_copies_41 rfl (lv_at hl 3 rfl) ?_
      refine lv_bipush (v := 6) hx hb dX6_copies_42 (by decide) ?_
      refine lv_icmp_ge (tgt := 75) hx hb dX6_copies_44 (by decide) (fun c44 => ?_) (fun c44 => ?_)
      · have i44 := c_le c44
        exact kk x3_41 σL41 _ _ _ (show f_X6_copies_L41 p1 p2 (n + 1) x3_41 σL41 = (x3_41, σL41) from (by exact ((if_pos c44).trans rfl)))  (by first | assumption | omega) h (lv_sub hl [] rfl)
      · have i44 := c_nle c44
        refine lv_aload_n hx hb dX6_copies_47 rfl (lv_at hl 0 rfl) ?_
        refine Mg_1 C h dX6_copies_48 ?_
        refine lv_bipush (v := 6) hx hb dX6_copies_51 (by decide) ?_
        refine lv_iload_n hx hb dX6_copies_53 rfl (lv_at hl 2 rfl) ?_
        refine lv_imul hx hb dX6_copies_54 ?_
        refine lv_iload_n hx hb dX6_copies_55 rfl (lv_at hl 3 rfl) ?_
        refine lv_iadd hx hb dX6_copies_56 ?_
        refine lv_aload_n hx hb dX6_copies_57 rfl (lv_at hl 0 rfl) ?_
        refine Mg_1 C h dX6_copies_58 ?_
        refine lv_bipush (v := 6) hx hb dX6_copies_61 (by decide) ?_
        refine lv_iload_n hx hb dX6_copies_63 rfl (lv_at hl 1 rfl) ?_
        refine lv_imul hx hb dX6_copies_64 ?_
        refine lv_iload_n hx hb dX6_copies_65 rfl (lv_at hl 3 rfl) ?_
        refine lv_iadd hx hb dX6_copies_66 ?_
        refine Ml_1 C h (ix_of (i_add (i_mul zl6 (rfl : p1.toInt = p1.toInt) (by omega)) (rfl : x3_41.toInt = x3_41.toInt) (by omega)) (by omega)) dX6_copies_67 ?_
        refine Ms_1 C h (ix_of (i_add (i_mul zl6 (rfl : p2.toInt = p2.toInt) (by omega)) (rfl : x3_41.toInt = x3_41.toInt) (by omega)) (by omega)) dX6_copies_68 (fun σ68 H locs eσ68 h => ?_)
        refine lv_iinc (v := (x3_41 + (1 : Int32))) (lv' := [(3, .int (x3_41 + (1 : Int32))), (0, .ref (g.2.1 99)), (1, .int p1), (2, .int p2)]) hx hb dX6_copies_69 hl (k := 3) rfl rfl (by decide) rfl (fun ls hl => ?_)
        refine lv_goto (tgt := 41) hx hb dX6_copies_72 (by decide) ?_
        have tt3 : (x3_41 + (1 : Int32)).toInt = (x3_41.toInt + (1)) := (i_add (rfl : x3_41.toInt = x3_41.toInt) zl1 (by omega))
        exact ih (x3_41 + (1 : Int32)) σ68 _ _ _  (by first | assumption | omega) (by omega) h (lv_sub hl [1, 2, 3, 0] rfl) (fun x3_41' σL41' H locs ls en hI h hl => kk x3_41' σL41' H locs ls ((show f_X6_copies_L41 p1 p2 (n + 1) x3_41 σL41 = f_X6_copies_L41 p1 p2 n (x3_41 + (1 : Int32)) σ68 from (by subst eσ68; exact ((if_neg c44).trans rfl))).trans en) hI h hl)
  refine hL41 (7) (0 : Int32) σL2e _ _ _  (by first | assumption | omega) (by omega) h (lv_sub hl [1, 2, 3, 0] rfl) (fun x3_41e σL41e H locs ls eL41 hI41 h hl => ?_)
  have ex3_41e : x3_41e = (f_X6_copies_L41 p1 p2 (7) (0 : Int32) σL2e).1 := by rw [eL41]
  have eσL41e : σL41e = (f_X6_copies_L41 p1 p2 (7) (0 : Int32) σL2e).2 := by rw [eL41]
  have he : f_X6_copies σ p1 p2 = σL41e := (by subst ex3_2e; subst eσL2e; subst ex3_41e; subst eσL41e; exact rfl)
  exact M_retv C h hr hlocks he trivial dX6_copies_75
def f_X6_mark (σ : MS) : MS × Int32 := if (gi σ 34) = (3 : Int32) then ((let z10 := (f_X6_refuse σ (4 : Int32)); let σ10 := z10.1; let r10 := z10.2; (σ10, r10))) else ((let σ21 := si σ 34 ((gi σ 34) + (1 : Int32)); let σ30 := (f_X6_copies σ21 (0 : Int32) (gi σ21 34)); let z38 := (f_X6_gives σ30 (gi σ30 34)); let σ38 := z38.1; let r38 := z38.2; (σ38, r38)))
set_option maxHeartbeats 4000000 in
set_option maxRecDepth 100000 in
theorem k_X6_mark (l : Launch) (g : GE) (σ : MS) (hmk : 0 ≤ (gi σ 34).toInt ∧ (gi σ 34).toInt ≤ 3) : Met l yX6_mark (ws_ yX6_mark cX6_mark 1 (some .int)) ({ frames := 1, cells := 0, slots := 0, locals := 23 } : Room) (mPc g σ []) (mQi g (f_X6_mark σ).1 (f_X6_mark σ).2 (fun u r => True)) 0 0 (mA g) := by
  refine met_M (by decide) rfl (Nat.le_of_ble_eq_true rfl) ?_
  intro p e s m args below meth c C hr hlocks h ls hl
  have hx := C.1.1
  have hb := C.1.2.1
  have hml := C.1.2.2.1
  have hown := C.1.2.2.2.1
  have hts := C.1.2.2.2.2
  have hl : lv_has ls 1 [(0, .ref (g.2.1 99))] := hl
  have zl0 : (0 : Int32).toInt = 0 := rfl
  have zl1 : (1 : Int32).toInt = 1 := rfl
  have zl3 : (3 : Int32).toInt = 3 := rfl
  have zl4 : (4 : Int32).toInt = 4 := rfl
  refine lv_aload_n hx hb dX6_mark_0 rfl (lv_at hl 0 rfl) ?_
  refine Mg_34 C h dX6_mark_1 ?_
  refine lv_iconst (v := 3) hx hb dX6_mark_4 (by decide) ?_
  refine lv_icmp_ne (tgt := 14) hx hb dX6_mark_5 (by decide) (fun c5 => ?_) (fun c5 => ?_)
  · have i5 := c_ne c5
    refine lv_aload_n hx hb dX6_mark_14 rfl (lv_at hl 0 rfl) ?_
    refine lv_dup hx hb dX6_mark_15 rfl ?_
    refine Mg_34 C h dX6_mark_16 ?_
    refine lv_iconst (v := 1) hx hb dX6_mark_19 (by decide) ?_
    refine lv_iadd hx hb dX6_mark_20 ?_
    refine Mp_34 C h dX6_mark_21 (fun σ21 H locs eσ21 h => ?_)
    refine lv_aload_n hx hb dX6_mark_24 rfl (lv_at hl 0 rfl) ?_
    refine lv_iconst (v := 0) hx hb dX6_mark_25 (by decide) ?_
    refine lv_aload_n hx hb dX6_mark_26 rfl (lv_at hl 0 rfl) ?_
    refine Mg_34 C h dX6_mark_27 ?_
    refine M_callv (As := [.int (0 : Int32), .int (gi σ21 34)]) (rest := []) 2 C h (k_X6_copies l g σ21 (0 : Int32) (gi σ21 34) (by omega) (by rw [eσ21]; show 0 ≤ (gi σ 34 + 1).toInt ∧ (gi σ 34 + 1).toInt ≤ 3; rw [i_add rfl zl1 (by omega)]; omega)) (lw_V q2257 q2259 qs142 q152 q2260) rfl rfl (by decide +kernel) ⟨Nat.le_of_ble_eq_true rfl, Nat.le_of_ble_eq_true rfl⟩ rfl hl.1 rfl (Nat.le_of_ble_eq_true rfl) ⟨Nat.le_of_ble_eq_true rfl, Nat.le_of_ble_eq_true rfl⟩ dX6_mark_30 (fun σ30 H locs eσ30 hE30 h => ?_)
    clear hE30
    refine lv_aload_n hx hb dX6_mark_33 rfl (lv_at hl 0 rfl) ?_
    refine lv_aload_n hx hb dX6_mark_34 rfl (lv_at hl 0 rfl) ?_
    refine Mg_34 C h dX6_mark_35 ?_
    refine M_calli (As := [.int (gi σ30 34)]) (rest := []) 1 C h (k_X6_gives l g σ30 (gi σ30 34)) (lw_V q1806 q1808 qs91 q152 q1809) rfl rfl (by decide +kernel) ⟨Nat.le_of_ble_eq_true rfl, Nat.le_of_ble_eq_true rfl⟩ rfl hl.1 rfl (Nat.le_of_ble_eq_true rfl) ⟨Nat.le_of_ble_eq_true rfl, Nat.le_of_ble_eq_true rfl⟩ dX6_mark_38 (fun r38 σ38 H locs eσ38 er38 hE38 h => ?_)
    clear hE38
    have he : f_X6_mark σ = (σ38, r38) := (by subst eσ21; subst eσ30; subst eσ38; subst er38; exact ((if_neg c5).trans rfl))
    exact M_reti C h hr hlocks (congrArg Prod.fst he) (congrArg Prod.snd he) trivial dX6_mark_41
  · have i5 := c_eq c5
    refine lv_aload_n hx hb dX6_mark_8 rfl (lv_at hl 0 rfl) ?_
    refine lv_iconst (v := 4) hx hb dX6_mark_9 (by decide) ?_
    refine M_calli (As := [.int (4 : Int32)]) (rest := []) 1 C h (k_X6_refuse l g σ (4 : Int32)) (lw_V q1723 q1725 qs71 q152 q1726) rfl rfl (by decide +kernel) ⟨Nat.le_of_ble_eq_true rfl, Nat.le_of_ble_eq_true rfl⟩ rfl hl.1 rfl (Nat.le_of_ble_eq_true rfl) ⟨Nat.le_of_ble_eq_true rfl, Nat.le_of_ble_eq_true rfl⟩ dX6_mark_10 (fun r10 σ10 H locs eσ10 er10 hE10 h => ?_)
    clear hE10
    have he : f_X6_mark σ = (σ10, r10) := (by subst eσ10; subst er10; exact ((if_pos c5).trans rfl))
    exact M_reti C h hr hlocks (congrArg Prod.fst he) (congrArg Prod.snd he) trivial dX6_mark_13
def f_X6_back (σ : MS) : MS × Int32 := if (gi σ 34) = (0 : Int32) then ((let z10 := (f_X6_refuse σ (6 : Int32)); let σ10 := z10.1; let r10 := z10.2; (σ10, r10))) else ((let σ20 := (f_X6_copies σ (gi σ 34) (0 : Int32)); let σ30 := si σ20 34 ((gi σ20 34) - (1 : Int32)); let z38 := (f_X6_gives σ30 (gi σ30 34)); let σ38 := z38.1; let r38 := z38.2; (σ38, r38)))
set_option maxHeartbeats 4000000 in
set_option maxRecDepth 100000 in
theorem k_X6_back (l : Launch) (g : GE) (σ : MS) (hmk : 0 ≤ (gi σ 34).toInt ∧ (gi σ 34).toInt ≤ 3) : Met l yX6_back (ws_ yX6_back cX6_back 1 (some .int)) ({ frames := 1, cells := 0, slots := 0, locals := 23 } : Room) (mPc g σ []) (mQi g (f_X6_back σ).1 (f_X6_back σ).2 (fun u r => True)) 0 0 (mA g) := by
  refine met_M (by decide) rfl (Nat.le_of_ble_eq_true rfl) ?_
  intro p e s m args below meth c C hr hlocks h ls hl
  have hx := C.1.1
  have hb := C.1.2.1
  have hml := C.1.2.2.1
  have hown := C.1.2.2.2.1
  have hts := C.1.2.2.2.2
  have hl : lv_has ls 1 [(0, .ref (g.2.1 99))] := hl
  have zl0 : (0 : Int32).toInt = 0 := rfl
  have zl1 : (1 : Int32).toInt = 1 := rfl
  have zl6 : (6 : Int32).toInt = 6 := rfl
  refine lv_aload_n hx hb dX6_back_0 rfl (lv_at hl 0 rfl) ?_
  refine Mg_34 C h dX6_back_1 ?_
  refine lv_if_ne (tgt := 14) hx hb dX6_back_4 (by decide) (fun c4 => ?_) (fun c4 => ?_)
  · have i4 := c_ne c4
    refine lv_aload_n hx hb dX6_back_14 rfl (lv_at hl 0 rfl) ?_
    refine lv_aload_n hx hb dX6_back_15 rfl (lv_at hl 0 rfl) ?_
    refine Mg_34 C h dX6_back_16 ?_
    refine lv_iconst (v := 0) hx hb dX6_back_19 (by decide) ?_
    refine M_callv (As := [.int (gi σ 34), .int (0 : Int32)]) (rest := []) 2 C h (k_X6_copies l g σ (gi σ 34) (0 : Int32) (by first | assumption | omega) (by first | assumption | omega)) (lw_V q2257 q2259 qs142 q152 q2260) rfl rfl (by decide +kernel) ⟨Nat.le_of_ble_eq_true rfl, Nat.le_of_ble_eq_true rfl⟩ rfl hl.1 rfl (Nat.le_of_ble_eq_true rfl) ⟨Nat.le_of_ble_eq_true rfl, Nat.le_of_ble_eq_true rfl⟩ dX6_back_20 (fun σ20 H locs eσ20 hE20 h => ?_)
    clear hE20
    refine lv_aload_n hx hb dX6_back_23 rfl (lv_at hl 0 rfl) ?_
    refine lv_dup hx hb dX6_back_24 rfl ?_
    refine Mg_34 C h dX6_back_25 ?_
    refine lv_iconst (v := 1) hx hb dX6_back_28 (by decide) ?_
    refine lv_isub hx hb dX6_back_29 ?_
    refine Mp_34 C h dX6_back_30 (fun σ30 H locs eσ30 h => ?_)
    refine lv_aload_n hx hb dX6_back_33 rfl (lv_at hl 0 rfl) ?_
    refine lv_aload_n hx hb dX6_back_34 rfl (lv_at hl 0 rfl) ?_
    refine Mg_34 C h dX6_back_35 ?_
    refine M_calli (As := [.int (gi σ30 34)]) (rest := []) 1 C h (k_X6_gives l g σ30 (gi σ30 34)) (lw_V q1806 q1808 qs91 q152 q1809) rfl rfl (by decide +kernel) ⟨Nat.le_of_ble_eq_true rfl, Nat.le_of_ble_eq_true rfl⟩ rfl hl.1 rfl (Nat.le_of_ble_eq_true rfl) ⟨Nat.le_of_ble_eq_true rfl, Nat.le_of_ble_eq_true rfl⟩ dX6_back_38 (fun r38 σ38 H locs eσ38 er38 hE38 h => ?_)
    clear hE38
    have he : f_X6_back σ = (σ38, r38) := (by subst eσ20; subst eσ30; subst eσ38; subst er38; exact ((if_neg c4).trans rfl))
    exact M_reti C h hr hlocks (congrArg Prod.fst he) (congrArg Prod.snd he) trivial dX6_back_41
  · have i4 := c_eq c4
    refine lv_aload_n hx hb dX6_back_7 rfl (lv_at hl 0 rfl) ?_
    refine lv_bipush (v := 6) hx hb dX6_back_8 (by decide) ?_
    refine M_calli (As := [.int (6 : Int32)]) (rest := []) 1 C h (k_X6_refuse l g σ (6 : Int32)) (lw_V q1723 q1725 qs71 q152 q1726) rfl rfl (by decide +kernel) ⟨Nat.le_of_ble_eq_true rfl, Nat.le_of_ble_eq_true rfl⟩ rfl hl.1 rfl (Nat.le_of_ble_eq_true rfl) ⟨Nat.le_of_ble_eq_true rfl, Nat.le_of_ble_eq_true rfl⟩ dX6_back_10 (fun r10 σ10 H locs eσ10 er10 hE10 h => ?_)
    clear hE10
    have he : f_X6_back σ = (σ10, r10) := (by subst eσ10; subst er10; exact ((if_pos c4).trans rfl))
    exact M_reti C h hr hlocks (congrArg Prod.fst he) (congrArg Prod.snd he) trivial dX6_back_13
def f_X6_lived (σ : MS) (p1 : Int32) : MS × Int32 := if p1 < (0 : Int32) then ((let z11 := (f_X6_refuse σ (1 : Int32)); let σ11 := z11.1; let r11 := z11.2; (σ11, r11))) else (if p1 ≤ (4 : Int32) then (if (gi σ 33) = (0 : Int32) then ((let z40 := (f_X6_refuse σ (6 : Int32)); let σ40 := z40.1; let r40 := z40.2; (σ40, r40))) else ((let z31 := (f_X6_gives σ (ga σ 32 p1)); let σ31 := z31.1; let r31 := z31.2; (σ31, r31)))) else ((let z11 := (f_X6_refuse σ (1 : Int32)); let σ11 := z11.1; let r11 := z11.2; (σ11, r11))))
set_option maxHeartbeats 4000000 in
set_option maxRecDepth 100000 in
theorem k_X6_lived (l : Launch) (g : GE) (σ : MS) (p1 : Int32) : Met l yX6_lived (ws_ yX6_lived cX6_lived 2 (some .int)) ({ frames := 1, cells := 0, slots := 0, locals := 21 } : Room) (mPc g σ [.int p1]) (mQi g (f_X6_lived σ p1).1 (f_X6_lived σ p1).2 (fun u r => True)) 0 0 (mA g) := by
  refine met_M (by decide) rfl (Nat.le_of_ble_eq_true rfl) ?_
  intro p e s m args below meth c C hr hlocks h ls hl
  have hx := C.1.1
  have hb := C.1.2.1
  have hml := C.1.2.2.1
  have hown := C.1.2.2.2.1
  have hts := C.1.2.2.2.2
  have hl : lv_has ls 2 [(0, .ref (g.2.1 99)), (1, .int p1)] := hl
  have zl0 : (0 : Int32).toInt = 0 := rfl
  have zl1 : (1 : Int32).toInt = 1 := rfl
  have zl4 : (4 : Int32).toInt = 4 := rfl
  have zl6 : (6 : Int32).toInt = 6 := rfl
  refine lv_iload_n hx hb dX6_lived_0 rfl (lv_at hl 1 rfl) ?_
  refine lv_if_lt (tgt := 9) hx hb dX6_lived_1 (by decide) (fun c1 => ?_) (fun c1 => ?_)
  · have i1 := c_lt c1
    refine lv_aload_n hx hb dX6_lived_9 rfl (lv_at hl 0 rfl) ?_
    refine lv_iconst (v := 1) hx hb dX6_lived_10 (by decide) ?_
    refine M_calli (As := [.int (1 : Int32)]) (rest := []) 1 C h (k_X6_refuse l g σ (1 : Int32)) (lw_V q1723 q1725 qs71 q152 q1726) rfl rfl (by decide +kernel) ⟨Nat.le_of_ble_eq_true rfl, Nat.le_of_ble_eq_true rfl⟩ rfl hl.1 rfl (Nat.le_of_ble_eq_true rfl) ⟨Nat.le_of_ble_eq_true rfl, Nat.le_of_ble_eq_true rfl⟩ dX6_lived_11 (fun r11 σ11 H locs eσ11 er11 hE11 h => ?_)
    clear hE11
    refine lv_goto (tgt := 43) hx hb dX6_lived_14 (by decide) ?_
    have he : f_X6_lived σ p1 = (σ11, r11) := (by subst eσ11; subst er11; exact ((if_pos c1).trans rfl))
    exact M_reti C h hr hlocks (congrArg Prod.fst he) (congrArg Prod.snd he) trivial dX6_lived_43
  · have i1 := c_nlt c1
    refine lv_iload_n hx hb dX6_lived_4 rfl (lv_at hl 1 rfl) ?_
    refine lv_iconst (v := 4) hx hb dX6_lived_5 (by decide) ?_
    refine lv_icmp_le (tgt := 17) hx hb dX6_lived_6 (by decide) (fun c6 => ?_) (fun c6 => ?_)
    · have i6 := c_le c6
      refine lv_aload_n hx hb dX6_lived_17 rfl (lv_at hl 0 rfl) ?_
      refine Mg_33 C h dX6_lived_18 ?_
      refine lv_if_eq (tgt := 37) hx hb dX6_lived_21 (by decide) (fun c21 => ?_) (fun c21 => ?_)
      · have i21 := c_eq c21
        refine lv_aload_n hx hb dX6_lived_37 rfl (lv_at hl 0 rfl) ?_
        refine lv_bipush (v := 6) hx hb dX6_lived_38 (by decide) ?_
        refine M_calli (As := [.int (6 : Int32)]) (rest := []) 1 C h (k_X6_refuse l g σ (6 : Int32)) (lw_V q1723 q1725 qs71 q152 q1726) rfl rfl (by decide +kernel) ⟨Nat.le_of_ble_eq_true rfl, Nat.le_of_ble_eq_true rfl⟩ rfl hl.1 rfl (Nat.le_of_ble_eq_true rfl) ⟨Nat.le_of_ble_eq_true rfl, Nat.le_of_ble_eq_true rfl⟩ dX6_lived_40 (fun r40 σ40 H locs eσ40 er40 hE40 h => ?_)
        clear hE40
        have he : f_X6_lived σ p1 = (σ40, r40) := (by subst eσ40; subst er40; exact ((if_neg c1).trans ((if_pos c6).trans ((if_pos c21).trans rfl))))
        exact M_reti C h hr hlocks (congrArg Prod.fst he) (congrArg Prod.snd he) trivial dX6_lived_43
      · have i21 := c_ne c21
        refine lv_aload_n hx hb dX6_lived_24 rfl (lv_at hl 0 rfl) ?_
        refine lv_aload_n hx hb dX6_lived_25 rfl (lv_at hl 0 rfl) ?_
        refine Mg_32 C h dX6_lived_26 ?_
        refine lv_iload_n hx hb dX6_lived_29 rfl (lv_at hl 1 rfl) ?_
        refine Ml_32 C h (ix_of (rfl : p1.toInt = p1.toInt) (by omega)) dX6_lived_30 ?_
        refine M_calli (As := [.int (ga σ 32 p1)]) (rest := []) 1 C h (k_X6_gives l g σ (ga σ 32 p1)) (lw_V q1806 q1808 qs91 q152 q1809) rfl rfl (by decide +kernel) ⟨Nat.le_of_ble_eq_true rfl, Nat.le_of_ble_eq_true rfl⟩ rfl hl.1 rfl (Nat.le_of_ble_eq_true rfl) ⟨Nat.le_of_ble_eq_true rfl, Nat.le_of_ble_eq_true rfl⟩ dX6_lived_31 (fun r31 σ31 H locs eσ31 er31 hE31 h => ?_)
        clear hE31
        refine lv_goto (tgt := 43) hx hb dX6_lived_34 (by decide) ?_
        have he : f_X6_lived σ p1 = (σ31, r31) := (by subst eσ31; subst er31; exact ((if_neg c1).trans ((if_pos c6).trans ((if_neg c21).trans rfl))))
        exact M_reti C h hr hlocks (congrArg Prod.fst he) (congrArg Prod.snd he) trivial dX6_lived_43
    · have i6 := c_nle c6
      refine lv_aload_n hx hb dX6_lived_9 rfl (lv_at hl 0 rfl) ?_
      refine lv_iconst (v := 1) hx hb dX6_lived_10 (by decide) ?_
      refine M_calli (As := [.int (1 : Int32)]) (rest := []) 1 C h (k_X6_refuse l g σ (1 : Int32)) (lw_V q1723 q1725 qs71 q152 q1726) rfl rfl (by decide +kernel) ⟨Nat.le_of_ble_eq_true rfl, Nat.le_of_ble_eq_true rfl⟩ rfl hl.1 rfl (Nat.le_of_ble_eq_true rfl) ⟨Nat.le_of_ble_eq_true rfl, Nat.le_of_ble_eq_true rfl⟩ dX6_lived_11 (fun r11 σ11 H locs eσ11 er11 hE11 h => ?_)
      clear hE11
      refine lv_goto (tgt := 43) hx hb dX6_lived_14 (by decide) ?_
      have he : f_X6_lived σ p1 = (σ11, r11) := (by subst eσ11; subst er11; exact ((if_neg c1).trans ((if_neg c6).trans rfl)))
      exact M_reti C h hr hlocks (congrArg Prod.fst he) (congrArg Prod.snd he) trivial dX6_lived_43
