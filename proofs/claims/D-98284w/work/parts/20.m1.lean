/-! walks of methods by contract, printed by gen/mkwalk.py -/
set_option maxRecDepth 100000
def f_X6_gives (σ : MS) (p1 : Int32) : MS × Int32 := (let σ2 := si σ 2 (0 : Int32); (σ2, p1))
set_option maxHeartbeats 4000000 in
set_option maxRecDepth 100000 in
theorem k_X6_gives (l : Launch) (g : GE) (σ : MS) (p1 : Int32) : Met l yX6_gives (ws_ yX6_gives cX6_gives 2 (some .int)) ({ frames := 0, cells := 0, slots := 0, locals := 0 } : Room) (mPc g σ [.int p1]) (mQi g (f_X6_gives σ p1).1 (f_X6_gives σ p1).2 (fun u r => True)) 0 0 (mA g) := by
  refine met_M (by decide) rfl (Nat.le_of_ble_eq_true rfl) ?_
  intro p e s m args below meth c C hr hlocks h ls hl
  have hx := C.1.1
  have hb := C.1.2.1
  have hml := C.1.2.2.1
  have hown := C.1.2.2.2.1
  have hts := C.1.2.2.2.2
  have hl : lv_has ls 2 [(0, .ref (g.2.1 99)), (1, .int p1)] := hl
  have zl0 : (0 : Int32).toInt = 0 := rfl
  refine lv_aload_n hx hb dX6_gives_0 rfl (lv_at hl 0 rfl) ?_
  refine lv_iconst (v := 0) hx hb dX6_gives_1 (by decide) ?_
  refine Mp_2 C h dX6_gives_2 (fun σ2 H locs eσ2 h => ?_)
  refine lv_iload_n hx hb dX6_gives_5 rfl (lv_at hl 1 rfl) ?_
  have he : f_X6_gives σ p1 = (σ2, p1) := (by subst eσ2; exact rfl)
  exact M_reti C h hr hlocks (congrArg Prod.fst he) (congrArg Prod.snd he) trivial dX6_gives_6
theorem gives_s (σ : MS) (v : Int32) : (f_X6_gives σ v).1 = si σ 2 0 := rfl
def f_X6_refuse (σ : MS) (p1 : Int32) : MS × Int32 := (let σ2 := si σ 2 p1; (σ2, (-1 : Int32)))
set_option maxHeartbeats 4000000 in
set_option maxRecDepth 100000 in
theorem k_X6_refuse (l : Launch) (g : GE) (σ : MS) (p1 : Int32) : Met l yX6_refuse (ws_ yX6_refuse cX6_refuse 2 (some .int)) ({ frames := 0, cells := 0, slots := 0, locals := 0 } : Room) (mPc g σ [.int p1]) (mQi g (f_X6_refuse σ p1).1 (f_X6_refuse σ p1).2 (fun u r => True)) 0 0 (mA g) := by
  refine met_M (by decide) rfl (Nat.le_of_ble_eq_true rfl) ?_
  intro p e s m args below meth c C hr hlocks h ls hl
  have hx := C.1.1
  have hb := C.1.2.1
  have hml := C.1.2.2.1
  have hown := C.1.2.2.2.1
  have hts := C.1.2.2.2.2
  have hl : lv_has ls 2 [(0, .ref (g.2.1 99)), (1, .int p1)] := hl
  have zlm1 : (-1 : Int32).toInt = -1 := rfl
  refine lv_aload_n hx hb dX6_refuse_0 rfl (lv_at hl 0 rfl) ?_
  refine lv_iload_n hx hb dX6_refuse_1 rfl (lv_at hl 1 rfl) ?_
  refine Mp_2 C h dX6_refuse_2 (fun σ2 H locs eσ2 h => ?_)
  refine lv_iconst (v := -1) hx hb dX6_refuse_5 (by decide) ?_
  have he : f_X6_refuse σ p1 = (σ2, (-1 : Int32)) := (by subst eσ2; exact rfl)
  exact M_reti C h hr hlocks (congrArg Prod.fst he) (congrArg Prod.snd he) trivial dX6_refuse_6
theorem refuse_s (σ : MS) (v : Int32) : (f_X6_refuse σ v).1 = si σ 2 v := rfl
def f_X6_is (σ : MS) (p1 : Int32) : MS × Int32 := (let σ2 := si σ 2 p1; if p1 = (0 : Int32) then ((σ2, (1 : Int32))) else ((σ2, (0 : Int32))))
set_option maxHeartbeats 4000000 in
set_option maxRecDepth 100000 in
theorem k_X6_is (l : Launch) (g : GE) (σ : MS) (p1 : Int32) : Met l yX6_is (ws_ yX6_is cX6_is 2 (some .boolean)) ({ frames := 0, cells := 0, slots := 0, locals := 0 } : Room) (mPc g σ [.int p1]) (mQz g (f_X6_is σ p1).1 (f_X6_is σ p1).2 (fun u r => True)) 0 0 (mA g) := by
  refine met_M (by decide) rfl (Nat.le_of_ble_eq_true rfl) ?_
  intro p e s m args below meth c C hr hlocks h ls hl
  have hx := C.1.1
  have hb := C.1.2.1
  have hml := C.1.2.2.1
  have hown := C.1.2.2.2.1
  have hts := C.1.2.2.2.2
  have hl : lv_has ls 2 [(0, .ref (g.2.1 99)), (1, .int p1)] := hl
  have zl0 : (0 : Int32).toInt = 0 := rfl
  have zl1 : (1 : Int32).toInt = 1 := rfl
  refine lv_aload_n hx hb dX6_is_0 rfl (lv_at hl 0 rfl) ?_
  refine lv_iload_n hx hb dX6_is_1 rfl (lv_at hl 1 rfl) ?_
  refine Mp_2 C h dX6_is_2 (fun σ2 H locs eσ2 h => ?_)
  refine lv_iload_n hx hb dX6_is_5 rfl (lv_at hl 1 rfl) ?_
  refine lv_if_ne (tgt := 13) hx hb dX6_is_6 (by decide) (fun c6 => ?_) (fun c6 => ?_)
  · have i6 := c_ne c6
    refine lv_iconst (v := 0) hx hb dX6_is_13 (by decide) ?_
    have he : f_X6_is σ p1 = (σ2, (0 : Int32)) := (by subst eσ2; exact ((if_neg c6).trans rfl))
    exact M_retz C h hr hlocks (congrArg Prod.fst he) (congrArg Prod.snd he) (Or.inl rfl) trivial dX6_is_14
  · have i6 := c_eq c6
    refine lv_iconst (v := 1) hx hb dX6_is_9 (by decide) ?_
    refine lv_goto (tgt := 14) hx hb dX6_is_10 (by decide) ?_
    have he : f_X6_is σ p1 = (σ2, (1 : Int32)) := (by subst eσ2; exact ((if_pos c6).trans rfl))
    exact M_retz C h hr hlocks (congrArg Prod.fst he) (congrArg Prod.snd he) (Or.inr rfl) trivial dX6_is_14
theorem is_s (σ : MS) (v : Int32) : (f_X6_is σ v).1 = si σ 2 v := by
  unfold f_X6_is; dsimp only; split <;> rfl
def f_X6_orNone (σ : MS) (p1 : Int32) : MS × Int32 := if p1 = (-1 : Int32) then ((let z8 := (f_X6_refuse σ (6 : Int32)); let σ8 := z8.1; let r8 := z8.2; (σ8, r8))) else ((let z16 := (f_X6_gives σ p1); let σ16 := z16.1; let r16 := z16.2; (σ16, r16)))
set_option maxHeartbeats 4000000 in
set_option maxRecDepth 100000 in
theorem k_X6_orNone (l : Launch) (g : GE) (σ : MS) (p1 : Int32) : Met l yX6_orNone (ws_ yX6_orNone cX6_orNone 2 (some .int)) ({ frames := 1, cells := 0, slots := 0, locals := 21 } : Room) (mPc g σ [.int p1]) (mQi g (f_X6_orNone σ p1).1 (f_X6_orNone σ p1).2 (fun u r => True)) 0 0 (mA g) := by
  refine met_M (by decide) rfl (Nat.le_of_ble_eq_true rfl) ?_
  intro p e s m args below meth c C hr hlocks h ls hl
  have hx := C.1.1
  have hb := C.1.2.1
  have hml := C.1.2.2.1
  have hown := C.1.2.2.2.1
  have hts := C.1.2.2.2.2
  have hl : lv_has ls 2 [(0, .ref (g.2.1 99)), (1, .int p1)] := hl
  have zlm1 : (-1 : Int32).toInt = -1 := rfl
  have zl6 : (6 : Int32).toInt = 6 := rfl
  refine lv_iload_n hx hb dX6_orNone_0 rfl (lv_at hl 1 rfl) ?_
  refine lv_iconst (v := -1) hx hb dX6_orNone_1 (by decide) ?_
  refine lv_icmp_ne (tgt := 14) hx hb dX6_orNone_2 (by decide) (fun c2 => ?_) (fun c2 => ?_)
  · have i2 := c_ne c2
    refine lv_aload_n hx hb dX6_orNone_14 rfl (lv_at hl 0 rfl) ?_
    refine lv_iload_n hx hb dX6_orNone_15 rfl (lv_at hl 1 rfl) ?_
    refine M_calli (As := [.int p1]) (rest := []) 1 C h (k_X6_gives l g σ p1) (lw_V q1806 q1808 qs91 q152 q1809) rfl rfl (by decide +kernel) ⟨Nat.le_of_ble_eq_true rfl, Nat.le_of_ble_eq_true rfl⟩ rfl hl.1 rfl (Nat.le_of_ble_eq_true rfl) ⟨Nat.le_of_ble_eq_true rfl, Nat.le_of_ble_eq_true rfl⟩ dX6_orNone_16 (fun r16 σ16 H locs eσ16 er16 hE16 h => ?_)
    clear hE16
    have he : f_X6_orNone σ p1 = (σ16, r16) := (by subst eσ16; subst er16; exact ((if_neg c2).trans rfl))
    exact M_reti C h hr hlocks (congrArg Prod.fst he) (congrArg Prod.snd he) trivial dX6_orNone_19
  · have i2 := c_eq c2
    refine lv_aload_n hx hb dX6_orNone_5 rfl (lv_at hl 0 rfl) ?_
    refine lv_bipush (v := 6) hx hb dX6_orNone_6 (by decide) ?_
    refine M_calli (As := [.int (6 : Int32)]) (rest := []) 1 C h (k_X6_refuse l g σ (6 : Int32)) (lw_V q1723 q1725 qs71 q152 q1726) rfl rfl (by decide +kernel) ⟨Nat.le_of_ble_eq_true rfl, Nat.le_of_ble_eq_true rfl⟩ rfl hl.1 rfl (Nat.le_of_ble_eq_true rfl) ⟨Nat.le_of_ble_eq_true rfl, Nat.le_of_ble_eq_true rfl⟩ dX6_orNone_8 (fun r8 σ8 H locs eσ8 er8 hE8 h => ?_)
    clear hE8
    refine lv_goto (tgt := 19) hx hb dX6_orNone_11 (by decide) ?_
    have he : f_X6_orNone σ p1 = (σ8, r8) := (by subst eσ8; subst er8; exact ((if_pos c2).trans rfl))
    exact M_reti C h hr hlocks (congrArg Prod.fst he) (congrArg Prod.snd he) trivial dX6_orNone_19
theorem orNone_s (σ : MS) (v : Int32) : (f_X6_orNone σ v).1 = si σ 2 (if v = -1 then 6 else 0) := by
  unfold f_X6_orNone; dsimp only; split <;> rfl
def f_X6_isTray (p0 : Int32) : Int32 := if p0 < (0 : Int32) then ((0 : Int32)) else (if (4 : Int32) ≤ p0 then ((0 : Int32)) else ((1 : Int32)))
set_option maxHeartbeats 4000000 in
set_option maxRecDepth 100000 in
theorem k_X6_isTray (l : Launch) (p0 : Int32) : Met l yX6_isTray (ws_ yX6_isTray cX6_isTray 1 (some .boolean)) ({ frames := 0, cells := 0, slots := 0, locals := 0 } : Room) (sPc [.int p0]) (sQz (f_X6_isTray p0)) 0 0 (fun _ => False) := by
  refine met_S RX6 (by decide) rfl rfl (Nat.le_of_ble_eq_true rfl) ?_
  intro p e s m args below meth c C hr hlocks _ _ _ ls hl
  have hx := C.1
  have hb := C.2.1
  have hml := C.2.2.1
  have hown := C.2.2.2.1
  have hts := C.2.2.2.2
  have h : va_S (fun _ => False) s.heap s.heap [] := va_S.rf
  have hl : lv_has ls 1 [(0, .int p0)] := hl
  have zl0 : (0 : Int32).toInt = 0 := rfl
  have zl1 : (1 : Int32).toInt = 1 := rfl
  have zl4 : (4 : Int32).toInt = 4 := rfl
  refine lv_iload_n hx hb dX6_isTray_0 rfl (lv_at hl 0 rfl) ?_
  refine lv_if_lt (tgt := 13) hx hb dX6_isTray_1 (by decide) (fun c1 => ?_) (fun c1 => ?_)
  · have i1 := c_lt c1
    refine lv_iconst (v := 0) hx hb dX6_isTray_13 (by decide) ?_
    have he : f_X6_isTray p0 = (0 : Int32) := (by exact ((if_pos c1).trans rfl))
    exact s_retz C hr hlocks h he (Or.inl rfl) dX6_isTray_14
  · have i1 := c_nlt c1
    refine lv_iload_n hx hb dX6_isTray_4 rfl (lv_at hl 0 rfl) ?_
    refine lv_iconst (v := 4) hx hb dX6_isTray_5 (by decide) ?_
    refine lv_icmp_ge (tgt := 13) hx hb dX6_isTray_6 (by decide) (fun c6 => ?_) (fun c6 => ?_)
    · have i6 := c_le c6
      refine lv_iconst (v := 0) hx hb dX6_isTray_13 (by decide) ?_
      have he : f_X6_isTray p0 = (0 : Int32) := (by exact ((if_neg c1).trans ((if_pos c6).trans rfl)))
      exact s_retz C hr hlocks h he (Or.inl rfl) dX6_isTray_14
    · have i6 := c_nle c6
      refine lv_iconst (v := 1) hx hb dX6_isTray_9 (by decide) ?_
      refine lv_goto (tgt := 14) hx hb dX6_isTray_10 (by decide) ?_
      have he : f_X6_isTray p0 = (1 : Int32) := (by exact ((if_neg c1).trans ((if_neg c6).trans rfl)))
      exact s_retz C hr hlocks h he (Or.inr rfl) dX6_isTray_14
theorem isTray_ok {t r : Int32} (h : r = f_X6_isTray t) (hr : ¬ r = 0) : 0 ≤ t.toInt ∧ t.toInt ≤ 3 := by
  unfold f_X6_isTray at h
  split at h
  · exact absurd h hr
  · rename_i h1
    split at h
    · exact absurd h hr
    · rename_i h2
      have a := c_nlt h1
      have b := c_nle h2
      have z0 : (0 : Int32).toInt = 0 := rfl
      have z4 : (4 : Int32).toInt = 4 := rfl
      omega
def f_X6_cut (p0 : Int64) (p2 : Int32) : Int64 := if p2 = (0 : Int32) then (p0.toInt32.toInt8.toInt32.toInt64) else (if p2 = (1 : Int32) then (p0.toInt32.toInt16.toInt32.toInt64) else (if p2 = (2 : Int32) then (p0.toInt32.toInt64) else (p0)))
set_option maxHeartbeats 4000000 in
set_option maxRecDepth 100000 in
theorem k_X6_cut (l : Launch) (p0 : Int64) (p2 : Int32) : Met l yX6_cut (ws_ yX6_cut cX6_cut 3 (some .long)) ({ frames := 0, cells := 0, slots := 0, locals := 0 } : Room) (sPc [.long p0, .int p2]) (sQl (f_X6_cut p0 p2)) 0 0 (fun _ => False) := by
  refine met_S RX6 (by decide) rfl rfl (Nat.le_of_ble_eq_true rfl) ?_
  intro p e s m args below meth c C hr hlocks _ _ _ ls hl
  have hx := C.1
  have hb := C.2.1
  have hml := C.2.2.1
  have hown := C.2.2.2.1
  have hts := C.2.2.2.2
  have h : va_S (fun _ => False) s.heap s.heap [] := va_S.rf
  have hl : lv_has ls 3 [(0, .long p0), (2, .int p2)] := hl
  have zl0 : (0 : Int32).toInt = 0 := rfl
  have zl1 : (1 : Int32).toInt = 1 := rfl
  have zl2 : (2 : Int32).toInt = 2 := rfl
  refine lv_iload_n hx hb dX6_cut_0 rfl (lv_at hl 1 rfl) ?_
  refine lv_if_ne (tgt := 11) hx hb dX6_cut_1 (by decide) (fun c1 => ?_) (fun c1 => ?_)
  · have i1 := c_ne c1
    refine lv_iload_n hx hb dX6_cut_11 rfl (lv_at hl 1 rfl) ?_
    refine lv_iconst (v := 1) hx hb dX6_cut_12 (by decide) ?_
    refine lv_icmp_ne (tgt := 23) hx hb dX6_cut_13 (by decide) (fun c13 => ?_) (fun c13 => ?_)
    · have i13 := c_ne c13
      refine lv_iload_n hx hb dX6_cut_23 rfl (lv_at hl 1 rfl) ?_
      refine lv_iconst (v := 2) hx hb dX6_cut_24 (by decide) ?_
      refine lv_icmp_ne (tgt := 34) hx hb dX6_cut_25 (by decide) (fun c25 => ?_) (fun c25 => ?_)
      · have i25 := c_ne c25
        refine lv_lload_n hx hb dX6_cut_34 rfl (lv_at hl 0 rfl) ?_
        have he : f_X6_cut p0 p2 = p0 := (by exact ((if_neg c1).trans ((if_neg c13).trans ((if_neg c25).trans rfl))))
        exact s_retl C hr hlocks h he dX6_cut_35
      · have i25 := c_eq c25
        refine lv_lload_n hx hb dX6_cut_28 rfl (lv_at hl 0 rfl) ?_
        refine lv_l2i (v := p0.toInt32) hx hb dX6_cut_29 rfl ?_
        refine lv_i2l (v := p0.toInt32.toInt64) hx hb dX6_cut_30 rfl ?_
        refine lv_goto (tgt := 35) hx hb dX6_cut_31 (by decide) ?_
        have he : f_X6_cut p0 p2 = p0.toInt32.toInt64 := (by exact ((if_neg c1).trans ((if_neg c13).trans ((if_pos c25).trans rfl))))
        exact s_retl C hr hlocks h he dX6_cut_35
    · have i13 := c_eq c13
      refine lv_lload_n hx hb dX6_cut_16 rfl (lv_at hl 0 rfl) ?_
      refine lv_l2i (v := p0.toInt32) hx hb dX6_cut_17 rfl ?_
      refine lv_i2s (v := p0.toInt32.toInt16.toInt32) hx hb dX6_cut_18 rfl ?_
      refine lv_i2l (v := p0.toInt32.toInt16.toInt32.toInt64) hx hb dX6_cut_19 rfl ?_
      refine lv_goto (tgt := 35) hx hb dX6_cut_20 (by decide) ?_
      have he : f_X6_cut p0 p2 = p0.toInt32.toInt16.toInt32.toInt64 := (by exact ((if_neg c1).trans ((if_pos c13).trans rfl)))
      exact s_retl C hr hlocks h he dX6_cut_35
  · have i1 := c_eq c1
    refine lv_lload_n hx hb dX6_cut_4 rfl (lv_at hl 0 rfl) ?_
    refine lv_l2i (v := p0.toInt32) hx hb dX6_cut_5 rfl ?_
    refine lv_i2b (v := p0.toInt32.toInt8.toInt32) hx hb dX6_cut_6 rfl ?_
    refine lv_i2l (v := p0.toInt32.toInt8.toInt32.toInt64) hx hb dX6_cut_7 rfl ?_
    refine lv_goto (tgt := 35) hx hb dX6_cut_8 (by decide) ?_
    have he : f_X6_cut p0 p2 = p0.toInt32.toInt8.toInt32.toInt64 := (by exact ((if_pos c1).trans rfl))
    exact s_retl C hr hlocks h he dX6_cut_35
def f_X6_isFrom (p0 : Int64) (p2 : Int64) (p4 : Int64) : Int32 := if (lg_cmp p0 p2) < (0 : Int32) then ((0 : Int32)) else (if (0 : Int32) < (lg_cmp p0 p4) then ((0 : Int32)) else ((1 : Int32)))
set_option maxHeartbeats 4000000 in
set_option maxRecDepth 100000 in
theorem k_X6_isFrom (l : Launch) (p0 : Int64) (p2 : Int64) (p4 : Int64) : Met l yX6_isFrom (ws_ yX6_isFrom cX6_isFrom 6 (some .boolean)) ({ frames := 0, cells := 0, slots := 0, locals := 0 } : Room) (sPc [.long p0, .long p2, .long p4]) (sQz (f_X6_isFrom p0 p2 p4)) 0 0 (fun _ => False) := by
  refine met_S RX6 (by decide) rfl rfl (Nat.le_of_ble_eq_true rfl) ?_
  intro p e s m args below meth c C hr hlocks _ _ _ ls hl
  have hx := C.1
  have hb := C.2.1
  have hml := C.2.2.1
  have hown := C.2.2.2.1
  have hts := C.2.2.2.2
  have h : va_S (fun _ => False) s.heap s.heap [] := va_S.rf
  have hl : lv_has ls 6 [(0, .long p0), (2, .long p2), (4, .long p4)] := hl
  have zl0 : (0 : Int32).toInt = 0 := rfl
  have zl1 : (1 : Int32).toInt = 1 := rfl
  refine lv_lload_n hx hb dX6_isFrom_0 rfl (lv_at hl 0 rfl) ?_
  refine lv_lload_n hx hb dX6_isFrom_1 rfl (lv_at hl 1 rfl) ?_
  refine W.lcmp hx hb dX6_isFrom_2 ?_
  refine lv_if_lt (tgt := 17) hx hb dX6_isFrom_3 (by decide) (fun c3 => ?_) (fun c3 => ?_)
  · have i3 := c_lt c3
    refine lv_iconst (v := 0) hx hb dX6_isFrom_17 (by decide) ?_
    have he : f_X6_isFrom p0 p2 p4 = (0 : Int32) := (by exact ((if_pos c3).trans rfl))
    exact s_retz C hr hlocks h he (Or.inl rfl) dX6_isFrom_18
  · have i3 := c_nlt c3
    refine lv_lload_n hx hb dX6_isFrom_6 rfl (lv_at hl 0 rfl) ?_
    refine lv_lload hx hb dX6_isFrom_7 (lv_at hl 2 rfl) ?_
    refine W.lcmp hx hb dX6_isFrom_9 ?_
    refine lv_if_gt (tgt := 17) hx hb dX6_isFrom_10 (by decide) (fun c10 => ?_) (fun c10 => ?_)
    · have i10 := c_lt c10
      refine lv_iconst (v := 0) hx hb dX6_isFrom_17 (by decide) ?_
      have he : f_X6_isFrom p0 p2 p4 = (0 : Int32) := (by exact ((if_neg c3).trans ((if_pos c10).trans rfl)))
      exact s_retz C hr hlocks h he (Or.inl rfl) dX6_isFrom_18
    · have i10 := c_nlt c10
      refine lv_iconst (v := 1) hx hb dX6_isFrom_13 (by decide) ?_
      refine lv_goto (tgt := 18) hx hb dX6_isFrom_14 (by decide) ?_
      have he : f_X6_isFrom p0 p2 p4 = (1 : Int32) := (by exact ((if_neg c3).trans ((if_neg c10).trans rfl)))
      exact s_retz C hr hlocks h he (Or.inr rfl) dX6_isFrom_18
theorem isFrom_ok {v a b : Int64} {r : Int32} (h : r = f_X6_isFrom v a b) (hr : ¬ r = 0) : a.toInt ≤ v.toInt ∧ v.toInt ≤ b.toInt := by
  unfold f_X6_isFrom at h
  split at h
  · exact absurd h hr
  · rename_i h1
    split at h
    · exact absurd h hr
    · rename_i h2
      have a1 := fun q => h1 ((lg_lt0 v a).mpr q)
      have a2 := fun q => h2 ((lg_gt0 v b).mpr q)
      exact ⟨Int.not_lt.mp a1, Int.not_lt.mp a2⟩
def f_X6_isSmall (p0 : Int32) : Int32 := if p0 < (97 : Int32) then ((0 : Int32)) else (if (122 : Int32) < p0 then ((0 : Int32)) else ((1 : Int32)))
set_option maxHeartbeats 4000000 in
set_option maxRecDepth 100000 in
theorem k_X6_isSmall (l : Launch) (p0 : Int32) : Met l yX6_isSmall (ws_ yX6_isSmall cX6_isSmall 1 (some .boolean)) ({ frames := 0, cells := 0, slots := 0, locals := 0 } : Room) (sPc [.int p0]) (sQz (f_X6_isSmall p0)) 0 0 (fun _ => False) := by
  refine met_S RX6 (by decide) rfl rfl (Nat.le_of_ble_eq_true rfl) ?_
  intro p e s m args below meth c C hr hlocks _ _ _ ls hl
  have hx := C.1
  have hb := C.2.1
  have hml := C.2.2.1
  have hown := C.2.2.2.1
  have hts := C.2.2.2.2
  have h : va_S (fun _ => False) s.heap s.heap [] := va_S.rf
  have hl : lv_has ls 1 [(0, .int p0)] := hl
  have zl0 : (0 : Int32).toInt = 0 := rfl
  have zl1 : (1 : Int32).toInt = 1 := rfl
  have zl97 : (97 : Int32).toInt = 97 := rfl
  have zl122 : (122 : Int32).toInt = 122 := rfl
  refine lv_iload_n hx hb dX6_isSmall_0 rfl (lv_at hl 0 rfl) ?_
  refine lv_bipush (v := 97) hx hb dX6_isSmall_1 (by decide) ?_
  refine lv_icmp_lt (tgt := 16) hx hb dX6_isSmall_3 (by decide) (fun c3 => ?_) (fun c3 => ?_)
  · have i3 := c_lt c3
    refine lv_iconst (v := 0) hx hb dX6_isSmall_16 (by decide) ?_
    have he : f_X6_isSmall p0 = (0 : Int32) := (by exact ((if_pos c3).trans rfl))
    exact s_retz C hr hlocks h he (Or.inl rfl) dX6_isSmall_17
  · have i3 := c_nlt c3
    refine lv_iload_n hx hb dX6_isSmall_6 rfl (lv_at hl 0 rfl) ?_
    refine lv_bipush (v := 122) hx hb dX6_isSmall_7 (by decide) ?_
    refine lv_icmp_gt (tgt := 16) hx hb dX6_isSmall_9 (by decide) (fun c9 => ?_) (fun c9 => ?_)
    · have i9 := c_lt c9
      refine lv_iconst (v := 0) hx hb dX6_isSmall_16 (by decide) ?_
      have he : f_X6_isSmall p0 = (0 : Int32) := (by exact ((if_neg c3).trans ((if_pos c9).trans rfl)))
      exact s_retz C hr hlocks h he (Or.inl rfl) dX6_isSmall_17
    · have i9 := c_nlt c9
      refine lv_iconst (v := 1) hx hb dX6_isSmall_12 (by decide) ?_
      refine lv_goto (tgt := 17) hx hb dX6_isSmall_13 (by decide) ?_
      have he : f_X6_isSmall p0 = (1 : Int32) := (by exact ((if_neg c3).trans ((if_neg c9).trans rfl)))
      exact s_retz C hr hlocks h he (Or.inr rfl) dX6_isSmall_17
def f_X6_isDigit (p0 : Int32) : Int32 := if p0 < (48 : Int32) then ((0 : Int32)) else (if (57 : Int32) < p0 then ((0 : Int32)) else ((1 : Int32)))
set_option maxHeartbeats 4000000 in
set_option maxRecDepth 100000 in
theorem k_X6_isDigit (l : Launch) (p0 : Int32) : Met l yX6_isDigit (ws_ yX6_isDigit cX6_isDigit 1 (some .boolean)) ({ frames := 0, cells := 0, slots := 0, locals := 0 } : Room) (sPc [.int p0]) (sQz (f_X6_isDigit p0)) 0 0 (fun _ => False) := by
  refine met_S RX6 (by decide) rfl rfl (Nat.le_of_ble_eq_true rfl) ?_
  intro p e s m args below meth c C hr hlocks _ _ _ ls hl
  have hx := C.1
  have hb := C.2.1
  have hml := C.2.2.1
  have hown := C.2.2.2.1
  have hts := C.2.2.2.2
  have h : va_S (fun _ => False) s.heap s.heap [] := va_S.rf
  have hl : lv_has ls 1 [(0, .int p0)] := hl
  have zl0 : (0 : Int32).toInt = 0 := rfl
  have zl1 : (1 : Int32).toInt = 1 := rfl
  have zl48 : (48 : Int32).toInt = 48 := rfl
  have zl57 : (57 : Int32).toInt = 57 := rfl
  refine lv_iload_n hx hb dX6_isDigit_0 rfl (lv_at hl 0 rfl) ?_
  refine lv_bipush (v := 48) hx hb dX6_isDigit_1 (by decide) ?_
  refine lv_icmp_lt (tgt := 16) hx hb dX6_isDigit_3 (by decide) (fun c3 => ?_) (fun c3 => ?_)
  · have i3 := c_lt c3
    refine lv_iconst (v := 0) hx hb dX6_isDigit_16 (by decide) ?_
    have he : f_X6_isDigit p0 = (0 : Int32) := (by exact ((if_pos c3).trans rfl))
    exact s_retz C hr hlocks h he (Or.inl rfl) dX6_isDigit_17
  · have i3 := c_nlt c3
    refine lv_iload_n hx hb dX6_isDigit_6 rfl (lv_at hl 0 rfl) ?_
    refine lv_bipush (v := 57) hx hb dX6_isDigit_7 (by decide) ?_
    refine lv_icmp_gt (tgt := 16) hx hb dX6_isDigit_9 (by decide) (fun c9 => ?_) (fun c9 => ?_)
    · have i9 := c_lt c9
      refine lv_iconst (v := 0) hx hb dX6_isDigit_16 (by decide) ?_
      have he : f_X6_isDigit p0 = (0 : Int32) := (by exact ((if_neg c3).trans ((if_pos c9).trans rfl)))
      exact s_retz C hr hlocks h he (Or.inl rfl) dX6_isDigit_17
    · have i9 := c_nlt c9
      refine lv_iconst (v := 1) hx hb dX6_isDigit_12 (by decide) ?_
      refine lv_goto (tgt := 17) hx hb dX6_isDigit_13 (by decide) ?_
      have he : f_X6_isDigit p0 = (1 : Int32) := (by exact ((if_neg c3).trans ((if_neg c9).trans rfl)))
      exact s_retz C hr hlocks h he (Or.inr rfl) dX6_isDigit_17
def f_X6_isSplit (p0 : Int32) : Int32 := if p0 < (0 : Int32) then ((0 : Int32)) else (if (2 : Int32) < p0 then ((0 : Int32)) else ((1 : Int32)))
set_option maxHeartbeats 4000000 in
set_option maxRecDepth 100000 in
theorem k_X6_isSplit (l : Launch) (p0 : Int32) : Met l yX6_isSplit (ws_ yX6_isSplit cX6_isSplit 1 (some .boolean)) ({ frames := 0, cells := 0, slots := 0, locals := 0 } : Room) (sPc [.int p0]) (sQz (f_X6_isSplit p0)) 0 0 (fun _ => False) := by
  refine met_S RX6 (by decide) rfl rfl (Nat.le_of_ble_eq_true rfl) ?_
  intro p e s m args below meth c C hr hlocks _ _ _ ls hl
  have hx := C.1
  have hb := C.2.1
  have hml := C.2.2.1
  have hown := C.2.2.2.1
  have hts := C.2.2.2.2
  have h : va_S (fun _ => False) s.heap s.heap [] := va_S.rf
  have hl : lv_has ls 1 [(0, .int p0)] := hl
  have zl0 : (0 : Int32).toInt = 0 := rfl
  have zl1 : (1 : Int32).toInt = 1 := rfl
  have zl2 : (2 : Int32).toInt = 2 := rfl
  refine lv_iload_n hx hb dX6_isSplit_0 rfl (lv_at hl 0 rfl) ?_
  refine lv_if_lt (tgt := 13) hx hb dX6_isSplit_1 (by decide) (fun c1 => ?_) (fun c1 => ?_)
  · have i1 := c_lt c1
    refine lv_iconst (v := 0) hx hb dX6_isSplit_13 (by decide) ?_
    have he : f_X6_isSplit p0 = (0 : Int32) := (by exact ((if_pos c1).trans rfl))
    exact s_retz C hr hlocks h he (Or.inl rfl) dX6_isSplit_14
  · have i1 := c_nlt c1
    refine lv_iload_n hx hb dX6_isSplit_4 rfl (lv_at hl 0 rfl) ?_
    refine lv_iconst (v := 2) hx hb dX6_isSplit_5 (by decide) ?_
    refine lv_icmp_gt (tgt := 13) hx hb dX6_isSplit_6 (by decide) (fun c6 => ?_) (fun c6 => ?_)
    · have i6 := c_lt c6
      refine lv_iconst (v := 0) hx hb dX6_isSplit_13 (by decide) ?_
      have he : f_X6_isSplit p0 = (0 : Int32) := (by exact ((if_neg c1).trans ((if_pos c6).trans rfl)))
      exact s_retz C hr hlocks h he (Or.inl rfl) dX6_isSplit_14
    · have i6 := c_nlt c6
      refine lv_iconst (v := 1) hx hb dX6_isSplit_9 (by decide) ?_
      refine lv_goto (tgt := 14) hx hb dX6_isSplit_10 (by decide) ?_
      have he : f_X6_isSplit p0 = (1 : Int32) := (by exact ((if_neg c1).trans ((if_neg c6).trans rfl)))
      exact s_retz C hr hlocks h he (Or.inr rfl) dX6_isSplit_14
def f_X6_personRow (p0 : Int32) : Int32 := ((12 : Int32) + ((8 : Int32) * p0))
set_option maxHeartbeats 4000000 in
set_option maxRecDepth 100000 in
theorem k_X6_personRow (l : Launch) (p0 : Int32) : Met l yX6_personRow (ws_ yX6_personRow cX6_personRow 1 (some .int)) ({ frames := 0, cells := 0, slots := 0, locals := 0 } : Room) (sPc [.int p0]) (sQi (f_X6_personRow p0)) 0 0 (fun _ => False) := by
  refine met_S RX6 (by decide) rfl rfl (Nat.le_of_ble_eq_true rfl) ?_
  intro p e s m args below meth c C hr hlocks _ _ _ ls hl
  have hx := C.1
  have hb := C.2.1
  have hml := C.2.2.1
  have hown := C.2.2.2.1
  have hts := C.2.2.2.2
  have h : va_S (fun _ => False) s.heap s.heap [] := va_S.rf
  have hl : lv_has ls 1 [(0, .int p0)] := hl
  have zl8 : (8 : Int32).toInt = 8 := rfl
  have zl12 : (12 : Int32).toInt = 12 := rfl
  refine lv_bipush (v := 12) hx hb dX6_personRow_0 (by decide) ?_
  refine lv_bipush (v := 8) hx hb dX6_personRow_2 (by decide) ?_
  refine lv_iload_n hx hb dX6_personRow_4 rfl (lv_at hl 0 rfl) ?_
  refine lv_imul hx hb dX6_personRow_5 ?_
  refine lv_iadd hx hb dX6_personRow_6 ?_
  have he : f_X6_personRow p0 = ((12 : Int32) + ((8 : Int32) * p0)) := (by exact rfl)
  exact s_reti C hr hlocks h he dX6_personRow_7
theorem hQ_sa {σ : MS} {i v : Int32} {X : Int} {f : Int32 → Int32} (hi : i.toInt = X) (h : X < 12 ∨ 60 ≤ X ∨ (X - 12) % 8 ≠ 1) (hQ : ∀ x : Int32, (0 ≤ x.toInt ∧ x.toInt ≤ 5) → ga σ 0 ((f_X6_personRow x) + 1) = f x) : ∀ x : Int32, (0 ≤ x.toInt ∧ x.toInt ≤ 5) → ga (sa σ 0 i v) 0 ((f_X6_personRow x) + 1) = f x := by
  intro j hj
  have t : ((f_X6_personRow j) + 1).toInt = 12 + 8 * j.toInt + 1 := i_add (i_add (show (12 : Int32).toInt = 12 from rfl) (i_mul (show (8 : Int32).toInt = 8 from rfl) rfl (by omega)) (by omega)) (show (1 : Int32).toInt = 1 from rfl) (by omega)
  have hne : X.toNat ≠ (12 + 8 * j.toInt + 1).toNat := by omega
  rw [ga_sa_ne hi t hne]
  exact hQ j hj
def f_X6_debtRow (p0 : Int32) (p1 : Int32) : Int32 := (((92 : Int32) + ((6 : Int32) * p0)) + p1)
set_option maxHeartbeats 4000000 in
set_option maxRecDepth 100000 in
theorem k_X6_debtRow (l : Launch) (p0 : Int32) (p1 : Int32) : Met l yX6_debtRow (ws_ yX6_debtRow cX6_debtRow 2 (some .int)) ({ frames := 0, cells := 0, slots := 0, locals := 0 } : Room) (sPc [.int p0, .int p1]) (sQi (f_X6_debtRow p0 p1)) 0 0 (fun _ => False) := by
  refine met_S RX6 (by decide) rfl rfl (Nat.le_of_ble_eq_true rfl) ?_
  intro p e s m args below meth c C hr hlocks _ _ _ ls hl
  have hx := C.1
  have hb := C.2.1
  have hml := C.2.2.1
  have hown := C.2.2.2.1
  have hts := C.2.2.2.2
  have h : va_S (fun _ => False) s.heap s.heap [] := va_S.rf
  have hl : lv_has ls 2 [(0, .int p0), (1, .int p1)] := hl
  have zl6 : (6 : Int32).toInt = 6 := rfl
  have zl92 : (92 : Int32).toInt = 92 := rfl
  refine lv_bipush (v := 92) hx hb dX6_debtRow_0 (by decide) ?_
  refine lv_bipush (v := 6) hx hb dX6_debtRow_2 (by decide) ?_
  refine lv_iload_n hx hb dX6_debtRow_4 rfl (lv_at hl 0 rfl) ?_
  refine lv_imul hx hb dX6_debtRow_5 ?_
  refine lv_iadd hx hb dX6_debtRow_6 ?_
  refine lv_iload_n hx hb dX6_debtRow_7 rfl (lv_at hl 1 rfl) ?_
  refine lv_iadd hx hb dX6_debtRow_8 ?_
  have he : f_X6_debtRow p0 p1 = (((92 : Int32) + ((6 : Int32) * p0)) + p1) := (by exact rfl)
  exact s_reti C hr hlocks h he dX6_debtRow_9
def f_X6_nextGift (p0 : Int32) (p1 : Int32) : Int32 := ((p0 + ((p0.toInt64 * p1.toInt64) / (100 : Int64)).toInt32) + (1 : Int32))
set_option maxHeartbeats 4000000 in
set_option maxRecDepth 100000 in
theorem k_X6_nextGift (l : Launch) (p0 : Int32) (p1 : Int32) : Met l yX6_nextGift (ws_ yX6_nextGift cX6_nextGift 2 (some .int)) ({ frames := 0, cells := 0, slots := 0, locals := 0 } : Room) (sPc [.int p0, .int p1]) (sQi (f_X6_nextGift p0 p1)) 0 0 (fun _ => False) := by
  refine met_S RX6 (by decide) rfl rfl (Nat.le_of_ble_eq_true rfl) ?_
  intro p e s m args below meth c C hr hlocks _ _ _ ls hl
  have hx := C.1
  have hb := C.2.1
  have hml := C.2.2.1
  have hown := C.2.2.2.1
  have hts := C.2.2.2.2
  have h : va_S (fun _ => False) s.heap s.heap [] := va_S.rf
  have hl : lv_has ls 2 [(0, .int p0), (1, .int p1)] := hl
  have zl1 : (1 : Int32).toInt = 1 := rfl
  refine lv_iload_n hx hb dX6_nextGift_0 rfl (lv_at hl 0 rfl) ?_
  refine lv_iload_n hx hb dX6_nextGift_1 rfl (lv_at hl 0 rfl) ?_
  refine lv_i2l (v := p0.toInt64) hx hb dX6_nextGift_2 rfl ?_
  refine lv_iload_n hx hb dX6_nextGift_3 rfl (lv_at hl 1 rfl) ?_
  refine lv_i2l (v := p1.toInt64) hx hb dX6_nextGift_4 rfl ?_
  refine lv_lmul hx hb dX6_nextGift_5 ?_
  refine lv_ldc2 hx hb hown (hts _ q2170) dX6_nextGift_6 ?_
  refine lv_ldiv hx hb dX6_nextGift_9 (by decide) ?_
  refine lv_l2i (v := ((p0.toInt64 * p1.toInt64) / (100 : Int64)).toInt32) hx hb dX6_nextGift_10 rfl ?_
  refine lv_iadd hx hb dX6_nextGift_11 ?_
  refine lv_iconst (v := 1) hx hb dX6_nextGift_12 (by decide) ?_
  refine lv_iadd hx hb dX6_nextGift_13 ?_
  have he : f_X6_nextGift p0 p1 = ((p0 + ((p0.toInt64 * p1.toInt64) / (100 : Int64)).toInt32) + (1 : Int32)) := (by exact rfl)
  exact s_reti C hr hlocks h he dX6_nextGift_14
theorem nextGift_rng {g h r : Int32} (hg : 1 ≤ g.toInt ∧ g.toInt ≤ 999999) (hh : 0 ≤ h.toInt ∧ h.toInt ≤ 100) (e : r = f_X6_nextGift g h) : g.toInt + 1 ≤ r.toInt ∧ r.toInt ≤ 2 * g.toInt + 1 := by
  have t : (((g.toInt64 * h.toInt64) / 100).toInt32).toInt = g.toInt * h.toInt / 100 := by
    have h1 : 0 ≤ g.toInt * h.toInt := Int.mul_nonneg (by omega) (by omega)
    have h2 : g.toInt * h.toInt ≤ 999999 * 100 := Int.mul_le_mul (by omega) (by omega) (by omega) (by omega)
    have a : (g.toInt64 * h.toInt64).toInt = g.toInt * h.toInt := by
      rw [Int64.toInt_mul, Int32.toInt_toInt64, Int32.toInt_toInt64]; exact l_bm (by omega)
    have b : ((g.toInt64 * h.toInt64) / 100).toInt = g.toInt * h.toInt / 100 := by
      rw [Int64.toInt_div, a, show (100 : Int64).toInt = 100 from rfl, Int.tdiv_eq_ediv_of_nonneg h1]; exact l_bm (by omega)
    rw [Int64.toInt_toInt32, b]; exact i_bm (by omega)
  have h1 : 0 ≤ g.toInt * h.toInt := Int.mul_nonneg (by omega) (by omega)
  have h2 : g.toInt * h.toInt ≤ g.toInt * 100 := Int.mul_le_mul_of_nonneg_left (by omega) (by omega)
  have z1 : (1 : Int32).toInt = 1 := rfl
  have q : r.toInt = g.toInt + g.toInt * h.toInt / 100 + 1 := by
    rw [e]; exact i_add (i_add rfl t (by omega)) z1 (by omega)
  omega
def f_X6_status (σ : MS) : Int32 := (gi σ 2)
set_option maxHeartbeats 4000000 in
set_option maxRecDepth 100000 in
theorem k_X6_status (l : Launch) (g : GE) (σ : MS) : Met l yX6_status (ws_ yX6_status cX6_status 1 (some .int)) ({ frames := 0, cells := 0, slots := 0, locals := 0 } : Room) (mPc g σ []) (mQi g σ (f_X6_status σ) (fun u r => True)) 0 0 (mA g) := by
  refine met_M (by decide) rfl (Nat.le_of_ble_eq_true rfl) ?_
  intro p e s m args below meth c C hr hlocks h ls hl
  have hx := C.1.1
  have hb := C.1.2.1
  have hml := C.1.2.2.1
  have hown := C.1.2.2.2.1
  have hts := C.1.2.2.2.2
  have hl : lv_has ls 1 [(0, .ref (g.2.1 99))] := hl
  refine lv_aload_n hx hb dX6_status_0 rfl (lv_at hl 0 rfl) ?_
  refine Mg_2 C h dX6_status_1 ?_
  have he : f_X6_status σ = (gi σ 2) := (by exact rfl)
  exact M_reti C h hr hlocks rfl he trivial dX6_status_4
def f_X6_top (σ : MS) : Int64 := (gl σ 3)
set_option maxHeartbeats 4000000 in
set_option maxRecDepth 100000 in
theorem k_X6_top (l : Launch) (g : GE) (σ : MS) : Met l yX6_top (ws_ yX6_top cX6_top 1 (some .long)) ({ frames := 0, cells := 0, slots := 0, locals := 0 } : Room) (mPc g σ []) (mQl g σ (f_X6_top σ) (fun u r => True)) 0 0 (mA g) := by
  refine met_M (by decide) rfl (Nat.le_of_ble_eq_true rfl) ?_
  intro p e s m args below meth c C hr hlocks h ls hl
  have hx := C.1.1
  have hb := C.1.2.1
  have hml := C.1.2.2.1
  have hown := C.1.2.2.2.1
  have hts := C.1.2.2.2.2
  have hl : lv_has ls 1 [(0, .ref (g.2.1 99))] := hl
  refine lv_aload_n hx hb dX6_top_0 rfl (lv_at hl 0 rfl) ?_
  refine Mg_3 C h dX6_top_1 ?_
  have he : f_X6_top σ = (gl σ 3) := (by exact rfl)
  exact M_retl C h hr hlocks rfl he trivial dX6_top_4
def f_X6_bottom (σ : MS) : Int64 := (gl σ 4)
set_option maxHeartbeats 4000000 in
set_option maxRecDepth 100000 in
theorem k_X6_bottom (l : Launch) (g : GE) (σ : MS) : Met l yX6_bottom (ws_ yX6_bottom cX6_bottom 1 (some .long)) ({ frames := 0, cells := 0, slots := 0, locals := 0 } : Room) (mPc g σ []) (mQl g σ (f_X6_bottom σ) (fun u r => True)) 0 0 (mA g) := by
  refine met_M (by decide) rfl (Nat.le_of_ble_eq_true rfl) ?_
  intro p e s m args below meth c C hr hlocks h ls hl
  have hx := C.1.1
  have hb := C.1.2.1
  have hml := C.1.2.2.1
  have hown := C.1.2.2.2.1
  have hts := C.1.2.2.2.2
  have hl : lv_has ls 1 [(0, .ref (g.2.1 99))] := hl
  refine lv_aload_n hx hb dX6_bottom_0 rfl (lv_at hl 0 rfl) ?_
  refine Mg_4 C h dX6_bottom_1 ?_
  have he : f_X6_bottom σ = (gl σ 4) := (by exact rfl)
  exact M_retl C h hr hlocks rfl he trivial dX6_bottom_4
def f_X6_plain_L2 (y1_2 : Int32) : Nat → Int32 → MS → Int32 × MS
  | 0, x2_2, σL2 => (x2_2, σL2)
  | n + 1, x2_2, σL2 => if (500 : Int32) ≤ x2_2 then ((x2_2, σL2)) else ((let σ17 := sa σL2 0 (y1_2 + x2_2) (0 : Int32); f_X6_plain_L2 y1_2 n (x2_2 + (1 : Int32)) σ17))
def f_X6_plain (σ : MS) (p1 : Int32) : MS := (let zL2 := f_X6_plain_L2 p1 (501) (0 : Int32) σ; let x2_2e := zL2.1; let σL2e := zL2.2; (let σ33 := sa σL2e 0 (p1 + (9 : Int32)) (-1 : Int32); σ33))
set_option maxHeartbeats 4000000 in
set_option maxRecDepth 100000 in
theorem k_X6_plain (l : Launch) (g : GE) (σ : MS) (p1 : Int32) (h1r : 0 ≤ p1.toInt ∧ p1.toInt ≤ 2500) : Met l yX6_plain (ws_ yX6_plain cX6_plain 3 none) ({ frames := 0, cells := 0, slots := 0, locals := 0 } : Room) (mPc g σ [.int p1]) (mQv g (f_X6_plain σ p1) (fun u => (PLf σ u p1.toInt) ∧ (∀ j : Int32, p1.toInt ≤ j.toInt → j.toInt < p1.toInt + 500 → ¬ j.toInt = p1.toInt + 9 → ga u 0 j = 0))) 0 0 (mA g) := by
  refine met_M (by decide) rfl (Nat.le_of_ble_eq_true rfl) ?_
  intro p e s m args below meth c C hr hlocks h ls hl
  have hx := C.1.1
  have hb := C.1.2.1
  have hml := C.1.2.2.1
  have hown := C.1.2.2.2.1
  have hts := C.1.2.2.2.2
  have hl : lv_has ls 3 [(0, .ref (g.2.1 99)), (1, .int p1)] := hl
  have hPL : PLf σ σ p1.toInt := PLf_rfl
  have zlm1 : (-1 : Int32).toInt = -1 := rfl
  have zl0 : (0 : Int32).toInt = 0 := rfl
  have zl1 : (1 : Int32).toInt = 1 := rfl
  have zl9 : (9 : Int32).toInt = 9 := rfl
  have zl500 : (500 : Int32).toInt = 500 := rfl
  refine lv_iconst (v := 0) hx hb dX6_plain_0 (by decide) ?_
  refine lv_istore_n (lv' := [(2, .int (0 : Int32)), (0, .ref (g.2.1 99)), (1, .int p1)]) hx hb dX6_plain_1 rfl hl (by decide) rfl (fun ls hl => ?_)
  have hL2 : ∀ (n : Nat) (x2_2 : Int32) (σL2 : MS) (H : Heap) (locs : List Loc) (ls : Array Slot), (PLf σ σL2 p1.toInt) → (0 ≤ x2_2.toInt ∧ x2_2.toInt ≤ 500 ∧ (∀ j : Int32, p1.toInt ≤ j.toInt → j.toInt < p1.toInt + x2_2.toInt → ga σL2 0 j = 0)) → (500 - x2_2.toInt).toNat < n → MH g σL2 s H locs → lv_has ls 3 [(0, .ref (g.2.1 99)), (1, .int p1), (2, .int x2_2)] → (∀ (x2_2' : Int32) (σL2' : MS) (H : Heap) (locs : List Loc) (ls : Array Slot), f_X6_plain_L2 p1 n x2_2 σL2 = (x2_2', σL2') → (PLf σ σL2' p1.toInt) → (0 ≤ x2_2'.toInt ∧ x2_2'.toInt = 500 ∧ (∀ j : Int32, p1.toInt ≤ j.toInt → j.toInt < p1.toInt + x2_2'.toInt → ga σL2' 0 j = 0)) → MH g σL2' s H locs → lv_has ls 3 [(0, .ref (g.2.1 99)), (1, .int p1)] → W p l e ({ frames := 0, cells := 0, slots := 0, locals := 0 } : Room) s m args below meth c H locs 0 0 (MQ below (mQv g (f_X6_plain σ p1) (fun u => (PLf σ u p1.toInt) ∧ (∀ j : Int32, p1.toInt ≤ j.toInt → j.toInt < p1.toInt + 500 → ¬ j.toInt = p1.toInt + 9 → ga u 0 j = 0))) args s 0 0 (mA g)) (F0 m 24 ls [])) → W p l e ({ frames := 0, cells := 0, slots := 0, locals := 0 } : Room) s m args below meth c H locs 0 0 (MQ below (mQv g (f_X6_plain σ p1) (fun u => (PLf σ u p1.toInt) ∧ (∀ j : Int32, p1.toInt ≤ j.toInt → j.toInt < p1.toInt + 500 → ¬ j.toInt = p1.toInt + 9 → ga u 0 j = 0))) args s 0 0 (mA g)) (F0 m 2 ls []) := by
    intro n
    induction n with
    | zero =>
      intro x2_2 σL2 H locs ls hPL _ hm; exact absurd hm (Nat.not_lt_zero _)
    | succ n ih =>
      intro x2_2 σL2 H locs ls hPL hI2 hm h hl kk
      refine lv_iload_n hx hb dX6_plain_2 rfl (lv_at hl 2 rfl) ?_
      refine lv_sipush (v := 500) hx hb dX6_plain_3 (by decide) ?_
      refine lv_icmp_ge (tgt := 24) hx hb dX6_plain_6 (by decide) (fun c6 => ?_) (fun c6 => ?_)
      · have i6 := c_le c6
        exact kk x2_2 σL2 _ _ _ (show f_X6_plain_L2 p1 (n + 1) x2_2 σL2 = (x2_2, σL2) from (by exact ((if_pos c6).trans rfl))) hPL ⟨by omega, by omega, hI2.2.2⟩ h (lv_sub hl [0, 1] rfl)
      · have i6 := c_nle c6
        refine lv_aload_n hx hb dX6_plain_9 rfl (lv_at hl 0 rfl) ?_
        refine Mg_0 C h dX6_plain_10 ?_
        refine lv_iload_n hx hb dX6_plain_13 rfl (lv_at hl 1 rfl) ?_
        refine lv_iload_n hx hb dX6_plain_14 rfl (lv_at hl 2 rfl) ?_
        refine lv_iadd hx hb dX6_plain_15 ?_
        refine lv_iconst (v := 0) hx hb dX6_plain_16 (by decide) ?_
        refine Ms_0 C h (ix_of (i_add (rfl : p1.toInt = p1.toInt) (rfl : x2_2.toInt = x2_2.toInt) (by omega)) (by omega)) dX6_plain_17 (fun σ17 H locs eσ17 h => ?_)
        have hPL : PLf σ σ17 p1.toInt := by rw [eσ17]; exact (PLf_sa (i_add (rfl : p1.toInt = p1.toInt) (rfl : x2_2.toInt = x2_2.toInt) (by omega)) (by omega) hPL)
        refine lv_iinc (v := (x2_2 + (1 : Int32))) (lv' := [(2, .int (x2_2 + (1 : Int32))), (0, .ref (g.2.1 99)), (1, .int p1)]) hx hb dX6_plain_18 hl (k := 2) rfl rfl (by decide) rfl (fun ls hl => ?_)
        refine lv_goto (tgt := 2) hx hb dX6_plain_21 (by decide) ?_
        have tt2 : (x2_2 + (1 : Int32)).toInt = (x2_2.toInt + (1)) := (i_add (rfl : x2_2.toInt = x2_2.toInt) zl1 (by omega))
        exact ih (x2_2 + (1 : Int32)) σ17 _ _ _ hPL ⟨by omega, by omega, fun j h0 h1 => by rw [eσ17]; exact pz_sa (i_add rfl rfl (by omega)) (by omega) (fun j h0 h1 => hI2.2.2 j h0 h1) j h0 (by omega)⟩ (by omega) h (lv_sub hl [1, 2, 0] rfl) (fun x2_2' σL2' H locs ls en hPL hI h hl => kk x2_2' σL2' H locs ls ((show f_X6_plain_L2 p1 (n + 1) x2_2 σL2 = f_X6_plain_L2 p1 n (x2_2 + (1 : Int32)) σ17 from (by subst eσ17; exact ((if_neg c6).trans rfl))).trans en) hPL hI h hl)
  refine hL2 (501) (0 : Int32) σ _ _ _ hPL ⟨by omega, by omega, fun j h0 h1 => absurd h1 (by omega)⟩ (by omega) h (lv_sub hl [1, 2, 0] rfl) (fun x2_2e σL2e H locs ls eL2 hPL hI2 h hl => ?_)
  have ex2_2e : x2_2e = (f_X6_plain_L2 p1 (501) (0 : Int32) σ).1 := by rw [eL2]
  have eσL2e : σL2e = (f_X6_plain_L2 p1 (501) (0 : Int32) σ).2 := by rw [eL2]
  refine lv_aload_n hx hb dX6_plain_24 rfl (lv_at hl 0 rfl) ?_
  refine Mg_0 C h dX6_plain_25 ?_
  refine lv_iload_n hx hb dX6_plain_28 rfl (lv_at hl 1 rfl) ?_
  refine lv_bipush (v := 9) hx hb dX6_plain_29 (by decide) ?_
  refine lv_iadd hx hb dX6_plain_31 ?_
  refine lv_iconst (v := -1) hx hb dX6_plain_32 (by decide) ?_
  refine Ms_0 C h (ix_of (i_add (rfl : p1.toInt = p1.toInt) zl9 (by omega)) (by omega)) dX6_plain_33 (fun σ33 H locs eσ33 h => ?_)
  have hPL : PLf σ σ33 p1.toInt := by rw [eσ33]; exact (PLf_sa (i_add (rfl : p1.toInt = p1.toInt) zl9 (by omega)) (by omega) hPL)
  have he : f_X6_plain σ p1 = σ33 := (by subst ex2_2e; subst eσL2e; subst eσ33; exact rfl)
  exact M_retv C h hr hlocks he ⟨hPL, (fun j h0 h1 h2 => by rw [eσ33, ga_sa_ne (i_add rfl zl9 (by omega)) rfl (by omega)]; exact hI2.2.2 j h0 (by omega))⟩ dX6_plain_34
def f_X6_tray_L49 (y1_49 : Int32) (y3_49 : Int32) : Nat → Int32 → MS → Int32 × MS
  | 0, x4_49, σL49 => (x4_49, σL49)
  | n + 1, x4_49, σL49 => if y3_49 ≤ x4_49 then ((x4_49, σL49)) else ((let σ67 := sb σL49 7 (((60 : Int32) * y1_49) + x4_49) (0 : Int64); f_X6_tray_L49 y1_49 y3_49 n (x4_49 + (1 : Int32)) σ67))
def f_X6_tray (σ : MS) (p1 : Int32) (p2 : Int32) (p3 : Int32) : MS × Int32 := (let r1 := (f_X6_isTray p1); if r1 = (0 : Int32) then ((let z28 := (f_X6_is σ (1 : Int32)); let σ28 := z28.1; let r28 := z28.2; (σ28, r28))) else (if p2 < (0 : Int32) then ((let z28 := (f_X6_is σ (1 : Int32)); let σ28 := z28.1; let r28 := z28.2; (σ28, r28))) else (if (3 : Int32) < p2 then ((let z28 := (f_X6_is σ (1 : Int32)); let σ28 := z28.1; let r28 := z28.2; (σ28, r28))) else (if p3 < (0 : Int32) then ((let z28 := (f_X6_is σ (1 : Int32)); let σ28 := z28.1; let r28 := z28.2; (σ28, r28))) else (if p3 ≤ (60 : Int32) then ((let σ38 := sa σ 5 p1 p2; let σ45 := sa σ38 6 p1 p3; (let zL49 := f_X6_tray_L49 p1 p3 (61) (0 : Int32) σ45; let x4_49e := zL49.1; let σL49e := zL49.2; (let z76 := (f_X6_is σL49e (0 : Int32)); let σ76 := z76.1; let r76 := z76.2; (σ76, r76))))) else ((let z28 := (f_X6_is σ (1 : Int32)); let σ28 := z28.1; let r28 := z28.2; (σ28, r28))))))))
set_option maxHeartbeats 4000000 in
set_option maxRecDepth 100000 in
theorem k_X6_tray (l : Launch) (g : GE) (σ : MS) (p1 : Int32) (p2 : Int32) (p3 : Int32) : Met l yX6_tray (ws_ yX6_tray cX6_tray 5 (some .boolean)) ({ frames := 1, cells := 0, slots := 0, locals := 21 } : Room) (mPc g σ [.int p1, .int p2, .int p3]) (mQz g (f_X6_tray σ p1 p2 p3).1 (f_X6_tray σ p1 p2 p3).2 (fun u r => True)) 0 0 (mA g) := by
  refine met_M (by decide) rfl (Nat.le_of_ble_eq_true rfl) ?_
  intro p e s m args below meth c C hr hlocks h ls hl
  have hx := C.1.1
  have hb := C.1.2.1
  have hml := C.1.2.2.1
  have hown := C.1.2.2.2.1
  have hts := C.1.2.2.2.2
  have hl : lv_has ls 5 [(0, .ref (g.2.1 99)), (1, .int p1), (2, .int p2), (3, .int p3)] := hl
  have zl0 : (0 : Int32).toInt = 0 := rfl
  have zl1 : (1 : Int32).toInt = 1 := rfl
  have zl3 : (3 : Int32).toInt = 3 := rfl
  have zl60 : (60 : Int32).toInt = 60 := rfl
  refine lv_iload_n hx hb dX6_tray_0 rfl (lv_at hl 1 rfl) ?_
  refine s_callz (As := [.int p1]) (rest := []) 1 C.1 (k_X6_isTray l p1) (lw_S q1660 q1661 q152 q1662) rfl rfl (by decide +kernel) ⟨Nat.le_of_ble_eq_true rfl, Nat.le_of_ble_eq_true rfl⟩ rfl hl.1 rfl (Nat.le_of_ble_eq_true rfl) ⟨Nat.le_of_ble_eq_true rfl, Nat.le_of_ble_eq_true rfl⟩ dX6_tray_1 h.2.2 (fun r1 H locs er1 br1 hz1 hk1 hS1 => ?_)
  have h := h.same hk1 hS1
  clear hz1 hk1 hS1
  refine lv_if_eq (tgt := 26) hx hb dX6_tray_4 (by decide) (fun c4 => ?_) (fun c4 => ?_)
  · have i4 := c_eq c4
    refine lv_aload_n hx hb dX6_tray_26 rfl (lv_at hl 0 rfl) ?_
    refine lv_iconst (v := 1) hx hb dX6_tray_27 (by decide) ?_
    refine M_callz (As := [.int (1 : Int32)]) (rest := []) 1 C h (k_X6_is l g σ (1 : Int32)) (lw_V q1663 q1665 qs65 q152 q1666) rfl rfl (by decide +kernel) ⟨Nat.le_of_ble_eq_true rfl, Nat.le_of_ble_eq_true rfl⟩ rfl hl.1 rfl (Nat.le_of_ble_eq_true rfl) ⟨Nat.le_of_ble_eq_true rfl, Nat.le_of_ble_eq_true rfl⟩ dX6_tray_28 (fun r28 σ28 H locs eσ28 er28 br28 hE28 h => ?_)
    clear hE28
    have he : f_X6_tray σ p1 p2 p3 = (σ28, r28) := (by subst er1; subst eσ28; subst er28; exact ((if_pos c4).trans rfl))
    exact M_retz C h hr hlocks (congrArg Prod.fst he) (congrArg Prod.snd he) br28 trivial dX6_tray_31
  · have i4 := c_ne c4
    have okr1 := isTray_ok er1 c4
    refine lv_iload_n hx hb dX6_tray_7 rfl (lv_at hl 2 rfl) ?_
    refine lv_if_lt (tgt := 26) hx hb dX6_tray_8 (by decide) (fun c8 => ?_) (fun c8 => ?_)
    · have i8 := c_lt c8
      refine lv_aload_n hx hb dX6_tray_26 rfl (lv_at hl 0 rfl) ?_
      refine lv_iconst (v := 1) hx hb dX6_tray_27 (by decide) ?_
      refine M_callz (As := [.int (1 : Int32)]) (rest := []) 1 C h (k_X6_is l g σ (1 : Int32)) (lw_V q1663 q1665 qs65 q152 q1666) rfl rfl (by decide +kernel) ⟨Nat.le_of_ble_eq_true rfl, Nat.le_of_ble_eq_true rfl⟩ rfl hl.1 rfl (Nat.le_of_ble_eq_true rfl) ⟨Nat.le_of_ble_eq_true rfl, Nat.le_of_ble_eq_true rfl⟩ dX6_tray_28 (fun r28 σ28 H locs eσ28 er28 br28 hE28 h => ?_)
      clear hE28
      have he : f_X6_tray σ p1 p2 p3 = (σ28, r28) := (by subst er1; subst eσ28; subst er28; exact ((if_neg c4).trans ((if_pos c8).trans rfl)))
      exact M_retz C h hr hlocks (congrArg Prod.fst he) (congrArg Prod.snd he) br28 trivial dX6_tray_31
    · have i8 := c_nlt c8
      refine lv_iload_n hx hb dX6_tray_11 rfl (lv_at hl 2 rfl) ?_
      refine lv_iconst (v := 3) hx hb dX6_tray_12 (by decide) ?_
      refine lv_icmp_gt (tgt := 26) hx hb dX6_tray_13 (by decide) (fun c13 => ?_) (fun c13 => ?_)
      · have i13 := c_lt c13
        refine lv_aload_n hx hb dX6_tray_26 rfl (lv_at hl 0 rfl) ?_
        refine lv_iconst (v := 1) hx hb dX6_tray_27 (by decide) ?_
        refine M_callz (As := [.int (1 : Int32)]) (rest := []) 1 C h (k_X6_is l g σ (1 : Int32)) (lw_V q1663 q1665 qs65 q152 q1666) rfl rfl (by decide +kernel) ⟨Nat.le_of_ble_eq_true rfl, Nat.le_of_ble_eq_true rfl⟩ rfl hl.1 rfl (Nat.le_of_ble_eq_true rfl) ⟨Nat.le_of_ble_eq_true rfl, Nat.le_of_ble_eq_true rfl⟩ dX6_tray_28 (fun r28 σ28 H locs eσ28 er28 br28 hE28 h => ?_)
        clear hE28
        have he : f_X6_tray σ p1 p2 p3 = (σ28, r28) := (by subst er1; subst eσ28; subst er28; exact ((if_neg c4).trans ((if_neg c8).trans ((if_pos c13).trans rfl))))
        exact M_retz C h hr hlocks (congrArg Prod.fst he) (congrArg Prod.snd he) br28 trivial dX6_tray_31
      · have i13 := c_nlt c13
        refine lv_iload_n hx hb dX6_tray_16 rfl (lv_at hl 3 rfl) ?_
        refine lv_if_lt (tgt := 26) hx hb dX6_tray_17 (by decide) (fun c17 => ?_) (fun c17 => ?_)
        · have i17 := c_lt c17
          refine lv_aload_n hx hb dX6_tray_26 rfl (lv_at hl 0 rfl) ?_
          refine lv_iconst (v := 1) hx hb dX6_tray_27 (by decide) ?_
          refine M_callz (As := [.int (1 : Int32)]) (rest := []) 1 C h (k_X6_is l g σ (1 : Int32)) (lw_V q1663 q1665 qs65 q152 q1666) rfl rfl (by decide +kernel) ⟨Nat.le_of_ble_eq_true rfl, Nat.le_of_ble_eq_true rfl⟩ rfl hl.1 rfl (Nat.le_of_ble_eq_true rfl) ⟨Nat.le_of_ble_eq_true rfl, Nat.le_of_ble_eq_true rfl⟩ dX6_tray_28 (fun r28 σ28 H locs eσ28 er28 br28 hE28 h => ?_)
          clear hE28
          have he : f_X6_tray σ p1 p2 p3 = (σ28, r28) := (by subst er1; subst eσ28; subst er28; exact ((if_neg c4).trans ((if_neg c8).trans ((if_neg c13).trans ((if_pos c17).trans rfl)))))
          exact M_retz C h hr hlocks (congrArg Prod.fst he) (congrArg Prod.snd he) br28 trivial dX6_tray_31
        · have i17 := c_nlt c17
          refine lv_iload_n hx hb dX6_tray_20 rfl (lv_at hl 3 rfl) ?_
          refine lv_bipush (v := 60) hx hb dX6_tray_21 (by decide) ?_
          refine lv_icmp_le (tgt := 32) hx hb dX6_tray_23 (by decide) (fun c23 => ?_) (fun c23 => ?_)
          · have i23 := c_le c23
            refine lv_aload_n hx hb dX6_tray_32 rfl (lv_at hl 0 rfl) ?_
            refine Mg_5 C h dX6_tray_33 ?_
            refine lv_iload_n hx hb dX6_tray_36 rfl (lv_at hl 1 rfl) ?_
            refine lv_iload_n hx hb dX6_tray_37 rfl (lv_at hl 2 rfl) ?_
            refine Ms_5 C h (ix_of (rfl : p1.toInt = p1.toInt) (by omega)) dX6_tray_38 (fun σ38 H locs eσ38 h => ?_)
            refine lv_aload_n hx hb dX6_tray_39 rfl (lv_at hl 0 rfl) ?_
            refine Mg_6 C h dX6_tray_40 ?_
            refine lv_iload_n hx hb dX6_tray_43 rfl (lv_at hl 1 rfl) ?_
            refine lv_iload_n hx hb dX6_tray_44 rfl (lv_at hl 3 rfl) ?_
            refine Ms_6 C h (ix_of (rfl : p1.toInt = p1.toInt) (by omega)) dX6_tray_45 (fun σ45 H locs eσ45 h => ?_)
            refine lv_iconst (v := 0) hx hb dX6_tray_46 (by decide) ?_
            refine lv_istore (lv' := [(4, .int (0 : Int32)), (0, .ref (g.2.1 99)), (1, .int p1), (2, .int p2), (3, .int p3)]) hx hb dX6_tray_47 hl (by decide) rfl (fun ls hl => ?_)
            have hL49 : ∀ (n : Nat) (x4_49 : Int32) (σL49 : MS) (H : Heap) (locs : List Loc) (ls : Array Slot), (0 ≤ x4_49.toInt ∧ x4_49.toInt ≤ p3.toInt) → (p3.toInt - x4_49.toInt).toNat < n → MH g σL49 s H locs → lv_has ls 5 [(0, .ref (g.2.1 99)), (1, .int p1), (3, .int p3), (4, .int x4_49)] → (∀ (x4_49' : Int32) (σL49' : MS) (H : Heap) (locs : List Loc) (ls : Array Slot), f_X6_tray_L49 p1 p3 n x4_49 σL49 = (x4_49', σL49') → (0 ≤ x4_49'.toInt ∧ x4_49'.toInt ≤ p3.toInt) → MH g σL49' s H locs → lv_has ls 5 [(0, .ref (g.2.1 99))] → W p l e ({ frames := 1, cells := 0, slots := 0, locals := 21 } : Room) s m args below meth c H locs 0 0 (MQ below (mQz g (f_X6_tray σ p1 p2 p3).1 (f_X6_tray σ p1 p2 p3).2 (fun u r => True)) args s 0 0 (mA g)) (F0 m 74 ls [])) → W p l e ({ frames := 1, cells := 0, slots := 0, locals := 21 } : Room) s m args below meth c H locs 0 0 (MQ below (mQz g (f_X6_tray σ p1 p2 p3).1 (f_X6_tray σ p1 p2 p3).2 (fun u r => True)) args s 0 0 (mA g)) (F0 m 49 ls []) := by
              intro n
              induction n with
              | zero =>
                intro x4_49 σL49 H locs ls _ hm; exact absurd hm (Nat.not_lt_zero _)
              | succ n ih =>
                intro x4_49 σL49 H locs ls hI49 hm h hl kk
                refine lv_iload hx hb dX6_tray_49 (lv_at hl 3 rfl) ?_
                refine lv_iload_n hx hb dX6_tray_51 rfl (lv_at hl 2 rfl) ?_
                refine lv_icmp_ge (tgt := 74) hx hb dX6_tray_52 (by decide) (fun c52 => ?_) (fun c52 => ?_)
                · have i52 := c_le c52
                  exact kk x4_49 σL49 _ _ _ (show f_X6_tray_L49 p1 p3 (n + 1) x4_49 σL49 = (x4_49, σL49) from (by exact ((if_pos c52).trans rfl)))  (by first | assumption | omega) h (lv_sub hl [0] rfl)
                · have i52 := c_nle c52
                  refine lv_aload_n hx hb dX6_tray_55 rfl (lv_at hl 0 rfl) ?_
                  refine Mg_7 C h dX6_tray_56 ?_
                  refine lv_bipush (v := 60) hx hb dX6_tray_59 (by decide) ?_
                  refine lv_iload_n hx hb dX6_tray_61 rfl (lv_at hl 1 rfl) ?_
                  refine lv_imul hx hb dX6_tray_62 ?_
                  refine lv_iload hx hb dX6_tray_63 (lv_at hl 3 rfl) ?_
                  refine lv_iadd hx hb dX6_tray_65 ?_
                  refine lv_lconst (v := 0) hx hb dX6_tray_66 (by decide) ?_
                  refine Ms_7 C h (ix_of (i_add (i_mul zl60 (rfl : p1.toInt = p1.toInt) (by omega)) (rfl : x4_49.toInt = x4_49.toInt) (by omega)) (by omega)) dX6_tray_67 (fun σ67 H locs eσ67 h => ?_)
                  refine lv_iinc (v := (x4_49 + (1 : Int32))) (lv' := [(4, .int (x4_49 + (1 : Int32))), (0, .ref (g.2.1 99)), (1, .int p1), (3, .int p3)]) hx hb dX6_tray_68 hl (k := 3) rfl rfl (by decide) rfl (fun ls hl => ?_)
                  refine lv_goto (tgt := 49) hx hb dX6_tray_71 (by decide) ?_
                  have tt4 : (x4_49 + (1 : Int32)).toInt = (x4_49.toInt + (1)) := (i_add (rfl : x4_49.toInt = x4_49.toInt) zl1 (by omega))
                  exact ih (x4_49 + (1 : Int32)) σ67 _ _ _  (by first | assumption | omega) (by omega) h (lv_sub hl [1, 2, 3, 0] rfl) (fun x4_49' σL49' H locs ls en hI h hl => kk x4_49' σL49' H locs ls ((show f_X6_tray_L49 p1 p3 (n + 1) x4_49 σL49 = f_X6_tray_L49 p1 p3 n (x4_49 + (1 : Int32)) σ67 from (by subst eσ67; exact ((if_neg c52).trans rfl))).trans en) hI h hl)
            refine hL49 (61) (0 : Int32) σ45 _ _ _  (by first | assumption | omega) (by omega) h (lv_sub hl [1, 2, 4, 0] rfl) (fun x4_49e σL49e H locs ls eL49 hI49 h hl => ?_)
            have ex4_49e : x4_49e = (f_X6_tray_L49 p1 p3 (61) (0 : Int32) σ45).1 := by rw [eL49]
            have eσL49e : σL49e = (f_X6_tray_L49 p1 p3 (61) (0 : Int32) σ45).2 := by rw [eL49]
            refine lv_aload_n hx hb dX6_tray_74 rfl (lv_at hl 0 rfl) ?_
            refine lv_iconst (v := 0) hx hb dX6_tray_75 (by decide) ?_
            refine M_callz (As := [.int (0 : Int32)]) (rest := []) 1 C h (k_X6_is l g σL49e (0 : Int32)) (lw_V q1663 q1665 qs65 q152 q1666) rfl rfl (by decide +kernel) ⟨Nat.le_of_ble_eq_true rfl, Nat.le_of_ble_eq_true rfl⟩ rfl hl.1 rfl (Nat.le_of_ble_eq_true rfl) ⟨Nat.le_of_ble_eq_true rfl, Nat.le_of_ble_eq_true rfl⟩ dX6_tray_76 (fun r76 σ76 H locs eσ76 er76 br76 hE76 h => ?_)
            clear hE76
            have he : f_X6_tray σ p1 p2 p3 = (σ76, r76) := (by subst er1; subst eσ38; subst eσ45; subst ex4_49e; subst eσL49e; subst eσ76; subst er76; exact ((if_neg c4).trans ((if_neg c8).trans ((if_neg c13).trans ((if_neg c17).trans ((if_pos c23).trans rfl))))))
            exact M_retz C h hr hlocks (congrArg Prod.fst he) (congrArg Prod.snd he) br76 trivial dX6_tray_79
          · have i23 := c_nle c23
            refine lv_aload_n hx hb dX6_tray_26 rfl (lv_at hl 0 rfl) ?_
            refine lv_iconst (v := 1) hx hb dX6_tray_27 (by decide) ?_
            refine M_callz (As := [.int (1 : Int32)]) (rest := []) 1 C h (k_X6_is l g σ (1 : Int32)) (lw_V q1663 q1665 qs65 q152 q1666) rfl rfl (by decide +kernel) ⟨Nat.le_of_ble_eq_true rfl, Nat.le_of_ble_eq_true rfl⟩ rfl hl.1 rfl (Nat.le_of_ble_eq_true rfl) ⟨Nat.le_of_ble_eq_true rfl, Nat.le_of_ble_eq_true rfl⟩ dX6_tray_28 (fun r28 σ28 H locs eσ28 er28 br28 hE28 h => ?_)
            clear hE28
            have he : f_X6_tray σ p1 p2 p3 = (σ28, r28) := (by subst er1; subst eσ28; subst er28; exact ((if_neg c4).trans ((if_neg c8).trans ((if_neg c13).trans ((if_neg c17).trans ((if_neg c23).trans rfl))))))
            exact M_retz C h hr hlocks (congrArg Prod.fst he) (congrArg Prod.snd he) br28 trivial dX6_tray_31
theorem bits_dec (k : Int32) (h : ¬ k = 0) : (k &&& (k - 1)).toBitVec.toNat < k.toBitVec.toNat := by
  have hk : k.toBitVec ≠ 0#32 := fun q => h (Int32.toBitVec_inj.mp q)
  have e : (k &&& (k - 1)).toBitVec = k.toBitVec &&& (k.toBitVec - 1#32) := rfl
  rw [e]
  generalize k.toBitVec = b at hk ⊢
  have hb : b.toNat ≠ 0 := fun q => hk (BitVec.eq_of_toNat_eq (by simpa using q))
  have hl := b.isLt
  rw [BitVec.toNat_and]
  have h1 : (b - 1#32).toNat = b.toNat - 1 := by
    rw [BitVec.toNat_sub]; simp; omega
  rw [h1]
  have := Nat.and_le_right (n := b.toNat) (m := b.toNat - 1)
  omega
def f_X6_bits_L4 : Nat → Int32 → Int32 → Int32 × Int32
  | 0, x1_4, x2_4 => (x1_4, x2_4)
  | n + 1, x1_4, x2_4 => if x2_4 = (0 : Int32) then ((x1_4, x2_4)) else ((let v16 := (x2_4 &&& (x2_4 - (1 : Int32))); f_X6_bits_L4 n (x1_4 + (1 : Int32)) v16))
def f_X6_bits (p0 : Int32) : Int32 := (let zL4 := f_X6_bits_L4 (p0.toBitVec.toNat + 1) (0 : Int32) p0; let x1_4e := zL4.1; let x2_4e := zL4.2; x1_4e)
set_option maxHeartbeats 4000000 in
set_option maxRecDepth 100000 in
theorem k_X6_bits (l : Launch) (p0 : Int32) : Met l yX6_bits (ws_ yX6_bits cX6_bits 3 (some .int)) ({ frames := 0, cells := 0, slots := 0, locals := 0 } : Room) (sPc [.int p0]) (sQi (f_X6_bits p0)) 0 0 (fun _ => False) := by
  refine met_S RX6 (by decide) rfl rfl (Nat.le_of_ble_eq_true rfl) ?_
  intro p e s m args below meth c C hr hlocks _ _ _ ls hl
  have hx := C.1
  have hb := C.2.1
  have hml := C.2.2.1
  have hown := C.2.2.2.1
  have hts := C.2.2.2.2
  have h : va_S (fun _ => False) s.heap s.heap [] := va_S.rf
  have hl : lv_has ls 3 [(0, .int p0)] := hl
  have zl0 : (0 : Int32).toInt = 0 := rfl
  have zl1 : (1 : Int32).toInt = 1 := rfl
  refine lv_iconst (v := 0) hx hb dX6_bits_0 (by decide) ?_
  refine lv_istore_n (lv' := [(1, .int (0 : Int32)), (0, .int p0)]) hx hb dX6_bits_1 rfl hl (by decide) rfl (fun ls hl => ?_)
  refine lv_iload_n hx hb dX6_bits_2 rfl (lv_at hl 1 rfl) ?_
  refine lv_istore_n (lv' := [(2, .int p0), (1, .int (0 : Int32)), (0, .int p0)]) hx hb dX6_bits_3 rfl hl (by decide) rfl (fun ls hl => ?_)
  have hL4 : ∀ (n : Nat) (x1_4 : Int32) (x2_4 : Int32) (H : Heap) (locs : List Loc) (ls : Array Slot), (True) → x2_4.toBitVec.toNat < n → va_S (fun _ => False) s.heap H locs → lv_has ls 3 [(1, .int x1_4), (2, .int x2_4)] → (∀ (x1_4' : Int32) (x2_4' : Int32) (H : Heap) (locs : List Loc) (ls : Array Slot), f_X6_bits_L4 n x1_4 x2_4 = (x1_4', x2_4') → (True) → va_S (fun _ => False) s.heap H locs → lv_has ls 3 [(1, .int x1_4')] → W p l e ({ frames := 0, cells := 0, slots := 0, locals := 0 } : Room) s m args below meth c H locs 0 0 (MQ below (sQi (f_X6_bits p0)) args s 0 0 (fun _ => False)) (F0 m 20 ls [])) → W p l e ({ frames := 0, cells := 0, slots := 0, locals := 0 } : Room) s m args below meth c H locs 0 0 (MQ below (sQi (f_X6_bits p0)) args s 0 0 (fun _ => False)) (F0 m 4 ls []) := by
    intro n
    induction n with
    | zero =>
      intro x1_4 x2_4 H locs ls _ hm; exact absurd hm (Nat.not_lt_zero _)
    | succ n ih =>
      intro x1_4 x2_4 H locs ls hI4 hm h hl kk
      refine lv_iload_n hx hb dX6_bits_4 rfl (lv_at hl 1 rfl) ?_
      refine lv_if_eq (tgt := 20) hx hb dX6_bits_5 (by decide) (fun c5 => ?_) (fun c5 => ?_)
      · have i5 := c_eq c5
        exact kk x1_4 x2_4 _ _ _ (show f_X6_bits_L4 (n + 1) x1_4 x2_4 = (x1_4, x2_4) from (by exact ((if_pos c5).trans rfl)))  trivial h (lv_sub hl [0] rfl)
      · have i5 := c_ne c5
        refine lv_iinc (v := (x1_4 + (1 : Int32))) (lv' := [(1, .int (x1_4 + (1 : Int32))), (2, .int x2_4)]) hx hb dX6_bits_8 hl (k := 0) rfl rfl (by decide) rfl (fun ls hl => ?_)
        refine lv_iload_n hx hb dX6_bits_11 rfl (lv_at hl 1 rfl) ?_
        refine lv_iload_n hx hb dX6_bits_12 rfl (lv_at hl 1 rfl) ?_
        refine lv_iconst (v := 1) hx hb dX6_bits_13 (by decide) ?_
        refine lv_isub hx hb dX6_bits_14 ?_
        refine lv_iand hx hb dX6_bits_15 ?_
        refine lv_topi (fun v16 ev16 => ?_)
        refine lv_istore_n (lv' := [(2, .int v16), (1, .int (x1_4 + (1 : Int32)))]) hx hb dX6_bits_16 rfl hl (by decide) rfl (fun ls hl => ?_)
        refine lv_goto (tgt := 4) hx hb dX6_bits_17 (by decide) ?_
        have hbd : v16.toBitVec.toNat < x2_4.toBitVec.toNat := by rw [ev16]; exact bits_dec x2_4 c5
        exact ih (x1_4 + (1 : Int32)) v16 _ _ _  trivial (by omega) h (lv_sub hl [1, 0] rfl) (fun x1_4' x2_4' H locs ls en hI h hl => kk x1_4' x2_4' H locs ls ((show f_X6_bits_L4 (n + 1) x1_4 x2_4 = f_X6_bits_L4 n (x1_4 + (1 : Int32)) v16 from (by subst ev16; exact ((if_neg c5).trans rfl))).trans en) hI h hl)
  refine hL4 (p0.toBitVec.toNat + 1) (0 : Int32) p0 _ _ _  trivial (by omega) h (lv_sub hl [1, 0] rfl) (fun x1_4e x2_4e H locs ls eL4 hI4 h hl => ?_)
  have ex1_4e : x1_4e = (f_X6_bits_L4 (p0.toBitVec.toNat + 1) (0 : Int32) p0).1 := by rw [eL4]
  have ex2_4e : x2_4e = (f_X6_bits_L4 (p0.toBitVec.toNat + 1) (0 : Int32) p0).2 := by rw [eL4]
  refine lv_iload_n hx hb dX6_bits_20 rfl (lv_at hl 0 rfl) ?_
  have he : f_X6_bits p0 = x1_4e := (by subst ex1_4e; subst ex2_4e; exact rfl)
  exact s_reti C hr hlocks h he dX6_bits_21
theorem bits_k : ∀ n, n < 64 → f_X6_bits (nI n) = 0 → n = 0 := by decide +kernel
theorem bits_ne {x p : Int32} (h : 0 ≤ x.toInt ∧ x.toInt ≤ 63) (hp : 0 ≤ p.toInt ∧ p.toInt ≤ 31) (c : ¬ (x >>> (p &&& 31)) &&& 1 = 0) : ¬ f_X6_bits x = 0 := by
  obtain ⟨j, hj, rfl⟩ := small_nI (n := 63) h
  obtain ⟨k, hk, rfl⟩ := small_nI (n := 31) hp
  intro q
  have := bits_k j (by omega) q
  subst this
  exact c (sk_k k (by omega))
def f_X6_everybody (σ : MS) : Int32 := (((1 : Int32) <<< ((ga σ 0 (0 : Int32)) &&& (31 : Int32))) - (1 : Int32))
set_option maxHeartbeats 4000000 in
set_option maxRecDepth 100000 in
theorem k_X6_everybody (l : Launch) (g : GE) (σ : MS) : Met l yX6_everybody (ws_ yX6_everybody cX6_everybody 1 (some .int)) ({ frames := 0, cells := 0, slots := 0, locals := 0 } : Room) (mPc g σ []) (mQi g σ (f_X6_everybody σ) (fun u r => True)) 0 0 (mA g) := by
  refine met_M (by decide) rfl (Nat.le_of_ble_eq_true rfl) ?_
  intro p e s m args below meth c C hr hlocks h ls hl
  have hx := C.1.1
  have hb := C.1.2.1
  have hml := C.1.2.2.1
  have hown := C.1.2.2.2.1
  have hts := C.1.2.2.2.2
  have hl : lv_has ls 1 [(0, .ref (g.2.1 99))] := hl
  have zl0 : (0 : Int32).toInt = 0 := rfl
  have zl1 : (1 : Int32).toInt = 1 := rfl
  refine lv_iconst (v := 1) hx hb dX6_everybody_0 (by decide) ?_
  refine lv_aload_n hx hb dX6_everybody_1 rfl (lv_at hl 0 rfl) ?_
  refine Mg_0 C h dX6_everybody_2 ?_
  refine lv_iconst (v := 0) hx hb dX6_everybody_5 (by decide) ?_
  refine Ml_0 C h (ix_of zl0 (by omega)) dX6_everybody_6 ?_
  refine lv_ishl hx hb dX6_everybody_7 ?_
  refine lv_iconst (v := 1) hx hb dX6_everybody_8 (by decide) ?_
  refine lv_isub hx hb dX6_everybody_9 ?_
  have he : f_X6_everybody σ = (((1 : Int32) <<< ((ga σ 0 (0 : Int32)) &&& (31 : Int32))) - (1 : Int32)) := (by exact rfl)
  exact M_reti C h hr hlocks rfl he trivial dX6_everybody_10
theorem everybody_rng {σ : MS} {r : Int32} (hp : 0 ≤ (ga σ 0 (0 : Int32)).toInt ∧ (ga σ 0 (0 : Int32)).toInt ≤ 6) (h : r = f_X6_everybody σ) : 0 ≤ r.toInt ∧ r.toInt ≤ 63 := by
  obtain ⟨j, hj, e⟩ := small_nI (n := 6) hp
  rw [h]
  show 0 ≤ (((1 : Int32) <<< ((ga σ 0 0) &&& 31)) - 1).toInt ∧ _
  rw [show f_X6_everybody σ = ((1 : Int32) <<< ((ga σ 0 0) &&& 31)) - 1 from rfl, e]
  exact ev_k j (by omega)
def f_X6_heads (σ : MS) : Int32 := (let r8 := (f_X6_everybody σ); if (ga σ 0 (7 : Int32)) = r8 then ((let r15 := (f_X6_everybody σ); r15)) else ((let r22 := (f_X6_everybody σ); (r22 &&& ((ga σ 0 (7 : Int32)) ^^^ (-1 : Int32))))))
set_option maxHeartbeats 4000000 in
set_option maxRecDepth 100000 in
theorem k_X6_heads (l : Launch) (g : GE) (σ : MS) : Met l yX6_heads (ws_ yX6_heads cX6_heads 1 (some .int)) ({ frames := 1, cells := 0, slots := 0, locals := 20 } : Room) (mPc g σ []) (mQi g σ (f_X6_heads σ) (fun u r => True)) 0 0 (mA g) := by
  refine met_M (by decide) rfl (Nat.le_of_ble_eq_true rfl) ?_
  intro p e s m args below meth c C hr hlocks h ls hl
  have hx := C.1.1
  have hb := C.1.2.1
  have hml := C.1.2.2.1
  have hown := C.1.2.2.2.1
  have hts := C.1.2.2.2.2
  have hl : lv_has ls 1 [(0, .ref (g.2.1 99))] := hl
  have zlm1 : (-1 : Int32).toInt = -1 := rfl
  have zl7 : (7 : Int32).toInt = 7 := rfl
  refine lv_aload_n hx hb dX6_heads_0 rfl (lv_at hl 0 rfl) ?_
  refine Mg_0 C h dX6_heads_1 ?_
  refine lv_bipush (v := 7) hx hb dX6_heads_4 (by decide) ?_
  refine Ml_0 C h (ix_of zl7 (by omega)) dX6_heads_6 ?_
  refine lv_aload_n hx hb dX6_heads_7 rfl (lv_at hl 0 rfl) ?_
  refine M_calli (As := []) (rest := [.int (ga σ 0 (7 : Int32))]) 0 C h (k_X6_everybody l g σ) (lw_V q1846 q1848 qs99 q152 q1849) rfl rfl (by decide +kernel) ⟨Nat.le_of_ble_eq_true rfl, Nat.le_of_ble_eq_true rfl⟩ rfl hl.1 rfl (Nat.le_of_ble_eq_true rfl) ⟨Nat.le_of_ble_eq_true rfl, Nat.le_of_ble_eq_true rfl⟩ dX6_heads_8 (fun r8 σ8 H locs eσ8 er8 hE8 h => ?_)
  rw [eσ8] at h
  clear hE8
  clear eσ8
  refine lv_icmp_ne (tgt := 21) hx hb dX6_heads_11 (by decide) (fun c11 => ?_) (fun c11 => ?_)
  · have i11 := c_ne c11
    refine lv_aload_n hx hb dX6_heads_21 rfl (lv_at hl 0 rfl) ?_
    refine M_calli (As := []) (rest := []) 0 C h (k_X6_everybody l g σ) (lw_V q1846 q1848 qs99 q152 q1849) rfl rfl (by decide +kernel) ⟨Nat.le_of_ble_eq_true rfl, Nat.le_of_ble_eq_true rfl⟩ rfl hl.1 rfl (Nat.le_of_ble_eq_true rfl) ⟨Nat.le_of_ble_eq_true rfl, Nat.le_of_ble_eq_true rfl⟩ dX6_heads_22 (fun r22 σ22 H locs eσ22 er22 hE22 h => ?_)
    rw [eσ22] at h
    clear hE22
    clear eσ22
    refine lv_aload_n hx hb dX6_heads_25 rfl (lv_at hl 0 rfl) ?_
    refine Mg_0 C h dX6_heads_26 ?_
    refine lv_bipush (v := 7) hx hb dX6_heads_29 (by decide) ?_
    refine Ml_0 C h (ix_of zl7 (by omega)) dX6_heads_31 ?_
    refine lv_iconst (v := -1) hx hb dX6_heads_32 (by decide) ?_
    refine lv_ixor hx hb dX6_heads_33 ?_
    refine lv_iand hx hb dX6_heads_34 ?_
    have he : f_X6_heads σ = (r22 &&& ((ga σ 0 (7 : Int32)) ^^^ (-1 : Int32))) := (by subst er8; subst er22; exact ((if_neg c11).trans rfl))
    exact M_reti C h hr hlocks rfl he trivial dX6_heads_35
  · have i11 := c_eq c11
    refine lv_aload_n hx hb dX6_heads_14 rfl (lv_at hl 0 rfl) ?_
    refine M_calli (As := []) (rest := []) 0 C h (k_X6_everybody l g σ) (lw_V q1846 q1848 qs99 q152 q1849) rfl rfl (by decide +kernel) ⟨Nat.le_of_ble_eq_true rfl, Nat.le_of_ble_eq_true rfl⟩ rfl hl.1 rfl (Nat.le_of_ble_eq_true rfl) ⟨Nat.le_of_ble_eq_true rfl, Nat.le_of_ble_eq_true rfl⟩ dX6_heads_15 (fun r15 σ15 H locs eσ15 er15 hE15 h => ?_)
    rw [eσ15] at h
    clear hE15
    clear eσ15
    refine lv_goto (tgt := 35) hx hb dX6_heads_18 (by decide) ?_
    have he : f_X6_heads σ = r15 := (by subst er8; subst er15; exact ((if_pos c11).trans rfl))
    exact M_reti C h hr hlocks rfl he trivial dX6_heads_35
theorem heads_rng {σ : MS} {r : Int32} (hp : 0 ≤ (ga σ 0 (0 : Int32)).toInt ∧ (ga σ 0 (0 : Int32)).toInt ≤ 6) (h : r = f_X6_heads σ) : 0 ≤ r.toInt ∧ r.toInt ≤ 63 := by
  have q := everybody_rng hp rfl
  rw [h]
  unfold f_X6_heads
  dsimp only
  split
  · exact q
  · have := and_rng (y := ga σ 0 7 ^^^ (-1)) q.1
    omega
theorem heads_bits {σ : MS} {h p : Int32} (hp : 0 ≤ (ga σ 0 (0 : Int32)).toInt ∧ (ga σ 0 (0 : Int32)).toInt ≤ 6) (e : h = f_X6_heads σ) (hq : 0 ≤ p.toInt ∧ p.toInt ≤ 5) (c : (h >>> (p &&& 31)) &&& 1 = 1) : ¬ f_X6_bits (f_X6_heads σ) = 0 := by
  have hr := heads_rng hp e
  rw [← e]
  exact bits_ne (p := p) hr (by omega) (by rw [c]; decide)
def f_X6_isIn (σ : MS) (p1 : Int32) (p2 : Int32) : Int32 := if ((p1 >>> (p2 &&& (31 : Int32))) &&& (1 : Int32)) = (1 : Int32) then ((1 : Int32)) else ((0 : Int32))
set_option maxHeartbeats 4000000 in
set_option maxRecDepth 100000 in
theorem k_X6_isIn (l : Launch) (g : GE) (σ : MS) (p1 : Int32) (p2 : Int32) : Met l yX6_isIn (ws_ yX6_isIn cX6_isIn 3 (some .boolean)) ({ frames := 0, cells := 0, slots := 0, locals := 0 } : Room) (mPc g σ [.int p1, .int p2]) (mQz g σ (f_X6_isIn σ p1 p2) (fun u r => True)) 0 0 (mA g) := by
  refine met_M (by decide) rfl (Nat.le_of_ble_eq_true rfl) ?_
  intro p e s m args below meth c C hr hlocks h ls hl
  have hx := C.1.1
  have hb := C.1.2.1
  have hml := C.1.2.2.1
  have hown := C.1.2.2.2.1
  have hts := C.1.2.2.2.2
  have hl : lv_has ls 3 [(0, .ref (g.2.1 99)), (1, .int p1), (2, .int p2)] := hl
  have zl0 : (0 : Int32).toInt = 0 := rfl
  have zl1 : (1 : Int32).toInt = 1 := rfl
  refine lv_iload_n hx hb dX6_isIn_0 rfl (lv_at hl 1 rfl) ?_
  refine lv_iload_n hx hb dX6_isIn_1 rfl (lv_at hl 2 rfl) ?_
  refine lv_ishr hx hb dX6_isIn_2 ?_
  refine lv_iconst (v := 1) hx hb dX6_isIn_3 (by decide) ?_
  refine lv_iand hx hb dX6_isIn_4 ?_
  refine lv_iconst (v := 1) hx hb dX6_isIn_5 (by decide) ?_
  refine lv_icmp_ne (tgt := 13) hx hb dX6_isIn_6 (by decide) (fun c6 => ?_) (fun c6 => ?_)
  · have i6 := c_ne c6
    refine lv_iconst (v := 0) hx hb dX6_isIn_13 (by decide) ?_
    have he : f_X6_isIn σ p1 p2 = (0 : Int32) := (by exact ((if_neg c6).trans rfl))
    exact M_retz C h hr hlocks rfl he (Or.inl rfl) trivial dX6_isIn_14
  · have i6 := c_eq c6
    refine lv_iconst (v := 1) hx hb dX6_isIn_9 (by decide) ?_
    refine lv_goto (tgt := 14) hx hb dX6_isIn_10 (by decide) ?_
    have he : f_X6_isIn σ p1 p2 = (1 : Int32) := (by exact ((if_pos c6).trans rfl))
    exact M_retz C h hr hlocks rfl he (Or.inr rfl) trivial dX6_isIn_14
theorem isIn_ok {σ : MS} {x p r : Int32} (h : r = f_X6_isIn σ x p) (hr : ¬ r = 0) : (x >>> (p &&& 31)) &&& 1 = 1 := by
  unfold f_X6_isIn at h
  split at h
  · assumption
  · exact absurd h hr
def f_X6_bill_L4 (σ : MS) : Nat → Int32 → Int32 → Int32 × Int32
  | 0, x1_4, x2_4 => (x1_4, x2_4)
  | n + 1, x1_4, x2_4 => if (ga σ 0 (2 : Int32)) ≤ x2_4 then ((x1_4, x2_4)) else ((let v27 := (x1_4 + (ga σ 0 ((60 : Int32) + ((2 : Int32) * x2_4)))); f_X6_bill_L4 σ n v27 (x2_4 + (1 : Int32))))
def f_X6_bill (σ : MS) : Int32 := (let zL4 := f_X6_bill_L4 σ (17) (0 : Int32) (0 : Int32); let x1_4e := zL4.1; let x2_4e := zL4.2; x1_4e)
set_option maxHeartbeats 4000000 in
set_option maxRecDepth 100000 in
theorem k_X6_bill (l : Launch) (g : GE) (σ : MS) (hd : 0 ≤ (ga σ 0 (2 : Int32)).toInt ∧ (ga σ 0 (2 : Int32)).toInt ≤ 16) : Met l yX6_bill (ws_ yX6_bill cX6_bill 3 (some .int)) ({ frames := 0, cells := 0, slots := 0, locals := 0 } : Room) (mPc g σ []) (mQi g σ (f_X6_bill σ) (fun u r => True)) 0 0 (mA g) := by
  refine met_M (by decide) rfl (Nat.le_of_ble_eq_true rfl) ?_
  intro p e s m args below meth c C hr hlocks h ls hl
  have hx := C.1.1
  have hb := C.1.2.1
  have hml := C.1.2.2.1
  have hown := C.1.2.2.2.1
  have hts := C.1.2.2.2.2
  have hl : lv_has ls 3 [(0, .ref (g.2.1 99))] := hl
  have zl0 : (0 : Int32).toInt = 0 := rfl
  have zl1 : (1 : Int32).toInt = 1 := rfl
  have zl2 : (2 : Int32).toInt = 2 := rfl
  have zl60 : (60 : Int32).toInt = 60 := rfl
  refine lv_iconst (v := 0) hx hb dX6_bill_0 (by decide) ?_
  refine lv_istore_n (lv' := [(1, .int (0 : Int32)), (0, .ref (g.2.1 99))]) hx hb dX6_bill_1 rfl hl (by decide) rfl (fun ls hl => ?_)
  refine lv_iconst (v := 0) hx hb dX6_bill_2 (by decide) ?_
  refine lv_istore_n (lv' := [(2, .int (0 : Int32)), (1, .int (0 : Int32)), (0, .ref (g.2.1 99))]) hx hb dX6_bill_3 rfl hl (by decide) rfl (fun ls hl => ?_)
  have hL4 : ∀ (n : Nat) (x1_4 : Int32) (x2_4 : Int32) (H : Heap) (locs : List Loc) (ls : Array Slot), (0 ≤ x2_4.toInt ∧ x2_4.toInt ≤ (ga σ 0 (2 : Int32)).toInt) → ((ga σ 0 (2 : Int32)).toInt - x2_4.toInt).toNat < n → MH g σ s H locs → lv_has ls 3 [(0, .ref (g.2.1 99)), (1, .int x1_4), (2, .int x2_4)] → (∀ (x1_4' : Int32) (x2_4' : Int32) (H : Heap) (locs : List Loc) (ls : Array Slot), f_X6_bill_L4 σ n x1_4 x2_4 = (x1_4', x2_4') → (0 ≤ x2_4'.toInt ∧ x2_4'.toInt ≤ (ga σ 0 (2 : Int32)).toInt) → MH g σ s H locs → lv_has ls 3 [(1, .int x1_4')] → W p l e ({ frames := 0, cells := 0, slots := 0, locals := 0 } : Room) s m args below meth c H locs 0 0 (MQ below (mQi g σ (f_X6_bill σ) (fun u r => True)) args s 0 0 (mA g)) (F0 m 34 ls [])) → W p l e ({ frames := 0, cells := 0, slots := 0, locals := 0 } : Room) s m args below meth c H locs 0 0 (MQ below (mQi g σ (f_X6_bill σ) (fun u r => True)) args s 0 0 (mA g)) (F0 m 4 ls []) := by
    intro n
    induction n with
    | zero =>
      intro x1_4 x2_4 H locs ls _ hm; exact absurd hm (Nat.not_lt_zero _)
    | succ n ih =>
      intro x1_4 x2_4 H locs ls hI4 hm h hl kk
      refine lv_iload_n hx hb dX6_bill_4 rfl (lv_at hl 2 rfl) ?_
      refine lv_aload_n hx hb dX6_bill_5 rfl (lv_at hl 0 rfl) ?_
      refine Mg_0 C h dX6_bill_6 ?_
      refine lv_iconst (v := 2) hx hb dX6_bill_9 (by decide) ?_
      refine Ml_0 C h (ix_of zl2 (by omega)) dX6_bill_10 ?_
      refine lv_icmp_ge (tgt := 34) hx hb dX6_bill_11 (by decide) (fun c11 => ?_) (fun c11 => ?_)
      · have i11 := c_le c11
        exact kk x1_4 x2_4 _ _ _ (show f_X6_bill_L4 σ (n + 1) x1_4 x2_4 = (x1_4, x2_4) from (by exact ((if_pos c11).trans rfl)))  (by first | assumption | omega) h (lv_sub hl [1] rfl)
      · have i11 := c_nle c11
        refine lv_iload_n hx hb dX6_bill_14 rfl (lv_at hl 1 rfl) ?_
        refine lv_aload_n hx hb dX6_bill_15 rfl (lv_at hl 0 rfl) ?_
        refine Mg_0 C h dX6_bill_16 ?_
        refine lv_bipush (v := 60) hx hb dX6_bill_19 (by decide) ?_
        refine lv_iconst (v := 2) hx hb dX6_bill_21 (by decide) ?_
        refine lv_iload_n hx hb dX6_bill_22 rfl (lv_at hl 2 rfl) ?_
        refine lv_imul hx hb dX6_bill_23 ?_
        refine lv_iadd hx hb dX6_bill_24 ?_
        refine Ml_0 C h (ix_of (i_add zl60 (i_mul zl2 (rfl : x2_4.toInt = x2_4.toInt) (by omega)) (by omega)) (by omega)) dX6_bill_25 ?_
        refine lv_iadd hx hb dX6_bill_26 ?_
        refine lv_topi (fun v27 ev27 => ?_)
        refine lv_istore_n (lv' := [(1, .int v27), (0, .ref (g.2.1 99)), (2, .int x2_4)]) hx hb dX6_bill_27 rfl hl (by decide) rfl (fun ls hl => ?_)
        refine lv_iinc (v := (x2_4 + (1 : Int32))) (lv' := [(2, .int (x2_4 + (1 : Int32))), (1, .int v27), (0, .ref (g.2.1 99))]) hx hb dX6_bill_28 hl (k := 2) rfl rfl (by decide) rfl (fun ls hl => ?_)
        refine lv_goto (tgt := 4) hx hb dX6_bill_31 (by decide) ?_
        have tt2 : (x2_4 + (1 : Int32)).toInt = (x2_4.toInt + (1)) := (i_add (rfl : x2_4.toInt = x2_4.toInt) zl1 (by omega))
        exact ih v27 (x2_4 + (1 : Int32)) _ _ _  (by first | assumption | omega) (by omega) h (lv_sub hl [2, 1, 0] rfl) (fun x1_4' x2_4' H locs ls en hI h hl => kk x1_4' x2_4' H locs ls ((show f_X6_bill_L4 σ (n + 1) x1_4 x2_4 = f_X6_bill_L4 σ n v27 (x2_4 + (1 : Int32)) from (by subst ev27; exact ((if_neg c11).trans rfl))).trans en) hI h hl)
  refine hL4 (17) (0 : Int32) (0 : Int32) _ _ _  (by first | assumption | omega) (by omega) h (lv_sub hl [2, 1, 0] rfl) (fun x1_4e x2_4e H locs ls eL4 hI4 h hl => ?_)
  have ex1_4e : x1_4e = (f_X6_bill_L4 σ (17) (0 : Int32) (0 : Int32)).1 := by rw [eL4]
  have ex2_4e : x2_4e = (f_X6_bill_L4 σ (17) (0 : Int32) (0 : Int32)).2 := by rw [eL4]
  refine lv_iload_n hx hb dX6_bill_34 rfl (lv_at hl 0 rfl) ?_
  have he : f_X6_bill σ = x1_4e := (by subst ex1_4e; subst ex2_4e; exact rfl)
  exact M_reti C h hr hlocks rfl he trivial dX6_bill_35
def f_X6_commons_L4 (σ : MS) : Nat → Int32 → Int32 → Int32 × Int32
  | 0, x1_4, x2_4 => (x1_4, x2_4)
  | n + 1, x1_4, x2_4 => if (ga σ 0 (2 : Int32)) ≤ x2_4 then ((x1_4, x2_4)) else ((let z47_ : Int32 := (if (ga σ 0 (((60 : Int32) + ((2 : Int32) * x2_4)) + (1 : Int32))) = (-1 : Int32) then ((ga σ 0 ((60 : Int32) + ((2 : Int32) * x2_4)))) else ((0 : Int32))); let t0_47 := z47_; (let v48 := (x1_4 + t0_47); f_X6_commons_L4 σ n v48 (x2_4 + (1 : Int32)))))
def f_X6_commons (σ : MS) : Int32 := (let zL4 := f_X6_commons_L4 σ (17) (0 : Int32) (0 : Int32); let x1_4e := zL4.1; let x2_4e := zL4.2; x1_4e)
set_option maxHeartbeats 4000000 in
set_option maxRecDepth 100000 in
theorem k_X6_commons (l : Launch) (g : GE) (σ : MS) (hd : 0 ≤ (ga σ 0 (2 : Int32)).toInt ∧ (ga σ 0 (2 : Int32)).toInt ≤ 16) : Met l yX6_commons (ws_ yX6_commons cX6_commons 3 (some .int)) ({ frames := 0, cells := 0, slots := 0, locals := 0 } : Room) (mPc g σ []) (mQi g σ (f_X6_commons σ) (fun u r => True)) 0 0 (mA g) := by
  refine met_M (by decide) rfl (Nat.le_of_ble_eq_true rfl) ?_
  intro p e s m args below meth c C hr hlocks h ls hl
  have hx := C.1.1
  have hb := C.1.2.1
  have hml := C.1.2.2.1
  have hown := C.1.2.2.2.1
  have hts := C.1.2.2.2.2
  have hl : lv_has ls 3 [(0, .ref (g.2.1 99))] := hl
  have zlm1 : (-1 : Int32).toInt = -1 := rfl
  have zl0 : (0 : Int32).toInt = 0 := rfl
  have zl1 : (1 : Int32).toInt = 1 := rfl
  have zl2 : (2 : Int32).toInt = 2 := rfl
  have zl60 : (60 : Int32).toInt = 60 := rfl
  refine lv_iconst (v := 0) hx hb dX6_commons_0 (by decide) ?_
  refine lv_istore_n (lv' := [(1, .int (0 : Int32)), (0, .ref (g.2.1 99))]) hx hb dX6_commons_1 rfl hl (by decide) rfl (fun ls hl => ?_)
  refine lv_iconst (v := 0) hx hb dX6_commons_2 (by decide) ?_
  refine lv_istore_n (lv' := [(2, .int (0 : Int32)), (1, .int (0 : Int32)), (0, .ref (g.2.1 99))]) hx hb dX6_commons_3 rfl hl (by decide) rfl (fun ls hl => ?_)
  have hL4 : ∀ (n : Nat) (x1_4 : Int32) (x2_4 : Int32) (H : Heap) (locs : List Loc) (ls : Array Slot), (0 ≤ x2_4.toInt ∧ x2_4.toInt ≤ (ga σ 0 (2 : Int32)).toInt) → ((ga σ 0 (2 : Int32)).toInt - x2_4.toInt).toNat < n → MH g σ s H locs → lv_has ls 3 [(0, .ref (g.2.1 99)), (1, .int x1_4), (2, .int x2_4)] → (∀ (x1_4' : Int32) (x2_4' : Int32) (H : Heap) (locs : List Loc) (ls : Array Slot), f_X6_commons_L4 σ n x1_4 x2_4 = (x1_4', x2_4') → (0 ≤ x2_4'.toInt ∧ x2_4'.toInt ≤ (ga σ 0 (2 : Int32)).toInt) → MH g σ s H locs → lv_has ls 3 [(1, .int x1_4')] → W p l e ({ frames := 0, cells := 0, slots := 0, locals := 0 } : Room) s m args below meth c H locs 0 0 (MQ below (mQi g σ (f_X6_commons σ) (fun u r => True)) args s 0 0 (mA g)) (F0 m 55 ls [])) → W p l e ({ frames := 0, cells := 0, slots := 0, locals := 0 } : Room) s m args below meth c H locs 0 0 (MQ below (mQi g σ (f_X6_commons σ) (fun u r => True)) args s 0 0 (mA g)) (F0 m 4 ls []) := by
    intro n
    induction n with
    | zero =>
      intro x1_4 x2_4 H locs ls _ hm; exact absurd hm (Nat.not_lt_zero _)
    | succ n ih =>
      intro x1_4 x2_4 H locs ls hI4 hm h hl kk
      refine lv_iload_n hx hb dX6_commons_4 rfl (lv_at hl 2 rfl) ?_
      refine lv_aload_n hx hb dX6_commons_5 rfl (lv_at hl 0 rfl) ?_
      refine Mg_0 C h dX6_commons_6 ?_
      refine lv_iconst (v := 2) hx hb dX6_commons_9 (by decide) ?_
      refine Ml_0 C h (ix_of zl2 (by omega)) dX6_commons_10 ?_
      refine lv_icmp_ge (tgt := 55) hx hb dX6_commons_11 (by decide) (fun c11 => ?_) (fun c11 => ?_)
      · have i11 := c_le c11
        exact kk x1_4 x2_4 _ _ _ (show f_X6_commons_L4 σ (n + 1) x1_4 x2_4 = (x1_4, x2_4) from (by exact ((if_pos c11).trans rfl)))  (by first | assumption | omega) h (lv_sub hl [1] rfl)
      · have i11 := c_nle c11
        refine lv_iload_n hx hb dX6_commons_14 rfl (lv_at hl 1 rfl) ?_
        refine lv_aload_n hx hb dX6_commons_15 rfl (lv_at hl 0 rfl) ?_
        refine Mg_0 C h dX6_commons_16 ?_
        refine lv_bipush (v := 60) hx hb dX6_commons_19 (by decide) ?_
        refine lv_iconst (v := 2) hx hb dX6_commons_21 (by decide) ?_
        refine lv_iload_n hx hb dX6_commons_22 rfl (lv_at hl 2 rfl) ?_
        refine lv_imul hx hb dX6_commons_23 ?_
        refine lv_iadd hx hb dX6_commons_24 ?_
        refine lv_iconst (v := 1) hx hb dX6_commons_25 (by decide) ?_
        refine lv_iadd hx hb dX6_commons_26 ?_
        refine Ml_0 C h (ix_of (i_add (i_add zl60 (i_mul zl2 (rfl : x2_4.toInt = x2_4.toInt) (by omega)) (by omega)) zl1 (by omega)) (by omega)) dX6_commons_27 ?_
        refine lv_iconst (v := -1) hx hb dX6_commons_28 (by decide) ?_
        have j47 : ∀ (t0_47 : Int32) (H : Heap) (locs : List Loc) (ls : Array Slot) (ej47 : (if (ga σ 0 (((60 : Int32) + ((2 : Int32) * x2_4)) + (1 : Int32))) = (-1 : Int32) then ((ga σ 0 ((60 : Int32) + ((2 : Int32) * x2_4)))) else ((0 : Int32))) = t0_47) (h : MH g σ s H locs) (hl : lv_has ls 3 [(0, .ref (g.2.1 99)), (2, .int x2_4)]), W p l e ({ frames := 0, cells := 0, slots := 0, locals := 0 } : Room) s m args below meth c H locs 0 0 (MQ below (mQi g σ (f_X6_commons σ) (fun u r => True)) args s 0 0 (mA g)) (F0 m 47 ls [.int t0_47, .int x1_4]) := by
          intro t0_47 H locs ls ej47 h hl
          have et0_47 := ej47.symm
          refine lv_iadd hx hb dX6_commons_47 ?_
          refine lv_topi (fun v48 ev48 => ?_)
          refine lv_istore_n (lv' := [(1, .int v48), (0, .ref (g.2.1 99)), (2, .int x2_4)]) hx hb dX6_commons_48 rfl hl (by decide) rfl (fun ls hl => ?_)
          refine lv_iinc (v := (x2_4 + (1 : Int32))) (lv' := [(2, .int (x2_4 + (1 : Int32))), (1, .int v48), (0, .ref (g.2.1 99))]) hx hb dX6_commons_49 hl (k := 2) rfl rfl (by decide) rfl (fun ls hl => ?_)
          refine lv_goto (tgt := 4) hx hb dX6_commons_52 (by decide) ?_
          have tt2 : (x2_4 + (1 : Int32)).toInt = (x2_4.toInt + (1)) := (i_add (rfl : x2_4.toInt = x2_4.toInt) zl1 (by omega))
          exact ih v48 (x2_4 + (1 : Int32)) _ _ _  (by first | assumption | omega) (by omega) h (lv_sub hl [2, 1, 0] rfl) (fun x1_4' x2_4' H locs ls en hI h hl => kk x1_4' x2_4' H locs ls ((show f_X6_commons_L4 σ (n + 1) x1_4 x2_4 = f_X6_commons_L4 σ n v48 (x2_4 + (1 : Int32)) from (by subst et0_47; subst ev48; exact ((if_neg c11).trans rfl))).trans en) hI h hl)
        refine lv_icmp_ne (tgt := 46) hx hb dX6_commons_29 (by decide) (fun c29 => ?_) (fun c29 => ?_)
        · have i29 := c_ne c29
          refine lv_iconst (v := 0) hx hb dX6_commons_46 (by decide) ?_
          exact j47 _ _ _ _ (by exact ((if_neg c29).trans rfl)) h (lv_sub hl [0, 2] rfl)
        · have i29 := c_eq c29
          refine lv_aload_n hx hb dX6_commons_32 rfl (lv_at hl 0 rfl) ?_
          refine Mg_0 C h dX6_commons_33 ?_
          refine lv_bipush (v := 60) hx hb dX6_commons_36 (by decide) ?_
          refine lv_iconst (v := 2) hx hb dX6_commons_38 (by decide) ?_
          refine lv_iload_n hx hb dX6_commons_39 rfl (lv_at hl 2 rfl) ?_
          refine lv_imul hx hb dX6_commons_40 ?_
          refine lv_iadd hx hb dX6_commons_41 ?_
          refine Ml_0 C h (ix_of (i_add zl60 (i_mul zl2 (rfl : x2_4.toInt = x2_4.toInt) (by omega)) (by omega)) (by omega)) dX6_commons_42 ?_
          refine lv_goto (tgt := 47) hx hb dX6_commons_43 (by decide) ?_
          exact j47 _ _ _ _ (by exact ((if_pos c29).trans rfl)) h (lv_sub hl [0, 2] rfl)
  refine hL4 (17) (0 : Int32) (0 : Int32) _ _ _  (by first | assumption | omega) (by omega) h (lv_sub hl [2, 1, 0] rfl) (fun x1_4e x2_4e H locs ls eL4 hI4 h hl => ?_)
  have ex1_4e : x1_4e = (f_X6_commons_L4 σ (17) (0 : Int32) (0 : Int32)).1 := by rw [eL4]
  have ex2_4e : x2_4e = (f_X6_commons_L4 σ (17) (0 : Int32) (0 : Int32)).2 := by rw [eL4]
  refine lv_iload_n hx hb dX6_commons_55 rfl (lv_at hl 0 rfl) ?_
  have he : f_X6_commons σ = x1_4e := (by subst ex1_4e; subst ex2_4e; exact rfl)
  exact M_reti C h hr hlocks rfl he trivial dX6_commons_56
def f_X6_paidByAll_L4 (σ : MS) : Nat → Int32 → Int32 → Int32 × Int32
  | 0, x1_4, x2_4 => (x1_4, x2_4)
  | n + 1, x1_4, x2_4 => if (ga σ 0 (0 : Int32)) ≤ x2_4 then ((x1_4, x2_4)) else ((let r20 := (f_X6_personRow x2_4); let v27 := (x1_4 + (ga σ 0 (r20 + (5 : Int32)))); f_X6_paidByAll_L4 σ n v27 (x2_4 + (1 : Int32))))
def f_X6_paidByAll (σ : MS) : Int32 := (let zL4 := f_X6_paidByAll_L4 σ (7) (0 : Int32) (0 : Int32); let x1_4e := zL4.1; let x2_4e := zL4.2; x1_4e)
set_option maxHeartbeats 4000000 in
set_option maxRecDepth 100000 in
theorem k_X6_paidByAll (l : Launch) (g : GE) (σ : MS) (hp : 0 ≤ (ga σ 0 (0 : Int32)).toInt ∧ (ga σ 0 (0 : Int32)).toInt ≤ 6) : Met l yX6_paidByAll (ws_ yX6_paidByAll cX6_paidByAll 3 (some .int)) ({ frames := 1, cells := 0, slots := 0, locals := 20 } : Room) (mPc g σ []) (mQi g σ (f_X6_paidByAll σ) (fun u r => True)) 0 0 (mA g) := by
  refine met_M (by decide) rfl (Nat.le_of_ble_eq_true rfl) ?_
  intro p e s m args below meth c C hr hlocks h ls hl
  have hx := C.1.1
  have hb := C.1.2.1
  have hml := C.1.2.2.1
  have hown := C.1.2.2.2.1
  have hts := C.1.2.2.2.2
  have hl : lv_has ls 3 [(0, .ref (g.2.1 99))] := hl
  have zl0 : (0 : Int32).toInt = 0 := rfl
  have zl1 : (1 : Int32).toInt = 1 := rfl
  have zl5 : (5 : Int32).toInt = 5 := rfl
  have zl8 : (8 : Int32).toInt = 8 := rfl
  have zl12 : (12 : Int32).toInt = 12 := rfl
  refine lv_iconst (v := 0) hx hb dX6_paidByAll_0 (by decide) ?_
  refine lv_istore_n (lv' := [(1, .int (0 : Int32)), (0, .ref (g.2.1 99))]) hx hb dX6_paidByAll_1 rfl hl (by decide) rfl (fun ls hl => ?_)
  refine lv_iconst (v := 0) hx hb dX6_paidByAll_2 (by decide) ?_
  refine lv_istore_n (lv' := [(2, .int (0 : Int32)), (1, .int (0 : Int32)), (0, .ref (g.2.1 99))]) hx hb dX6_paidByAll_3 rfl hl (by decide) rfl (fun ls hl => ?_)
  have hL4 : ∀ (n : Nat) (x1_4 : Int32) (x2_4 : Int32) (H : Heap) (locs : List Loc) (ls : Array Slot), (0 ≤ x2_4.toInt ∧ x2_4.toInt ≤ (ga σ 0 (0 : Int32)).toInt) → ((ga σ 0 (0 : Int32)).toInt - x2_4.toInt).toNat < n → MH g σ s H locs → lv_has ls 3 [(0, .ref (g.2.1 99)), (1, .int x1_4), (2, .int x2_4)] → (∀ (x1_4' : Int32) (x2_4' : Int32) (H : Heap) (locs : List Loc) (ls : Array Slot), f_X6_paidByAll_L4 σ n x1_4 x2_4 = (x1_4', x2_4') → (0 ≤ x2_4'.toInt ∧ x2_4'.toInt ≤ (ga σ 0 (0 : Int32)).toInt) → MH g σ s H locs → lv_has ls 3 [(1, .int x1_4')] → W p l e ({ frames := 1, cells := 0, slots := 0, locals := 20 } : Room) s m args below meth c H locs 0 0 (MQ below (mQi g σ (f_X6_paidByAll σ) (fun u r => True)) args s 0 0 (mA g)) (F0 m 34 ls [])) → W p l e ({ frames := 1, cells := 0, slots := 0, locals := 20 } : Room) s m args below meth c H locs 0 0 (MQ below (mQi g σ (f_X6_paidByAll σ) (fun u r => True)) args s 0 0 (mA g)) (F0 m 4 ls []) := by
    intro n
    induction n with
    | zero =>
      intro x1_4 x2_4 H locs ls _ hm; exact absurd hm (Nat.not_lt_zero _)
    | succ n ih =>
      intro x1_4 x2_4 H locs ls hI4 hm h hl kk
      refine lv_iload_n hx hb dX6_paidByAll_4 rfl (lv_at hl 2 rfl) ?_
      refine lv_aload_n hx hb dX6_paidByAll_5 rfl (lv_at hl 0 rfl) ?_
      refine Mg_0 C h dX6_paidByAll_6 ?_
      refine lv_iconst (v := 0) hx hb dX6_paidByAll_9 (by decide) ?_
      refine Ml_0 C h (ix_of zl0 (by omega)) dX6_paidByAll_10 ?_
      refine lv_icmp_ge (tgt := 34) hx hb dX6_paidByAll_11 (by decide) (fun c11 => ?_) (fun c11 => ?_)
      · have i11 := c_le c11
        exact kk x1_4 x2_4 _ _ _ (show f_X6_paidByAll_L4 σ (n + 1) x1_4 x2_4 = (x1_4, x2_4) from (by exact ((if_pos c11).trans rfl)))  (by first | assumption | omega) h (lv_sub hl [1] rfl)
      · have i11 := c_nle c11
        refine lv_iload_n hx hb dX6_paidByAll_14 rfl (lv_at hl 1 rfl) ?_
        refine lv_aload_n hx hb dX6_paidByAll_15 rfl (lv_at hl 0 rfl) ?_
        refine Mg_0 C h dX6_paidByAll_16 ?_
        refine lv_iload_n hx hb dX6_paidByAll_19 rfl (lv_at hl 2 rfl) ?_
        refine s_calli (As := [.int x2_4]) (rest := [.ref (g.2.1 0), .int x1_4]) 1 C.1 (k_X6_personRow l x2_4) (lw_S q1857 q1858 q152 q1859) rfl rfl (by decide +kernel) ⟨Nat.le_of_ble_eq_true rfl, Nat.le_of_ble_eq_true rfl⟩ rfl hl.1 rfl (Nat.le_of_ble_eq_true rfl) ⟨Nat.le_of_ble_eq_true rfl, Nat.le_of_ble_eq_true rfl⟩ dX6_paidByAll_20 h.2.2 (fun r20 H locs er20 hz1 hk1 hS1 => ?_)
        have h := h.same hk1 hS1
        clear hz1 hk1 hS1
        have tr20 : r20.toInt = ((12) + ((8) * x2_4.toInt)) := by rw [er20]; exact (i_add zl12 (i_mul zl8 (rfl : x2_4.toInt = x2_4.toInt) (by omega)) (by omega))
        refine lv_iconst (v := 5) hx hb dX6_paidByAll_23 (by decide) ?_
        refine lv_iadd hx hb dX6_paidByAll_24 ?_
        refine Ml_0 C h (ix_of (i_add tr20 zl5 (by omega)) (by omega)) dX6_paidByAll_25 ?_
        refine lv_iadd hx hb dX6_paidByAll_26 ?_
        refine lv_topi (fun v27 ev27 => ?_)
        refine lv_istore_n (lv' := [(1, .int v27), (0, .ref (g.2.1 99)), (2, .int x2_4)]) hx hb dX6_paidByAll_27 rfl hl (by decide) rfl (fun ls hl => ?_)
        refine lv_iinc (v := (x2_4 + (1 : Int32))) (lv' := [(2, .int (x2_4 + (1 : Int32))), (1, .int v27), (0, .ref (g.2.1 99))]) hx hb dX6_paidByAll_28 hl (k := 2) rfl rfl (by decide) rfl (fun ls hl => ?_)
        refine lv_goto (tgt := 4) hx hb dX6_paidByAll_31 (by decide) ?_
        have tt2 : (x2_4 + (1 : Int32)).toInt = (x2_4.toInt + (1)) := (i_add (rfl : x2_4.toInt = x2_4.toInt) zl1 (by omega))
        exact ih v27 (x2_4 + (1 : Int32)) _ _ _  (by first | assumption | omega) (by omega) h (lv_sub hl [2, 1, 0] rfl) (fun x1_4' x2_4' H locs ls en hI h hl => kk x1_4' x2_4' H locs ls ((show f_X6_paidByAll_L4 σ (n + 1) x1_4 x2_4 = f_X6_paidByAll_L4 σ n v27 (x2_4 + (1 : Int32)) from (by subst er20; subst ev27; exact ((if_neg c11).trans rfl))).trans en) hI h hl)
  refine hL4 (7) (0 : Int32) (0 : Int32) _ _ _  (by first | assumption | omega) (by omega) h (lv_sub hl [2, 1, 0] rfl) (fun x1_4e x2_4e H locs ls eL4 hI4 h hl => ?_)
  have ex1_4e : x1_4e = (f_X6_paidByAll_L4 σ (7) (0 : Int32) (0 : Int32)).1 := by rw [eL4]
  have ex2_4e : x2_4e = (f_X6_paidByAll_L4 σ (7) (0 : Int32) (0 : Int32)).2 := by rw [eL4]
  refine lv_iload_n hx hb dX6_paidByAll_34 rfl (lv_at hl 0 rfl) ?_
  have he : f_X6_paidByAll σ = x1_4e := (by subst ex1_4e; subst ex2_4e; exact rfl)
  exact M_reti C h hr hlocks rfl he trivial dX6_paidByAll_35
def f_X6_quickOf_L4 (σ : MS) (y1_4 : Int32) : Nat → Int32 → Int32 → Int32 × Int32
  | 0, x2_4, x3_4 => (x2_4, x3_4)
  | n + 1, x2_4, x3_4 => if (ga σ 0 (0 : Int32)) ≤ x3_4 then ((x2_4, x3_4)) else ((let r18 := (f_X6_isIn σ y1_4 x3_4); (let z39_ : Int32 := (if r18 = (0 : Int32) then ((0 : Int32)) else ((let r29 := (f_X6_personRow x3_4); (ga σ 0 (r29 + (1 : Int32)))))); let t0_39 := z39_; (let v40 := (x2_4 + t0_39); f_X6_quickOf_L4 σ y1_4 n v40 (x3_4 + (1 : Int32))))))
def f_X6_quickOf (σ : MS) (p1 : Int32) : Int32 := (let zL4 := f_X6_quickOf_L4 σ p1 (7) (0 : Int32) (0 : Int32); let x2_4e := zL4.1; let x3_4e := zL4.2; x2_4e)
set_option maxHeartbeats 4000000 in
set_option maxRecDepth 100000 in
theorem k_X6_quickOf (l : Launch) (g : GE) (σ : MS) (p1 : Int32) (hp : 0 ≤ (ga σ 0 (0 : Int32)).toInt ∧ (ga σ 0 (0 : Int32)).toInt ≤ 6) : Met l yX6_quickOf (ws_ yX6_quickOf cX6_quickOf 4 (some .int)) ({ frames := 1, cells := 0, slots := 0, locals := 22 } : Room) (mPc g σ [.int p1]) (mQi g σ (f_X6_quickOf σ p1) (fun u r => True)) 0 0 (mA g) := by
  refine met_M (by decide) rfl (Nat.le_of_ble_eq_true rfl) ?_
  intro p e s m args below meth c C hr hlocks h ls hl
  have hx := C.1.1
  have hb := C.1.2.1
  have hml := C.1.2.2.1
  have hown := C.1.2.2.2.1
  have hts := C.1.2.2.2.2
  have hl : lv_has ls 4 [(0, .ref (g.2.1 99)), (1, .int p1)] := hl
  have zl0 : (0 : Int32).toInt = 0 := rfl
  have zl1 : (1 : Int32).toInt = 1 := rfl
  have zl8 : (8 : Int32).toInt = 8 := rfl
  have zl12 : (12 : Int32).toInt = 12 := rfl
  refine lv_iconst (v := 0) hx hb dX6_quickOf_0 (by decide) ?_
  refine lv_istore_n (lv' := [(2, .int (0 : Int32)), (0, .ref (g.2.1 99)), (1, .int p1)]) hx hb dX6_quickOf_1 rfl hl (by decide) rfl (fun ls hl => ?_)
  refine lv_iconst (v := 0) hx hb dX6_quickOf_2 (by decide) ?_
  refine lv_istore_n (lv' := [(3, .int (0 : Int32)), (2, .int (0 : Int32)), (0, .ref (g.2.1 99)), (1, .int p1)]) hx hb dX6_quickOf_3 rfl hl (by decide) rfl (fun ls hl => ?_)
  have hL4 : ∀ (n : Nat) (x2_4 : Int32) (x3_4 : Int32) (H : Heap) (locs : List Loc) (ls : Array Slot), (0 ≤ x3_4.toInt ∧ x3_4.toInt ≤ (ga σ 0 (0 : Int32)).toInt) → ((ga σ 0 (0 : Int32)).toInt - x3_4.toInt).toNat < n → MH g σ s H locs → lv_has ls 4 [(0, .ref (g.2.1 99)), (1, .int p1), (2, .int x2_4), (3, .int x3_4)] → (∀ (x2_4' : Int32) (x3_4' : Int32) (H : Heap) (locs : List Loc) (ls : Array Slot), f_X6_quickOf_L4 σ p1 n x2_4 x3_4 = (x2_4', x3_4') → (0 ≤ x3_4'.toInt ∧ x3_4'.toInt ≤ (ga σ 0 (0 : Int32)).toInt) → MH g σ s H locs → lv_has ls 4 [(2, .int x2_4')] → W p l e ({ frames := 1, cells := 0, slots := 0, locals := 22 } : Room) s m args below meth c H locs 0 0 (MQ below (mQi g σ (f_X6_quickOf σ p1) (fun u r => True)) args s 0 0 (mA g)) (F0 m 47 ls [])) → W p l e ({ frames := 1, cells := 0, slots := 0, locals := 22 } : Room) s m args below meth c H locs 0 0 (MQ below (mQi g σ (f_X6_quickOf σ p1) (fun u r => True)) args s 0 0 (mA g)) (F0 m 4 ls []) := by
    intro n
    induction n with
    | zero =>
      intro x2_4 x3_4 H locs ls _ hm; exact absurd hm (Nat.not_lt_zero _)
    | succ n ih =>
      intro x2_4 x3_4 H locs ls hI4 hm h hl kk
      refine lv_iload_n hx hb dX6_quickOf_4 rfl (lv_at hl 3 rfl) ?_
      refine lv_aload_n hx hb dX6_quickOf_5 rfl (lv_at hl 0 rfl) ?_
      refine Mg_0 C h dX6_quickOf_6 ?_
      refine lv_iconst (v := 0) hx hb dX6_quickOf_9 (by decide) ?_
      refine Ml_0 C h (ix_of zl0 (by omega)) dX6_quickOf_10 ?_
      refine lv_icmp_ge (tgt := 47) hx hb dX6_quickOf_11 (by decide) (fun c11 => ?_) (fun c11 => ?_)
      · have i11 := c_le c11
        exact kk x2_4 x3_4 _ _ _ (show f_X6_quickOf_L4 σ p1 (n + 1) x2_4 x3_4 = (x2_4, x3_4) from (by exact ((if_pos c11).trans rfl)))  (by first | assumption | omega) h (lv_sub hl [2] rfl)
      · have i11 := c_nle c11
        refine lv_iload_n hx hb dX6_quickOf_14 rfl (lv_at hl 2 rfl) ?_
        refine lv_aload_n hx hb dX6_quickOf_15 rfl (lv_at hl 0 rfl) ?_
        refine lv_iload_n hx hb dX6_quickOf_16 rfl (lv_at hl 1 rfl) ?_
        refine lv_iload_n hx hb dX6_quickOf_17 rfl (lv_at hl 3 rfl) ?_
        refine M_callz (As := [.int p1, .int x3_4]) (rest := [.int x2_4]) 2 C h (k_X6_isIn l g σ p1 x3_4) (lw_V q1906 q1908 qs107 q152 q1909) rfl rfl (by decide +kernel) ⟨Nat.le_of_ble_eq_true rfl, Nat.le_of_ble_eq_true rfl⟩ rfl hl.1 rfl (Nat.le_of_ble_eq_true rfl) ⟨Nat.le_of_ble_eq_true rfl, Nat.le_of_ble_eq_true rfl⟩ dX6_quickOf_18 (fun r18 σ18 H locs eσ18 er18 br18 hE18 h => ?_)
        rw [eσ18] at h
        clear hE18
        clear eσ18
        have j39 : ∀ (t0_39 : Int32) (H : Heap) (locs : List Loc) (ls : Array Slot) (ej39 : (if r18 = (0 : Int32) then ((0 : Int32)) else ((let r29 := (f_X6_personRow x3_4); (ga σ 0 (r29 + (1 : Int32)))))) = t0_39) (h : MH g σ s H locs) (hl : lv_has ls 4 [(0, .ref (g.2.1 99)), (1, .int p1), (3, .int x3_4)]), W p l e ({ frames := 1, cells := 0, slots := 0, locals := 22 } : Room) s m args below meth c H locs 0 0 (MQ below (mQi g σ (f_X6_quickOf σ p1) (fun u r => True)) args s 0 0 (mA g)) (F0 m 39 ls [.int t0_39, .int x2_4]) := by
          intro t0_39 H locs ls ej39 h hl
          have et0_39 := ej39.symm
          refine lv_iadd hx hb dX6_quickOf_39 ?_
          refine lv_topi (fun v40 ev40 => ?_)
          refine lv_istore_n (lv' := [(2, .int v40), (0, .ref (g.2.1 99)), (1, .int p1), (3, .int x3_4)]) hx hb dX6_quickOf_40 rfl hl (by decide) rfl (fun ls hl => ?_)
          refine lv_iinc (v := (x3_4 + (1 : Int32))) (lv' := [(3, .int (x3_4 + (1 : Int32))), (2, .int v40), (0, .ref (g.2.1 99)), (1, .int p1)]) hx hb dX6_quickOf_41 hl (k := 3) rfl rfl (by decide) rfl (fun ls hl => ?_)
          refine lv_goto (tgt := 4) hx hb dX6_quickOf_44 (by decide) ?_
          have tt3 : (x3_4 + (1 : Int32)).toInt = (x3_4.toInt + (1)) := (i_add (rfl : x3_4.toInt = x3_4.toInt) zl1 (by omega))
          exact ih v40 (x3_4 + (1 : Int32)) _ _ _  (by first | assumption | omega) (by omega) h (lv_sub hl [2, 3, 1, 0] rfl) (fun x2_4' x3_4' H locs ls en hI h hl => kk x2_4' x3_4' H locs ls ((show f_X6_quickOf_L4 σ p1 (n + 1) x2_4 x3_4 = f_X6_quickOf_L4 σ p1 n v40 (x3_4 + (1 : Int32)) from (by subst er18; subst et0_39; subst ev40; exact ((if_neg c11).trans rfl))).trans en) hI h hl)
        refine lv_if_eq (tgt := 38) hx hb dX6_quickOf_21 (by decide) (fun c21 => ?_) (fun c21 => ?_)
        · have i21 := c_eq c21
          refine lv_iconst (v := 0) hx hb dX6_quickOf_38 (by decide) ?_
          exact j39 _ _ _ _ (by exact ((if_pos c21).trans rfl)) h (lv_sub hl [0, 1, 3] rfl)
        · have i21 := c_ne c21
          have okr18 := isIn_ok er18 c21
          refine lv_aload_n hx hb dX6_quickOf_24 rfl (lv_at hl 0 rfl) ?_
          refine Mg_0 C h dX6_quickOf_25 ?_
          refine lv_iload_n hx hb dX6_quickOf_28 rfl (lv_at hl 3 rfl) ?_
          refine s_calli (As := [.int x3_4]) (rest := [.ref (g.2.1 0), .int x2_4]) 1 C.1 (k_X6_personRow l x3_4) (lw_S q1857 q1858 q152 q1859) rfl rfl (by decide +kernel) ⟨Nat.le_of_ble_eq_true rfl, Nat.le_of_ble_eq_true rfl⟩ rfl hl.1 rfl (Nat.le_of_ble_eq_true rfl) ⟨Nat.le_of_ble_eq_true rfl, Nat.le_of_ble_eq_true rfl⟩ dX6_quickOf_29 h.2.2 (fun r29 H locs er29 hz1 hk1 hS1 => ?_)
          have h := h.same hk1 hS1
          clear hz1 hk1 hS1
          have tr29 : r29.toInt = ((12) + ((8) * x3_4.toInt)) := by rw [er29]; exact (i_add zl12 (i_mul zl8 (rfl : x3_4.toInt = x3_4.toInt) (by omega)) (by omega))
          refine lv_iconst (v := 1) hx hb dX6_quickOf_32 (by decide) ?_
          refine lv_iadd hx hb dX6_quickOf_33 ?_
          refine Ml_0 C h (ix_of (i_add tr29 zl1 (by omega)) (by omega)) dX6_quickOf_34 ?_
          refine lv_goto (tgt := 39) hx hb dX6_quickOf_35 (by decide) ?_
          exact j39 _ _ _ _ (by subst er29; exact ((if_neg c21).trans rfl)) h (lv_sub hl [0, 1, 3] rfl)
  refine hL4 (7) (0 : Int32) (0 : Int32) _ _ _  (by first | assumption | omega) (by omega) h (lv_sub hl [2, 3, 1, 0] rfl) (fun x2_4e x3_4e H locs ls eL4 hI4 h hl => ?_)
  have ex2_4e : x2_4e = (f_X6_quickOf_L4 σ p1 (7) (0 : Int32) (0 : Int32)).1 := by rw [eL4]
  have ex3_4e : x3_4e = (f_X6_quickOf_L4 σ p1 (7) (0 : Int32) (0 : Int32)).2 := by rw [eL4]
  refine lv_iload_n hx hb dX6_quickOf_47 rfl (lv_at hl 0 rfl) ?_
  have he : f_X6_quickOf σ p1 = x2_4e := (by subst ex2_4e; subst ex3_4e; exact rfl)
  exact M_reti C h hr hlocks rfl he trivial dX6_quickOf_48
