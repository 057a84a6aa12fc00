/-! walks of methods by contract, printed by gen/mkwalk.py -/
set_option maxRecDepth 100000
def f_X0_isIn (p0 : Int64) (p2 : Int64) (p4 : Int64) : Int32 := if (lg_cmp p0 p2) < (0 : Int32) then ((0 : Int32)) else (if (0 : Int32) < (lg_cmp p0 p4) then ((0 : Int32)) else ((1 : Int32)))
set_option maxHeartbeats 4000000 in
set_option maxRecDepth 100000 in
theorem k_X0_isIn (l : Launch) (p0 : Int64) (p2 : Int64) (p4 : Int64) : Met l yX0_isIn (ws_ yX0_isIn cX0_isIn 6 (some .boolean)) ({ frames := 0, cells := 0, slots := 0, locals := 0 } : Room) (sPc [.long p0, .long p2, .long p4]) (sQz (f_X0_isIn p0 p2 p4)) 0 0 (fun _ => False) := by
  refine met_S RX0 (by decide) rfl rfl (Nat.le_of_ble_eq_true rfl) ?_
  intro p e s m args below meth c C hr hlocks _ _ _ ls hl
  have hx := C.1
  have hb := C.2.1
  have hml := C.2.2.1
  have hown := C.2.2.2.1
  have hts := C.2.2.2.2
  have h : va_S (fun _ => False) s.heap s.heap [] := va_S.rf
  have hl : lv_has ls 6 [(0, .long p0), (2, .long p2), (4, .long p4)] := hl
  have zl0 : (0 : Int32).toInt = 0 := rfl
  have zl1 : (1 : Int32).toInt = 1 := rfl
  refine lv_lload_n hx hb dX0_isIn_0 rfl (lv_at hl 0 rfl) ?_
  refine lv_lload_n hx hb dX0_isIn_1 rfl (lv_at hl 1 rfl) ?_
  refine W.lcmp hx hb dX0_isIn_2 ?_
  refine lv_if_lt (tgt := 17) hx hb dX0_isIn_3 (by decide) (fun c3 => ?_) (fun c3 => ?_)
  · have i3 := c_lt c3
    refine lv_iconst (v := 0) hx hb dX0_isIn_17 (by decide) ?_
    have he : f_X0_isIn p0 p2 p4 = (0 : Int32) := (by exact ((if_pos c3).trans rfl))
    exact s_retz C hr hlocks h he (Or.inl rfl) dX0_isIn_18
  · have i3 := c_nlt c3
    refine lv_lload_n hx hb dX0_isIn_6 rfl (lv_at hl 0 rfl) ?_
    refine lv_lload hx hb dX0_isIn_7 (lv_at hl 2 rfl) ?_
    refine W.lcmp hx hb dX0_isIn_9 ?_
    refine lv_if_gt (tgt := 17) hx hb dX0_isIn_10 (by decide) (fun c10 => ?_) (fun c10 => ?_)
    · have i10 := c_lt c10
      refine lv_iconst (v := 0) hx hb dX0_isIn_17 (by decide) ?_
      have he : f_X0_isIn p0 p2 p4 = (0 : Int32) := (by exact ((if_neg c3).trans ((if_pos c10).trans rfl)))
      exact s_retz C hr hlocks h he (Or.inl rfl) dX0_isIn_18
    · have i10 := c_nlt c10
      refine lv_iconst (v := 1) hx hb dX0_isIn_13 (by decide) ?_
      refine lv_goto (tgt := 18) hx hb dX0_isIn_14 (by decide) ?_
      have he : f_X0_isIn p0 p2 p4 = (1 : Int32) := (by exact ((if_neg c3).trans ((if_neg c10).trans rfl)))
      exact s_retz C hr hlocks h he (Or.inr rfl) dX0_isIn_18
theorem lIsIn_ok {v a b : Int64} {r : Int32} (h : r = f_X0_isIn v a b) (hr : ¬ r = 0) : a.toInt ≤ v.toInt ∧ v.toInt ≤ b.toInt := by
  unfold f_X0_isIn at h
  split at h
  · exact absurd h hr
  · rename_i h1
    split at h
    · exact absurd h hr
    · rename_i h2
      have a1 := fun q => h1 ((lg_lt0 v a).mpr q)
      have a2 := fun q => h2 ((lg_gt0 v b).mpr q)
      exact ⟨Int.not_lt.mp a1, Int.not_lt.mp a2⟩
def f_X0_isSplit (p0 : Int32) : Int32 := (let r6 := (f_X0_isIn p0.toInt64 (0 : Int64) (2 : Int64)); r6)
set_option maxHeartbeats 4000000 in
set_option maxRecDepth 100000 in
theorem k_X0_isSplit (l : Launch) (p0 : Int32) : Met l yX0_isSplit (ws_ yX0_isSplit cX0_isSplit 1 (some .boolean)) ({ frames := 1, cells := 0, slots := 0, locals := 25 } : Room) (sPc [.int p0]) (sQz (f_X0_isSplit p0)) 0 0 (fun _ => False) := by
  refine met_S RX0 (by decide) rfl rfl (Nat.le_of_ble_eq_true rfl) ?_
  intro p e s m args below meth c C hr hlocks _ _ _ ls hl
  have hx := C.1
  have hb := C.2.1
  have hml := C.2.2.1
  have hown := C.2.2.2.1
  have hts := C.2.2.2.2
  have h : va_S (fun _ => False) s.heap s.heap [] := va_S.rf
  have hl : lv_has ls 1 [(0, .int p0)] := hl
  refine lv_iload_n hx hb dX0_isSplit_0 rfl (lv_at hl 0 rfl) ?_
  refine lv_i2l (v := p0.toInt64) hx hb dX0_isSplit_1 rfl ?_
  refine lv_lconst (v := 0) hx hb dX0_isSplit_2 (by decide) ?_
  refine lv_ldc2 hx hb hown (hts _ q1064) dX0_isSplit_3 ?_
  refine s_callz (As := [.long p0.toInt64, .long (0 : Int64), .long (2 : Int64)]) (rest := []) 3 C (k_X0_isIn l p0.toInt64 (0 : Int64) (2 : Int64)) (lw_S q994 q995 q144 q996) rfl rfl (by decide +kernel) ⟨Nat.le_of_ble_eq_true rfl, Nat.le_of_ble_eq_true rfl⟩ rfl hl.1 rfl (Nat.le_of_ble_eq_true rfl) ⟨Nat.le_of_ble_eq_true rfl, Nat.le_of_ble_eq_true rfl⟩ dX0_isSplit_6 h (fun r6 H locs er6 br6 hz1 hk1 hS1 => ?_)
  have h := hS1
  clear hz1 hk1 hS1
  have he : f_X0_isSplit p0 = r6 := (by have er6 := er6.symm; subst er6; exact rfl)
  exact s_retz C hr hlocks h he br6 dX0_isSplit_9
def f_X0_isLaw (p0 : Int32) : Int32 := (let r6 := (f_X0_isIn p0.toInt64 (0 : Int64) (3 : Int64)); r6)
set_option maxHeartbeats 4000000 in
set_option maxRecDepth 100000 in
theorem k_X0_isLaw (l : Launch) (p0 : Int32) : Met l yX0_isLaw (ws_ yX0_isLaw cX0_isLaw 1 (some .boolean)) ({ frames := 1, cells := 0, slots := 0, locals := 25 } : Room) (sPc [.int p0]) (sQz (f_X0_isLaw p0)) 0 0 (fun _ => False) := by
  refine met_S RX0 (by decide) rfl rfl (Nat.le_of_ble_eq_true rfl) ?_
  intro p e s m args below meth c C hr hlocks _ _ _ ls hl
  have hx := C.1
  have hb := C.2.1
  have hml := C.2.2.1
  have hown := C.2.2.2.1
  have hts := C.2.2.2.2
  have h : va_S (fun _ => False) s.heap s.heap [] := va_S.rf
  have hl : lv_has ls 1 [(0, .int p0)] := hl
  refine lv_iload_n hx hb dX0_isLaw_0 rfl (lv_at hl 0 rfl) ?_
  refine lv_i2l (v := p0.toInt64) hx hb dX0_isLaw_1 rfl ?_
  refine lv_lconst (v := 0) hx hb dX0_isLaw_2 (by decide) ?_
  refine lv_ldc2 hx hb hown (hts _ q1120) dX0_isLaw_3 ?_
  refine s_callz (As := [.long p0.toInt64, .long (0 : Int64), .long (3 : Int64)]) (rest := []) 3 C (k_X0_isIn l p0.toInt64 (0 : Int64) (3 : Int64)) (lw_S q994 q995 q144 q996) rfl rfl (by decide +kernel) ⟨Nat.le_of_ble_eq_true rfl, Nat.le_of_ble_eq_true rfl⟩ rfl hl.1 rfl (Nat.le_of_ble_eq_true rfl) ⟨Nat.le_of_ble_eq_true rfl, Nat.le_of_ble_eq_true rfl⟩ dX0_isLaw_6 h (fun r6 H locs er6 br6 hz1 hk1 hS1 => ?_)
  have h := hS1
  clear hz1 hk1 hS1
  have he : f_X0_isLaw p0 = r6 := (by have er6 := er6.symm; subst er6; exact rfl)
  exact s_retz C hr hlocks h he br6 dX0_isLaw_9
def f_X0_has (p0 : Int32) (p1 : Int32) : Int32 := if ((p0 >>> (p1 &&& (31 : Int32))) &&& (1 : Int32)) = (1 : Int32) then ((1 : Int32)) else ((0 : Int32))
set_option maxHeartbeats 4000000 in
set_option maxRecDepth 100000 in
theorem k_X0_has (l : Launch) (p0 : Int32) (p1 : Int32) : Met l yX0_has (ws_ yX0_has cX0_has 2 (some .boolean)) ({ frames := 0, cells := 0, slots := 0, locals := 0 } : Room) (sPc [.int p0, .int p1]) (sQz (f_X0_has p0 p1)) 0 0 (fun _ => False) := by
  refine met_S RX0 (by decide) rfl rfl (Nat.le_of_ble_eq_true rfl) ?_
  intro p e s m args below meth c C hr hlocks _ _ _ ls hl
  have hx := C.1
  have hb := C.2.1
  have hml := C.2.2.1
  have hown := C.2.2.2.1
  have hts := C.2.2.2.2
  have h : va_S (fun _ => False) s.heap s.heap [] := va_S.rf
  have hl : lv_has ls 2 [(0, .int p0), (1, .int p1)] := hl
  have zl0 : (0 : Int32).toInt = 0 := rfl
  have zl1 : (1 : Int32).toInt = 1 := rfl
  refine lv_iload_n hx hb dX0_has_0 rfl (lv_at hl 0 rfl) ?_
  refine lv_iload_n hx hb dX0_has_1 rfl (lv_at hl 1 rfl) ?_
  refine lv_ishr hx hb dX0_has_2 ?_
  refine lv_iconst (v := 1) hx hb dX0_has_3 (by decide) ?_
  refine lv_iand hx hb dX0_has_4 ?_
  refine lv_iconst (v := 1) hx hb dX0_has_5 (by decide) ?_
  refine lv_icmp_ne (tgt := 13) hx hb dX0_has_6 (by decide) (fun c6 => ?_) (fun c6 => ?_)
  · have i6 := c_ne c6
    refine lv_iconst (v := 0) hx hb dX0_has_13 (by decide) ?_
    have he : f_X0_has p0 p1 = (0 : Int32) := (by exact ((if_neg c6).trans rfl))
    exact s_retz C hr hlocks h he (Or.inl rfl) dX0_has_14
  · have i6 := c_eq c6
    refine lv_iconst (v := 1) hx hb dX0_has_9 (by decide) ?_
    refine lv_goto (tgt := 14) hx hb dX0_has_10 (by decide) ?_
    have he : f_X0_has p0 p1 = (1 : Int32) := (by exact ((if_pos c6).trans rfl))
    exact s_retz C hr hlocks h he (Or.inr rfl) dX0_has_14
theorem lhas_ok {x p r : Int32} (h : r = f_X0_has x p) (hr : ¬ r = 0) : (x >>> (p &&& 31)) &&& 1 = 1 := by
  unfold f_X0_has at h
  split at h
  · assumption
  · exact absurd h hr
theorem bc_rk : ∀ n, n < 64 → 0 ≤ (f_J11_bitCount (nI n)).toInt ∧ (f_J11_bitCount (nI n)).toInt ≤ 6 := by decide +kernel
theorem bc_rng {x : Int32} (h : 0 ≤ x.toInt ∧ x.toInt ≤ 63) : 0 ≤ (f_J11_bitCount x).toInt ∧ (f_J11_bitCount x).toInt ≤ 6 := by
  obtain ⟨j, hj, rfl⟩ := small_nI (n := 63) h
  exact bc_rk j (by omega)
theorem mul_ne99 {a b : Int32} (ha : 1 ≤ a.toInt ∧ a.toInt ≤ 99) (hb : 0 ≤ b.toInt ∧ b.toInt ≤ 6) (hb0 : ¬ b = 0) : ¬ a * b = 0 := by
  have hb1 : ¬ b.toInt = 0 := fun q => hb0 (Int32.toInt_inj.mp q)
  have h1 : 1 * 1 ≤ a.toInt * b.toInt := Int.mul_le_mul ha.1 (by omega) (by omega) (by omega)
  have h2 : a.toInt * b.toInt ≤ 99 * 6 := Int.mul_le_mul ha.2 hb.2 (by omega) (by omega)
  exact ne_pos (by rw [i_mul rfl rfl (by omega)]; omega)
def f_X0_status (σ : MS × MS) : Int32 := (gi (own σ) 7)
set_option maxHeartbeats 4000000 in
set_option maxRecDepth 100000 in
theorem k_X0_status (l : Launch) (g : GL) (σ : MS × MS) : Met l yX0_status (ws_ yX0_status cX0_status 1 (some .int)) ({ frames := 0, cells := 0, slots := 0, locals := 0 } : Room) (wPc (dL g) (g.2.2.1 99) σ []) (wQi (dL g) σ (f_X0_status σ) (fun u r => True)) 0 0 (dL g).2.2.2.1 := by
  refine met_W RX0 (by decide) rfl (Nat.le_of_ble_eq_true rfl) ?_
  intro p e s m args below meth c C hr hlocks h ls hl
  have hx := C.1.1
  have hb := C.1.2.1
  have hml := C.1.2.2.1
  have hown := C.1.2.2.2.1
  have hts := C.1.2.2.2.2
  have hl : lv_has ls 1 [(0, .ref (g.2.2.1 99))] := hl
  refine lv_aload_n hx hb dX0_status_0 rfl (lv_at hl 0 rfl) ?_
  refine L_g7 C h dX0_status_1 ?_
  have he : f_X0_status σ = (gi (own σ) 7) := (by exact rfl)
  exact w_reti (wXL g) C h hr hlocks rfl he trivial dX0_status_4
def f_X0_top (σ : MS × MS) : Int64 := (gl (own σ) 8)
set_option maxHeartbeats 4000000 in
set_option maxRecDepth 100000 in
theorem k_X0_top (l : Launch) (g : GL) (σ : MS × MS) : Met l yX0_top (ws_ yX0_top cX0_top 1 (some .long)) ({ frames := 0, cells := 0, slots := 0, locals := 0 } : Room) (wPc (dL g) (g.2.2.1 99) σ []) (wQl (dL g) σ (f_X0_top σ) (fun u r => True)) 0 0 (dL g).2.2.2.1 := by
  refine met_W RX0 (by decide) rfl (Nat.le_of_ble_eq_true rfl) ?_
  intro p e s m args below meth c C hr hlocks h ls hl
  have hx := C.1.1
  have hb := C.1.2.1
  have hml := C.1.2.2.1
  have hown := C.1.2.2.2.1
  have hts := C.1.2.2.2.2
  have hl : lv_has ls 1 [(0, .ref (g.2.2.1 99))] := hl
  refine lv_aload_n hx hb dX0_top_0 rfl (lv_at hl 0 rfl) ?_
  refine L_g8 C h dX0_top_1 ?_
  have he : f_X0_top σ = (gl (own σ) 8) := (by exact rfl)
  exact w_retl (wXL g) C h hr hlocks rfl he trivial dX0_top_4
def f_X0_bottom (σ : MS × MS) : Int64 := (gl (own σ) 9)
set_option maxHeartbeats 4000000 in
set_option maxRecDepth 100000 in
theorem k_X0_bottom (l : Launch) (g : GL) (σ : MS × MS) : Met l yX0_bottom (ws_ yX0_bottom cX0_bottom 1 (some .long)) ({ frames := 0, cells := 0, slots := 0, locals := 0 } : Room) (wPc (dL g) (g.2.2.1 99) σ []) (wQl (dL g) σ (f_X0_bottom σ) (fun u r => True)) 0 0 (dL g).2.2.2.1 := by
  refine met_W RX0 (by decide) rfl (Nat.le_of_ble_eq_true rfl) ?_
  intro p e s m args below meth c C hr hlocks h ls hl
  have hx := C.1.1
  have hb := C.1.2.1
  have hml := C.1.2.2.1
  have hown := C.1.2.2.2.1
  have hts := C.1.2.2.2.2
  have hl : lv_has ls 1 [(0, .ref (g.2.2.1 99))] := hl
  refine lv_aload_n hx hb dX0_bottom_0 rfl (lv_at hl 0 rfl) ?_
  refine L_g9 C h dX0_bottom_1 ?_
  have he : f_X0_bottom σ = (gl (own σ) 9) := (by exact rfl)
  exact w_retl (wXL g) C h hr hlocks rfl he trivial dX0_bottom_4
def f_X0_fault (σ : MS × MS) (p1 : Int32) : Int32 := if p1 = (0 : Int32) then ((gi (own σ) 3)) else (if p1 = (1 : Int32) then ((gi (own σ) 4)) else ((-1 : Int32)))
set_option maxHeartbeats 4000000 in
set_option maxRecDepth 100000 in
theorem k_X0_fault (l : Launch) (g : GL) (σ : MS × MS) (p1 : Int32) : Met l yX0_fault (ws_ yX0_fault cX0_fault 2 (some .int)) ({ frames := 0, cells := 0, slots := 0, locals := 0 } : Room) (wPc (dL g) (g.2.2.1 99) σ [.int p1]) (wQi (dL g) σ (f_X0_fault σ p1) (fun u r => True)) 0 0 (dL g).2.2.2.1 := by
  refine met_W RX0 (by decide) rfl (Nat.le_of_ble_eq_true rfl) ?_
  intro p e s m args below meth c C hr hlocks h ls hl
  have hx := C.1.1
  have hb := C.1.2.1
  have hml := C.1.2.2.1
  have hown := C.1.2.2.2.1
  have hts := C.1.2.2.2.2
  have hl : lv_has ls 2 [(0, .ref (g.2.2.1 99)), (1, .int p1)] := hl
  have zlm1 : (-1 : Int32).toInt = -1 := rfl
  have zl0 : (0 : Int32).toInt = 0 := rfl
  have zl1 : (1 : Int32).toInt = 1 := rfl
  refine lv_iload_n hx hb dX0_fault_0 rfl (lv_at hl 1 rfl) ?_
  refine lv_if_ne (tgt := 11) hx hb dX0_fault_1 (by decide) (fun c1 => ?_) (fun c1 => ?_)
  · have i1 := c_ne c1
    refine lv_iload_n hx hb dX0_fault_11 rfl (lv_at hl 1 rfl) ?_
    refine lv_iconst (v := 1) hx hb dX0_fault_12 (by decide) ?_
    refine lv_icmp_ne (tgt := 23) hx hb dX0_fault_13 (by decide) (fun c13 => ?_) (fun c13 => ?_)
    · have i13 := c_ne c13
      refine lv_iconst (v := -1) hx hb dX0_fault_23 (by decide) ?_
      have he : f_X0_fault σ p1 = (-1 : Int32) := (by exact ((if_neg c1).trans ((if_neg c13).trans rfl)))
      exact w_reti (wXL g) C h hr hlocks rfl he trivial dX0_fault_24
    · have i13 := c_eq c13
      refine lv_aload_n hx hb dX0_fault_16 rfl (lv_at hl 0 rfl) ?_
      refine L_g4 C h dX0_fault_17 ?_
      refine lv_goto (tgt := 24) hx hb dX0_fault_20 (by decide) ?_
      have he : f_X0_fault σ p1 = (gi (own σ) 4) := (by exact ((if_neg c1).trans ((if_pos c13).trans rfl)))
      exact w_reti (wXL g) C h hr hlocks rfl he trivial dX0_fault_24
  · have i1 := c_eq c1
    refine lv_aload_n hx hb dX0_fault_4 rfl (lv_at hl 0 rfl) ?_
    refine L_g3 C h dX0_fault_5 ?_
    refine lv_goto (tgt := 24) hx hb dX0_fault_8 (by decide) ?_
    have he : f_X0_fault σ p1 = (gi (own σ) 3) := (by exact ((if_pos c1).trans rfl))
    exact w_reti (wXL g) C h hr hlocks rfl he trivial dX0_fault_24
def f_X0_isPerson (σ : MS × MS) (p1 : Int32) : Int32 := (let r13 := (f_X0_isIn p1.toInt64 (0 : Int64) ((gi (ttb σ) 1) - (1 : Int32)).toInt64); r13)
set_option maxHeartbeats 4000000 in
set_option maxRecDepth 100000 in
theorem k_X0_isPerson (l : Launch) (g : GL) (σ : MS × MS) (p1 : Int32) (hlp : 0 ≤ (gi (ttb σ) 1).toInt ∧ (gi (ttb σ) 1).toInt ≤ 6) : Met l yX0_isPerson (ws_ yX0_isPerson cX0_isPerson 2 (some .boolean)) ({ frames := 1, cells := 0, slots := 0, locals := 25 } : Room) (wPc (dL g) (g.2.2.1 99) σ [.int p1]) (wQz (dL g) σ (f_X0_isPerson σ p1) (fun u r => True)) 0 0 (dL g).2.2.2.1 := by
  refine met_W RX0 (by decide) rfl (Nat.le_of_ble_eq_true rfl) ?_
  intro p e s m args below meth c C hr hlocks h ls hl
  have hx := C.1.1
  have hb := C.1.2.1
  have hml := C.1.2.2.1
  have hown := C.1.2.2.2.1
  have hts := C.1.2.2.2.2
  have hl : lv_has ls 2 [(0, .ref (g.2.2.1 99)), (1, .int p1)] := hl
  have zl1 : (1 : Int32).toInt = 1 := rfl
  refine lv_iload_n hx hb dX0_isPerson_0 rfl (lv_at hl 1 rfl) ?_
  refine lv_i2l (v := p1.toInt64) hx hb dX0_isPerson_1 rfl ?_
  refine lv_lconst (v := 0) hx hb dX0_isPerson_2 (by decide) ?_
  refine lv_aload_n hx hb dX0_isPerson_3 rfl (lv_at hl 0 rfl) ?_
  refine L_at (rest := [.long (0 : Int64), .long p1.toInt64]) C h ⟨Nat.le_of_ble_eq_true rfl, Nat.le_of_ble_eq_true rfl⟩ hl.1 (Nat.le_of_ble_eq_true rfl) ⟨Nat.le_of_ble_eq_true rfl, Nat.le_of_ble_eq_true rfl⟩ dX0_isPerson_4 (fun H locs h => ?_)
  refine L_t1 C h dX0_isPerson_7 ?_
  refine lv_iconst (v := 1) hx hb dX0_isPerson_10 (by decide) ?_
  refine lv_isub hx hb dX0_isPerson_11 ?_
  refine lv_i2l (v := ((gi (ttb σ) 1) - (1 : Int32)).toInt64) hx hb dX0_isPerson_12 rfl ?_
  refine s_callz (As := [.long p1.toInt64, .long (0 : Int64), .long ((gi (ttb σ) 1) - (1 : Int32)).toInt64]) (rest := []) 3 C.1 (k_X0_isIn l p1.toInt64 (0 : Int64) ((gi (ttb σ) 1) - (1 : Int32)).toInt64) (lw_S q994 q995 q144 q996) rfl rfl (by decide +kernel) ⟨Nat.le_of_ble_eq_true rfl, Nat.le_of_ble_eq_true rfl⟩ rfl hl.1 rfl (Nat.le_of_ble_eq_true rfl) ⟨Nat.le_of_ble_eq_true rfl, Nat.le_of_ble_eq_true rfl⟩ dX0_isPerson_13 h.2.2.1 (fun r13 H locs er13 br13 hz1 hk1 hS1 => ?_)
  have h := h.same hk1 hS1
  clear hz1 hk1 hS1
  have he : f_X0_isPerson σ p1 = r13 := (by have er13 := er13.symm; subst er13; exact rfl)
  exact w_retz (wXL g) C h hr hlocks rfl he br13 trivial dX0_isPerson_16
theorem lIsPerson_ok {σ : MS × MS} {p r : Int32} (hp : 0 ≤ (gi (ttb σ) 1).toInt ∧ (gi (ttb σ) 1).toInt ≤ 6) (h : r = f_X0_isPerson σ p) (hr : ¬ r = 0) : 0 ≤ p.toInt ∧ p.toInt < (gi (ttb σ) 1).toInt := by
  have q := lIsIn_ok (r := r) (v := p.toInt64) (a := 0) (b := ((gi (ttb σ) 1) - 1).toInt64) h hr
  rw [Int32.toInt_toInt64, Int32.toInt_toInt64, i_sub rfl (show (1 : Int32).toInt = 1 from rfl) (by omega), show (0 : Int64).toInt = 0 from rfl] at q
  omega
def f_X0_areTwo (σ : MS × MS) (p1 : Int32) (p2 : Int32) : Int32 := (let r2 := (f_X0_isPerson σ p1); if r2 = (0 : Int32) then ((0 : Int32)) else ((let r10 := (f_X0_isPerson σ p2); if r10 = (0 : Int32) then ((0 : Int32)) else (if p1 = p2 then ((0 : Int32)) else ((1 : Int32))))))
set_option maxHeartbeats 4000000 in
set_option maxRecDepth 100000 in
theorem k_X0_areTwo (l : Launch) (g : GL) (σ : MS × MS) (p1 : Int32) (p2 : Int32) (hlp : 0 ≤ (gi (ttb σ) 1).toInt ∧ (gi (ttb σ) 1).toInt ≤ 6) : Met l yX0_areTwo (ws_ yX0_areTwo cX0_areTwo 3 (some .boolean)) ({ frames := 2, cells := 0, slots := 0, locals := 46 } : Room) (wPc (dL g) (g.2.2.1 99) σ [.int p1, .int p2]) (wQz (dL g) σ (f_X0_areTwo σ p1 p2) (fun u r => True)) 0 0 (dL g).2.2.2.1 := by
  refine met_W RX0 (by decide) rfl (Nat.le_of_ble_eq_true rfl) ?_
  intro p e s m args below meth c C hr hlocks h ls hl
  have hx := C.1.1
  have hb := C.1.2.1
  have hml := C.1.2.2.1
  have hown := C.1.2.2.2.1
  have hts := C.1.2.2.2.2
  have hl : lv_has ls 3 [(0, .ref (g.2.2.1 99)), (1, .int p1), (2, .int p2)] := hl
  have zl0 : (0 : Int32).toInt = 0 := rfl
  have zl1 : (1 : Int32).toInt = 1 := rfl
  refine lv_aload_n hx hb dX0_areTwo_0 rfl (lv_at hl 0 rfl) ?_
  refine lv_iload_n hx hb dX0_areTwo_1 rfl (lv_at hl 1 rfl) ?_
  refine w_callz (ci := 0) (q0 := 6) (As := [.int p1]) (rest := []) 1 (wXL g) C h (k_X0_isPerson l g σ p1 (by first | assumption | omega)) (lw_V q1024 q1026 qs41 q144 q1027) rfl rfl rfl rfl (by decide +kernel) ⟨Nat.le_of_ble_eq_true rfl, Nat.le_of_ble_eq_true rfl⟩ rfl hl.1 rfl (Nat.le_of_ble_eq_true rfl) ⟨Nat.le_of_ble_eq_true rfl, Nat.le_of_ble_eq_true rfl⟩ dX0_areTwo_2 (fun r2 σ2 H locs eσ2 er2 br2 hE2 h => ?_)
  rw [eσ2] at h
  clear hE2
  clear eσ2
  refine lv_if_eq (tgt := 25) hx hb dX0_areTwo_5 (by decide) (fun c5 => ?_) (fun c5 => ?_)
  · have i5 := c_eq c5
    refine lv_iconst (v := 0) hx hb dX0_areTwo_25 (by decide) ?_
    have he : f_X0_areTwo σ p1 p2 = (0 : Int32) := (by have er2 := er2.symm; subst er2; exact ((if_pos c5).trans rfl))
    exact w_retz (wXL g) C h hr hlocks rfl he (Or.inl rfl) trivial dX0_areTwo_26
  · have i5 := c_ne c5
    have okr2 := lIsPerson_ok hlp er2 c5
    refine lv_aload_n hx hb dX0_areTwo_8 rfl (lv_at hl 0 rfl) ?_
    refine lv_iload_n hx hb dX0_areTwo_9 rfl (lv_at hl 2 rfl) ?_
    refine w_callz (ci := 0) (q0 := 6) (As := [.int p2]) (rest := []) 1 (wXL g) C h (k_X0_isPerson l g σ p2 (by first | assumption | omega)) (lw_V q1024 q1026 qs41 q144 q1027) rfl rfl rfl rfl (by decide +kernel) ⟨Nat.le_of_ble_eq_true rfl, Nat.le_of_ble_eq_true rfl⟩ rfl hl.1 rfl (Nat.le_of_ble_eq_true rfl) ⟨Nat.le_of_ble_eq_true rfl, Nat.le_of_ble_eq_true rfl⟩ dX0_areTwo_10 (fun r10 σ10 H locs eσ10 er10 br10 hE10 h => ?_)
    rw [eσ10] at h
    clear hE10
    clear eσ10
    refine lv_if_eq (tgt := 25) hx hb dX0_areTwo_13 (by decide) (fun c13 => ?_) (fun c13 => ?_)
    · have i13 := c_eq c13
      refine lv_iconst (v := 0) hx hb dX0_areTwo_25 (by decide) ?_
      have he : f_X0_areTwo σ p1 p2 = (0 : Int32) := (by have er2 := er2.symm; subst er2; have er10 := er10.symm; subst er10; exact ((if_neg c5).trans ((if_pos c13).trans rfl)))
      exact w_retz (wXL g) C h hr hlocks rfl he (Or.inl rfl) trivial dX0_areTwo_26
    · have i13 := c_ne c13
      have okr10 := lIsPerson_ok hlp er10 c13
      refine lv_iload_n hx hb dX0_areTwo_16 rfl (lv_at hl 1 rfl) ?_
      refine lv_iload_n hx hb dX0_areTwo_17 rfl (lv_at hl 2 rfl) ?_
      refine lv_icmp_eq (tgt := 25) hx hb dX0_areTwo_18 (by decide) (fun c18 => ?_) (fun c18 => ?_)
      · have i18 := c_eq c18
        refine lv_iconst (v := 0) hx hb dX0_areTwo_25 (by decide) ?_
        have he : f_X0_areTwo σ p1 p2 = (0 : Int32) := (by have er2 := er2.symm; subst er2; have er10 := er10.symm; subst er10; exact ((if_neg c5).trans ((if_neg c13).trans ((if_pos c18).trans rfl))))
        exact w_retz (wXL g) C h hr hlocks rfl he (Or.inl rfl) trivial dX0_areTwo_26
      · have i18 := c_ne c18
        refine lv_iconst (v := 1) hx hb dX0_areTwo_21 (by decide) ?_
        refine lv_goto (tgt := 26) hx hb dX0_areTwo_22 (by decide) ?_
        have he : f_X0_areTwo σ p1 p2 = (1 : Int32) := (by have er2 := er2.symm; subst er2; have er10 := er10.symm; subst er10; exact ((if_neg c5).trans ((if_neg c13).trans ((if_neg c18).trans rfl))))
        exact w_retz (wXL g) C h hr hlocks rfl he (Or.inr rfl) trivial dX0_areTwo_26
theorem lAreTwo_ok {σ : MS × MS} {a b r : Int32} (hp : 0 ≤ (gi (ttb σ) 1).toInt ∧ (gi (ttb σ) 1).toInt ≤ 6) (h : r = f_X0_areTwo σ a b) (hr : ¬ r = 0) : (0 ≤ a.toInt ∧ a.toInt < (gi (ttb σ) 1).toInt) ∧ (0 ≤ b.toInt ∧ b.toInt < (gi (ttb σ) 1).toInt) ∧ ¬ a = b := by
  unfold f_X0_areTwo at h
  dsimp only at h
  split at h
  · exact absurd h hr
  · rename_i h1
    split at h
    · exact absurd h hr
    · rename_i h2
      split at h
      · exact absurd h hr
      · rename_i h3
        exact ⟨lIsPerson_ok hp rfl h1, lIsPerson_ok hp rfl h2, h3⟩
def f_X0_answer (σ : MS × MS) (p1 : Int32) : (MS × MS) × Int32 := (let z11_ : Int32 := (if (0 : Int32) ≤ p1 then ((0 : Int32)) else ((6 : Int32))); let t0_11 := z11_; (let σ11 := lsi σ 7 t0_11; (σ11, p1)))
set_option maxHeartbeats 4000000 in
set_option maxRecDepth 100000 in
theorem k_X0_answer (l : Launch) (g : GL) (σ : MS × MS) (p1 : Int32) : Met l yX0_answer (ws_ yX0_answer cX0_answer 2 (some .int)) ({ frames := 0, cells := 0, slots := 0, locals := 0 } : Room) (wPc (dL g) (g.2.2.1 99) σ [.int p1]) (wQi (dL g) (f_X0_answer σ p1).1 (f_X0_answer σ p1).2 (fun u r => True)) 0 0 (dL g).2.2.2.1 := by
  refine met_W RX0 (by decide) rfl (Nat.le_of_ble_eq_true rfl) ?_
  intro p e s m args below meth c C hr hlocks h ls hl
  have hx := C.1.1
  have hb := C.1.2.1
  have hml := C.1.2.2.1
  have hown := C.1.2.2.2.1
  have hts := C.1.2.2.2.2
  have hl : lv_has ls 2 [(0, .ref (g.2.2.1 99)), (1, .int p1)] := hl
  have zl0 : (0 : Int32).toInt = 0 := rfl
  have zl6 : (6 : Int32).toInt = 6 := rfl
  refine lv_aload_n hx hb dX0_answer_0 rfl (lv_at hl 0 rfl) ?_
  refine lv_iload_n hx hb dX0_answer_1 rfl (lv_at hl 1 rfl) ?_
  have j11 : ∀ (t0_11 : Int32) (H : Heap) (locs : List Loc) (ls : Array Slot) (ej11 : (if (0 : Int32) ≤ p1 then ((0 : Int32)) else ((6 : Int32))) = t0_11) (h : wH (dL g) σ s H locs) (hl : lv_has ls 2 [(1, .int p1)]), W p l e ({ frames := 0, cells := 0, slots := 0, locals := 0 } : Room) s m args below meth c H locs 0 0 (MQ below (wQi (dL g) (f_X0_answer σ p1).1 (f_X0_answer σ p1).2 (fun u r => True)) args s 0 0 (dL g).2.2.2.1) (F0 m 11 ls [.int t0_11, .ref (g.2.2.1 99)]) := by
    intro t0_11 H locs ls ej11 h hl
    have et0_11 := ej11.symm
    refine L_p7 C h dX0_answer_11 (fun σ11 H locs eσ11 h => ?_)
    refine lv_iload_n hx hb dX0_answer_14 rfl (lv_at hl 0 rfl) ?_
    have he : f_X0_answer σ p1 = (σ11, p1) := (by have et0_11 := et0_11.symm; subst et0_11; have eσ11 := eσ11.symm; subst eσ11; exact rfl)
    exact w_reti (wXL g) C h hr hlocks (congrArg Prod.fst he) (congrArg Prod.snd he) trivial dX0_answer_15
  refine lv_if_ge (tgt := 10) hx hb dX0_answer_2 (by decide) (fun c2 => ?_) (fun c2 => ?_)
  · have i2 := c_le c2
    refine lv_iconst (v := 0) hx hb dX0_answer_10 (by decide) ?_
    exact j11 _ _ _ _ (by exact ((if_pos c2).trans rfl)) h (lv_sub hl [1] rfl)
  · have i2 := c_nle c2
    refine lv_bipush (v := 6) hx hb dX0_answer_5 (by decide) ?_
    refine lv_goto (tgt := 11) hx hb dX0_answer_7 (by decide) ?_
    exact j11 _ _ _ _ (by exact ((if_neg c2).trans rfl)) h (lv_sub hl [1] rfl)
theorem lanswer_s (σ : MS × MS) (v : Int32) : (f_X0_answer σ v).1 = lsi σ 7 (if 0 ≤ v then 0 else 6) := by
  unfold f_X0_answer; first | rfl | (dsimp only; split <;> rfl)
def f_X0_paidByAll_L4 (σ : MS × MS) : Nat → Int32 → Int32 → Int32 × Int32
  | 0, x1_4, x2_4 => (x1_4, x2_4)
  | n + 1, x1_4, x2_4 => if (gi (ttb σ) 1) ≤ x2_4 then ((x1_4, x2_4)) else ((let v26 := (x1_4 + (ga (ttb σ) 11 x2_4)); f_X0_paidByAll_L4 σ n v26 (x2_4 + (1 : Int32))))
def f_X0_paidByAll (σ : MS × MS) : Int32 := (let zL4 := f_X0_paidByAll_L4 σ (7) (0 : Int32) (0 : Int32); let x1_4e := zL4.1; let x2_4e := zL4.2; x1_4e)
set_option maxHeartbeats 4000000 in
set_option maxRecDepth 100000 in
theorem k_X0_paidByAll (l : Launch) (g : GL) (σ : MS × MS) (hlp : 0 ≤ (gi (ttb σ) 1).toInt ∧ (gi (ttb σ) 1).toInt ≤ 6) : Met l yX0_paidByAll (ws_ yX0_paidByAll cX0_paidByAll 3 (some .int)) ({ frames := 1, cells := 0, slots := 0, locals := 20 } : Room) (wPc (dL g) (g.2.2.1 99) σ []) (wQi (dL g) σ (f_X0_paidByAll σ) (fun u r => True)) 0 0 (dL g).2.2.2.1 := by
  refine met_W RX0 (by decide) rfl (Nat.le_of_ble_eq_true rfl) ?_
  intro p e s m args below meth c C hr hlocks h ls hl
  have hx := C.1.1
  have hb := C.1.2.1
  have hml := C.1.2.2.1
  have hown := C.1.2.2.2.1
  have hts := C.1.2.2.2.2
  have hl : lv_has ls 3 [(0, .ref (g.2.2.1 99))] := hl
  have zl0 : (0 : Int32).toInt = 0 := rfl
  have zl1 : (1 : Int32).toInt = 1 := rfl
  refine lv_iconst (v := 0) hx hb dX0_paidByAll_0 (by decide) ?_
  refine lv_istore_n (lv' := [(1, .int (0 : Int32)), (0, .ref (g.2.2.1 99))]) hx hb dX0_paidByAll_1 rfl hl (by decide) rfl (fun ls hl => ?_)
  refine lv_iconst (v := 0) hx hb dX0_paidByAll_2 (by decide) ?_
  refine lv_istore_n (lv' := [(2, .int (0 : Int32)), (1, .int (0 : Int32)), (0, .ref (g.2.2.1 99))]) hx hb dX0_paidByAll_3 rfl hl (by decide) rfl (fun ls hl => ?_)
  have hL4 : ∀ (n : Nat) (x1_4 : Int32) (x2_4 : Int32) (H : Heap) (locs : List Loc) (ls : Array Slot), (0 ≤ x2_4.toInt ∧ x2_4.toInt ≤ (gi (ttb σ) 1).toInt) → ((gi (ttb σ) 1).toInt - x2_4.toInt).toNat < n → wH (dL g) σ s H locs → lv_has ls 3 [(0, .ref (g.2.2.1 99)), (1, .int x1_4), (2, .int x2_4)] → (∀ (x1_4' : Int32) (x2_4' : Int32) (H : Heap) (locs : List Loc) (ls : Array Slot), f_X0_paidByAll_L4 σ n x1_4 x2_4 = (x1_4', x2_4') → (0 ≤ x2_4'.toInt ∧ x2_4'.toInt ≤ (gi (ttb σ) 1).toInt) → wH (dL g) σ s H locs → lv_has ls 3 [(1, .int x1_4')] → W p l e ({ frames := 1, cells := 0, slots := 0, locals := 20 } : Room) s m args below meth c H locs 0 0 (MQ below (wQi (dL g) σ (f_X0_paidByAll σ) (fun u r => True)) args s 0 0 (dL g).2.2.2.1) (F0 m 33 ls [])) → W p l e ({ frames := 1, cells := 0, slots := 0, locals := 20 } : Room) s m args below meth c H locs 0 0 (MQ below (wQi (dL g) σ (f_X0_paidByAll σ) (fun u r => True)) args s 0 0 (dL g).2.2.2.1) (F0 m 4 ls []) := by
    intro n
    induction n with
    | zero =>
      intro x1_4 x2_4 H locs ls _ hm; exact absurd hm (Nat.not_lt_zero _)
    | succ n ih =>
      intro x1_4 x2_4 H locs ls hI4 hm h hl kk
      refine lv_iload_n hx hb dX0_paidByAll_4 rfl (lv_at hl 2 rfl) ?_
      refine lv_aload_n hx hb dX0_paidByAll_5 rfl (lv_at hl 0 rfl) ?_
      refine L_at (rest := [.int x2_4]) C h ⟨Nat.le_of_ble_eq_true rfl, Nat.le_of_ble_eq_true rfl⟩ hl.1 (Nat.le_of_ble_eq_true rfl) ⟨Nat.le_of_ble_eq_true rfl, Nat.le_of_ble_eq_true rfl⟩ dX0_paidByAll_6 (fun H locs h => ?_)
      refine L_t1 C h dX0_paidByAll_9 ?_
      refine lv_icmp_ge (tgt := 33) hx hb dX0_paidByAll_12 (by decide) (fun c12 => ?_) (fun c12 => ?_)
      · have i12 := c_le c12
        exact kk x1_4 x2_4 _ _ _ (show f_X0_paidByAll_L4 σ (n + 1) x1_4 x2_4 = (x1_4, x2_4) from (by exact ((if_pos c12).trans rfl)))  (by first | assumption | omega) h (lv_sub hl [1] rfl)
      · have i12 := c_nle c12
        refine lv_iload_n hx hb dX0_paidByAll_15 rfl (lv_at hl 1 rfl) ?_
        refine lv_aload_n hx hb dX0_paidByAll_16 rfl (lv_at hl 0 rfl) ?_
        refine L_at (rest := [.int x1_4]) C h ⟨Nat.le_of_ble_eq_true rfl, Nat.le_of_ble_eq_true rfl⟩ hl.1 (Nat.le_of_ble_eq_true rfl) ⟨Nat.le_of_ble_eq_true rfl, Nat.le_of_ble_eq_true rfl⟩ dX0_paidByAll_17 (fun H locs h => ?_)
        refine L_t11 C h dX0_paidByAll_20 ?_
        refine lv_iload_n hx hb dX0_paidByAll_23 rfl (lv_at hl 2 rfl) ?_
        refine L_l211 C h (ix_of (rfl : x2_4.toInt = x2_4.toInt) (by omega)) dX0_paidByAll_24 ?_
        refine lv_iadd hx hb dX0_paidByAll_25 ?_
        refine lv_topi (fun v26 ev26 => ?_)
        refine lv_istore_n (lv' := [(1, .int v26), (0, .ref (g.2.2.1 99)), (2, .int x2_4)]) hx hb dX0_paidByAll_26 rfl hl (by decide) rfl (fun ls hl => ?_)
        refine lv_iinc (v := (x2_4 + (1 : Int32))) (lv' := [(2, .int (x2_4 + (1 : Int32))), (1, .int v26), (0, .ref (g.2.2.1 99))]) hx hb dX0_paidByAll_27 hl (k := 2) rfl rfl (by decide) rfl (fun ls hl => ?_)
        refine lv_goto (tgt := 4) hx hb dX0_paidByAll_30 (by decide) ?_
        have tt2 : (x2_4 + (1 : Int32)).toInt = (x2_4.toInt + (1)) := (i_add (rfl : x2_4.toInt = x2_4.toInt) zl1 (by omega))
        exact ih v26 (x2_4 + (1 : Int32)) _ _ _  (by first | assumption | omega) (by omega) h (lv_sub hl [2, 1, 0] rfl) (fun x1_4' x2_4' H locs ls en hI h hl => kk x1_4' x2_4' H locs ls ((show f_X0_paidByAll_L4 σ (n + 1) x1_4 x2_4 = f_X0_paidByAll_L4 σ n v26 (x2_4 + (1 : Int32)) from (by have ev26 := ev26.symm; subst ev26; exact ((if_neg c12).trans rfl))).trans en) hI h hl)
  refine hL4 (7) (0 : Int32) (0 : Int32) _ _ _  (by first | assumption | omega) (by omega) h (lv_sub hl [2, 1, 0] rfl) (fun x1_4e x2_4e H locs ls eL4 hI4 h hl => ?_)
  have ex1_4e : x1_4e = (f_X0_paidByAll_L4 σ (7) (0 : Int32) (0 : Int32)).1 := by rw [eL4]
  have ex2_4e : x2_4e = (f_X0_paidByAll_L4 σ (7) (0 : Int32) (0 : Int32)).2 := by rw [eL4]
  refine lv_iload_n hx hb dX0_paidByAll_33 rfl (lv_at hl 0 rfl) ?_
  have he : f_X0_paidByAll σ = x1_4e := (by have ex1_4e := ex1_4e.symm; subst ex1_4e; have ex2_4e := ex2_4e.symm; subst ex2_4e; exact rfl)
  exact w_reti (wXL g) C h hr hlocks rfl he trivial dX0_paidByAll_34
def f_X0_told (σ : MS × MS) (p1 : Int32) : (MS × MS) × Int32 := (let r7 := (f_X0_isIn p1.toInt64 (0 : Int64) (11 : Int64)); (let z18_ : Int32 := (if r7 = (0 : Int32) then ((1 : Int32)) else ((0 : Int32))); let t0_18 := z18_; (let σ18 := lsi σ 7 t0_18; if p1 = (0 : Int32) then ((σ18, (gi (ttb σ18) 1))) else (if p1 = (1 : Int32) then ((σ18, (gi (ttb σ18) 2))) else (if p1 = (2 : Int32) then ((σ18, (gi (ttb σ18) 3))) else (if p1 = (3 : Int32) then ((σ18, (gi (ttb σ18) 4))) else (if p1 = (4 : Int32) then ((σ18, (gi (ttb σ18) 5))) else (if p1 = (5 : Int32) then ((let r128 := (f_X5_bill (ttb σ18)); (σ18, r128))) else (if p1 = (6 : Int32) then ((let r136 := (f_X5_heads (ttb σ18)); let r139 := (f_J11_bitCount r136); (σ18, r139))) else (if p1 = (7 : Int32) then ((let r144 := (f_X0_paidByAll σ18); (σ18, r144))) else (if p1 = (8 : Int32) then ((σ18, (gi (ttb σ18) 6))) else (if p1 = (9 : Int32) then ((σ18, (gi (ttb σ18) 7))) else (if p1 = (10 : Int32) then ((let r168 := (f_X5_guests (ttb σ18)); (σ18, r168))) else (if p1 = (11 : Int32) then ((σ18, (gi (ttb σ18) 8))) else ((σ18, (-1 : Int32)))))))))))))))))
set_option maxHeartbeats 4000000 in
set_option maxRecDepth 100000 in
theorem k_X0_told (l : Launch) (g : GL) (σ : MS × MS) (p1 : Int32) (hlp : 0 ≤ (gi (ttb σ) 1).toInt ∧ (gi (ttb σ) 1).toInt ≤ 6) (hld : 0 ≤ (gi (ttb σ) 3).toInt ∧ (gi (ttb σ) 3).toInt ≤ 16 ∧ (gi (ttb σ) 3).toInt ≤ (g.1.2.1 50 : Int)) : Met l yX0_told (ws_ yX0_told cX0_told 2 (some .int)) ({ frames := 2, cells := 0, slots := 0, locals := 43 } : Room) (wPc (dL g) (g.2.2.1 99) σ [.int p1]) (wQi (dL g) (f_X0_told σ p1).1 (f_X0_told σ p1).2 (fun u r => ((gi (ttb u) 1).toInt = (gi (ttb σ) 1).toInt) ∧ ((gi (ttb u) 3).toInt = (gi (ttb σ) 3).toInt))) 0 0 (dL g).2.2.2.1 := by
  refine met_W RX0 (by decide) rfl (Nat.le_of_ble_eq_true rfl) ?_
  intro p e s m args below meth c C hr hlocks h ls hl
  have hx := C.1.1
  have hb := C.1.2.1
  have hml := C.1.2.2.1
  have hown := C.1.2.2.2.1
  have hts := C.1.2.2.2.2
  have hl : lv_has ls 2 [(0, .ref (g.2.2.1 99)), (1, .int p1)] := hl
  have hlpq : (gi (ttb σ) 1).toInt = (gi (ttb σ) 1).toInt := rfl
  have hldq : (gi (ttb σ) 3).toInt = (gi (ttb σ) 3).toInt := rfl
  have zlm1 : (-1 : Int32).toInt = -1 := rfl
  have zl0 : (0 : Int32).toInt = 0 := rfl
  have zl1 : (1 : Int32).toInt = 1 := rfl
  have zl2 : (2 : Int32).toInt = 2 := rfl
  have zl3 : (3 : Int32).toInt = 3 := rfl
  have zl4 : (4 : Int32).toInt = 4 := rfl
  have zl5 : (5 : Int32).toInt = 5 := rfl
  have zl6 : (6 : Int32).toInt = 6 := rfl
  have zl7 : (7 : Int32).toInt = 7 := rfl
  have zl8 : (8 : Int32).toInt = 8 := rfl
  have zl9 : (9 : Int32).toInt = 9 := rfl
  have zl10 : (10 : Int32).toInt = 10 := rfl
  have zl11 : (11 : Int32).toInt = 11 := rfl
  refine lv_aload_n hx hb dX0_told_0 rfl (lv_at hl 0 rfl) ?_
  refine lv_iload_n hx hb dX0_told_1 rfl (lv_at hl 1 rfl) ?_
  refine lv_i2l (v := p1.toInt64) hx hb dX0_told_2 rfl ?_
  refine lv_lconst (v := 0) hx hb dX0_told_3 (by decide) ?_
  refine lv_ldc2 hx hb hown (hts _ q993) dX0_told_4 ?_
  refine s_callz (As := [.long p1.toInt64, .long (0 : Int64), .long (11 : Int64)]) (rest := [.ref (g.2.2.1 99)]) 3 C.1 (k_X0_isIn l p1.toInt64 (0 : Int64) (11 : Int64)) (lw_S q994 q995 q144 q996) rfl rfl (by decide +kernel) ⟨Nat.le_of_ble_eq_true rfl, Nat.le_of_ble_eq_true rfl⟩ rfl hl.1 rfl (Nat.le_of_ble_eq_true rfl) ⟨Nat.le_of_ble_eq_true rfl, Nat.le_of_ble_eq_true rfl⟩ dX0_told_7 h.2.2.1 (fun r7 H locs er7 br7 hz1 hk1 hS1 => ?_)
  have h := h.same hk1 hS1
  clear hz1 hk1 hS1
  have j18 : ∀ (t0_18 : Int32) (H : Heap) (locs : List Loc) (ls : Array Slot) (ej18 : (if r7 = (0 : Int32) then ((1 : Int32)) else ((0 : Int32))) = t0_18) (bt0_18 : t0_18 = 0 ∨ t0_18 = 1) (h : wH (dL g) σ s H locs) (hl : lv_has ls 2 [(0, .ref (g.2.2.1 99)), (1, .int p1)]), W p l e ({ frames := 2, cells := 0, slots := 0, locals := 43 } : Room) s m args below meth c H locs 0 0 (MQ below (wQi (dL g) (f_X0_told σ p1).1 (f_X0_told σ p1).2 (fun u r => ((gi (ttb u) 1).toInt = (gi (ttb σ) 1).toInt) ∧ ((gi (ttb u) 3).toInt = (gi (ttb σ) 3).toInt))) args s 0 0 (dL g).2.2.2.1) (F0 m 18 ls [.int t0_18, .ref (g.2.2.1 99)]) := by
    intro t0_18 H locs ls ej18 bt0_18 h hl
    have et0_18 := ej18.symm
    refine L_p7 C h dX0_told_18 (fun σ18 H locs eσ18 h => ?_)
    have hNEW : (0 ≤ (gi (ttb σ18) 1).toInt ∧ (gi (ttb σ18) 1).toInt ≤ 6) ∧ (0 ≤ (gi (ttb σ18) 3).toInt ∧ (gi (ttb σ18) 3).toInt ≤ 16 ∧ (gi (ttb σ18) 3).toInt ≤ (g.1.2.1 50 : Int)) ∧ ((gi (ttb σ18) 1).toInt = (gi (ttb σ) 1).toInt) ∧ ((gi (ttb σ18) 3).toInt = (gi (ttb σ) 3).toInt) := ⟨(by rw [eσ18] <;> exact hlp), (by rw [eσ18] <;> exact hld), (by rw [eσ18] <;> exact hlpq), (by rw [eσ18] <;> exact hldq)⟩
    obtain ⟨hlp, hld, hlpq, hldq⟩ := hNEW
    have q7_18 : (gi (own σ18) 7).toInt = t0_18.toInt := by rw [eσ18]; rfl
    refine lv_iload_n hx hb dX0_told_21 rfl (lv_at hl 1 rfl) ?_
    by_cases c22_0 : p1 = (0 : Int32)
    · refine lv_tableIn (off := 62) (tgt := 84) hx hb dX0_told_22 (by rw [c22_0]; decide) (by rw [c22_0]; decide) (by rw [c22_0]; rfl) (by decide) ?_
      have i22_0 := c_eq c22_0
      refine lv_aload_n hx hb dX0_told_84 rfl (lv_at hl 0 rfl) ?_
      refine L_at (rest := []) C h ⟨Nat.le_of_ble_eq_true rfl, Nat.le_of_ble_eq_true rfl⟩ hl.1 (Nat.le_of_ble_eq_true rfl) ⟨Nat.le_of_ble_eq_true rfl, Nat.le_of_ble_eq_true rfl⟩ dX0_told_85 (fun H locs h => ?_)
      refine L_t1 C h dX0_told_88 ?_
      have he : f_X0_told σ p1 = (σ18, (gi (ttb σ18) 1)) := (by have er7 := er7.symm; subst er7; have et0_18 := et0_18.symm; subst et0_18; have eσ18 := eσ18.symm; subst eσ18; exact ((if_pos c22_0).trans rfl))
      exact w_reti (wXL g) C h hr hlocks (congrArg Prod.fst he) (congrArg Prod.snd he) ⟨hlpq, hldq⟩ dX0_told_91
    · have i22_0 := c_ne c22_0
      by_cases c22_1 : p1 = (1 : Int32)
      · refine lv_tableIn (off := 70) (tgt := 92) hx hb dX0_told_22 (by rw [c22_1]; decide) (by rw [c22_1]; decide) (by rw [c22_1]; rfl) (by decide) ?_
        have i22_1 := c_eq c22_1
        refine lv_aload_n hx hb dX0_told_92 rfl (lv_at hl 0 rfl) ?_
        refine L_at (rest := []) C h ⟨Nat.le_of_ble_eq_true rfl, Nat.le_of_ble_eq_true rfl⟩ hl.1 (Nat.le_of_ble_eq_true rfl) ⟨Nat.le_of_ble_eq_true rfl, Nat.le_of_ble_eq_true rfl⟩ dX0_told_93 (fun H locs h => ?_)
        refine L_t2 C h dX0_told_96 ?_
        have he : f_X0_told σ p1 = (σ18, (gi (ttb σ18) 2)) := (by have er7 := er7.symm; subst er7; have et0_18 := et0_18.symm; subst et0_18; have eσ18 := eσ18.symm; subst eσ18; exact ((if_neg c22_0).trans ((if_pos c22_1).trans rfl)))
        exact w_reti (wXL g) C h hr hlocks (congrArg Prod.fst he) (congrArg Prod.snd he) ⟨hlpq, hldq⟩ dX0_told_99
      · have i22_1 := c_ne c22_1
        by_cases c22_2 : p1 = (2 : Int32)
        · refine lv_tableIn (off := 78) (tgt := 100) hx hb dX0_told_22 (by rw [c22_2]; decide) (by rw [c22_2]; decide) (by rw [c22_2]; rfl) (by decide) ?_
          have i22_2 := c_eq c22_2
          refine lv_aload_n hx hb dX0_told_100 rfl (lv_at hl 0 rfl) ?_
          refine L_at (rest := []) C h ⟨Nat.le_of_ble_eq_true rfl, Nat.le_of_ble_eq_true rfl⟩ hl.1 (Nat.le_of_ble_eq_true rfl) ⟨Nat.le_of_ble_eq_true rfl, Nat.le_of_ble_eq_true rfl⟩ dX0_told_101 (fun H locs h => ?_)
          refine L_t3 C h dX0_told_104 ?_
          have he : f_X0_told σ p1 = (σ18, (gi (ttb σ18) 3)) := (by have er7 := er7.symm; subst er7; have et0_18 := et0_18.symm; subst et0_18; have eσ18 := eσ18.symm; subst eσ18; exact ((if_neg c22_0).trans ((if_neg c22_1).trans ((if_pos c22_2).trans rfl))))
          exact w_reti (wXL g) C h hr hlocks (congrArg Prod.fst he) (congrArg Prod.snd he) ⟨hlpq, hldq⟩ dX0_told_107
        · have i22_2 := c_ne c22_2
          by_cases c22_3 : p1 = (3 : Int32)
          · refine lv_tableIn (off := 86) (tgt := 108) hx hb dX0_told_22 (by rw [c22_3]; decide) (by rw [c22_3]; decide) (by rw [c22_3]; rfl) (by decide) ?_
            have i22_3 := c_eq c22_3
            refine lv_aload_n hx hb dX0_told_108 rfl (lv_at hl 0 rfl) ?_
            refine L_at (rest := []) C h ⟨Nat.le_of_ble_eq_true rfl, Nat.le_of_ble_eq_true rfl⟩ hl.1 (Nat.le_of_ble_eq_true rfl) ⟨Nat.le_of_ble_eq_true rfl, Nat.le_of_ble_eq_true rfl⟩ dX0_told_109 (fun H locs h => ?_)
            refine L_t4 C h dX0_told_112 ?_
            have he : f_X0_told σ p1 = (σ18, (gi (ttb σ18) 4)) := (by have er7 := er7.symm; subst er7; have et0_18 := et0_18.symm; subst et0_18; have eσ18 := eσ18.symm; subst eσ18; exact ((if_neg c22_0).trans ((if_neg c22_1).trans ((if_neg c22_2).trans ((if_pos c22_3).trans rfl)))))
            exact w_reti (wXL g) C h hr hlocks (congrArg Prod.fst he) (congrArg Prod.snd he) ⟨hlpq, hldq⟩ dX0_told_115
          · have i22_3 := c_ne c22_3
            by_cases c22_4 : p1 = (4 : Int32)
            · refine lv_tableIn (off := 94) (tgt := 116) hx hb dX0_told_22 (by rw [c22_4]; decide) (by rw [c22_4]; decide) (by rw [c22_4]; rfl) (by decide) ?_
              have i22_4 := c_eq c22_4
              refine lv_aload_n hx hb dX0_told_116 rfl (lv_at hl 0 rfl) ?_
              refine L_at (rest := []) C h ⟨Nat.le_of_ble_eq_true rfl, Nat.le_of_ble_eq_true rfl⟩ hl.1 (Nat.le_of_ble_eq_true rfl) ⟨Nat.le_of_ble_eq_true rfl, Nat.le_of_ble_eq_true rfl⟩ dX0_told_117 (fun H locs h => ?_)
              refine L_t5 C h dX0_told_120 ?_
              have he : f_X0_told σ p1 = (σ18, (gi (ttb σ18) 5)) := (by have er7 := er7.symm; subst er7; have et0_18 := et0_18.symm; subst et0_18; have eσ18 := eσ18.symm; subst eσ18; exact ((if_neg c22_0).trans ((if_neg c22_1).trans ((if_neg c22_2).trans ((if_neg c22_3).trans ((if_pos c22_4).trans rfl))))))
              exact w_reti (wXL g) C h hr hlocks (congrArg Prod.fst he) (congrArg Prod.snd he) ⟨hlpq, hldq⟩ dX0_told_123
            · have i22_4 := c_ne c22_4
              by_cases c22_5 : p1 = (5 : Int32)
              · refine lv_tableIn (off := 102) (tgt := 124) hx hb dX0_told_22 (by rw [c22_5]; decide) (by rw [c22_5]; decide) (by rw [c22_5]; rfl) (by decide) ?_
                have i22_5 := c_eq c22_5
                refine lv_aload_n hx hb dX0_told_124 rfl (lv_at hl 0 rfl) ?_
                refine L_at (rest := []) C h ⟨Nat.le_of_ble_eq_true rfl, Nat.le_of_ble_eq_true rfl⟩ hl.1 (Nat.le_of_ble_eq_true rfl) ⟨Nat.le_of_ble_eq_true rfl, Nat.le_of_ble_eq_true rfl⟩ dX0_told_125 (fun H locs h => ?_)
                refine L_tcalli (As := []) (rest := []) 0 C h (k_X5_bill l g.1 (ttb σ18) (by first | assumption | omega)) (lw_V q997 q998 q999 q151 q1000) rfl rfl (by decide +kernel) ⟨Nat.le_of_ble_eq_true rfl, Nat.le_of_ble_eq_true rfl⟩ rfl hl.1 rfl (Nat.le_of_ble_eq_true rfl) ⟨Nat.le_of_ble_eq_true rfl, Nat.le_of_ble_eq_true rfl⟩ dX0_told_128 (fun r128 σ128 H locs eσ128 er128 hE128 h => ?_)
                have h : wH (dL g) σ18 s H locs := by rw [eσ128] at h; exact h
                clear hE128
                clear eσ128
                have he : f_X0_told σ p1 = (σ18, r128) := (by have er7 := er7.symm; subst er7; have et0_18 := et0_18.symm; subst et0_18; have eσ18 := eσ18.symm; subst eσ18; have er128 := er128.symm; subst er128; exact ((if_neg c22_0).trans ((if_neg c22_1).trans ((if_neg c22_2).trans ((if_neg c22_3).trans ((if_neg c22_4).trans ((if_pos c22_5).trans rfl)))))))
                exact w_reti (wXL g) C h hr hlocks (congrArg Prod.fst he) (congrArg Prod.snd he) ⟨hlpq, hldq⟩ dX0_told_131
              · have i22_5 := c_ne c22_5
                by_cases c22_6 : p1 = (6 : Int32)
                · refine lv_tableIn (off := 110) (tgt := 132) hx hb dX0_told_22 (by rw [c22_6]; decide) (by rw [c22_6]; decide) (by rw [c22_6]; rfl) (by decide) ?_
                  have i22_6 := c_eq c22_6
                  refine lv_aload_n hx hb dX0_told_132 rfl (lv_at hl 0 rfl) ?_
                  refine L_at (rest := []) C h ⟨Nat.le_of_ble_eq_true rfl, Nat.le_of_ble_eq_true rfl⟩ hl.1 (Nat.le_of_ble_eq_true rfl) ⟨Nat.le_of_ble_eq_true rfl, Nat.le_of_ble_eq_true rfl⟩ dX0_told_133 (fun H locs h => ?_)
                  refine L_tcalli (As := []) (rest := []) 0 C h (k_X5_heads l g.1 (ttb σ18) (by first | assumption | omega)) (lw_V q1001 q1002 q1003 q151 q1004) rfl rfl (by decide +kernel) ⟨Nat.le_of_ble_eq_true rfl, Nat.le_of_ble_eq_true rfl⟩ rfl hl.1 rfl (Nat.le_of_ble_eq_true rfl) ⟨Nat.le_of_ble_eq_true rfl, Nat.le_of_ble_eq_true rfl⟩ dX0_told_136 (fun r136 σ136 H locs eσ136 er136 hE136 h => ?_)
                  have h : wH (dL g) σ18 s H locs := by rw [eσ136] at h; exact h
                  have hE136 : (0 ≤ r136.toInt ∧ r136.toInt ≤ 63) := hE136
                  have hrg_136 := hE136
                  clear eσ136
                  refine s_calli (As := [.int r136]) (rest := []) 1 C.1 (k_J11_bitCount l r136) (lw_S q1009 q1010 q170 q1011) rfl rfl (by decide +kernel) ⟨Nat.le_of_ble_eq_true rfl, Nat.le_of_ble_eq_true rfl⟩ rfl hl.1 rfl (Nat.le_of_ble_eq_true rfl) ⟨Nat.le_of_ble_eq_true rfl, Nat.le_of_ble_eq_true rfl⟩ dX0_told_139 h.2.2.1 (fun r139 H locs er139 hz1 hk1 hS1 => ?_)
                  have h := h.same hk1 hS1
                  clear hz1 hk1 hS1
                  have he : f_X0_told σ p1 = (σ18, r139) := (by have er7 := er7.symm; subst er7; have et0_18 := et0_18.symm; subst et0_18; have eσ18 := eσ18.symm; subst eσ18; have er136 := er136.symm; subst er136; have er139 := er139.symm; subst er139; exact ((if_neg c22_0).trans ((if_neg c22_1).trans ((if_neg c22_2).trans ((if_neg c22_3).trans ((if_neg c22_4).trans ((if_neg c22_5).trans ((if_pos c22_6).trans rfl))))))))
                  exact w_reti (wXL g) C h hr hlocks (congrArg Prod.fst he) (congrArg Prod.snd he) ⟨hlpq, hldq⟩ dX0_told_142
                · have i22_6 := c_ne c22_6
                  by_cases c22_7 : p1 = (7 : Int32)
                  · refine lv_tableIn (off := 121) (tgt := 143) hx hb dX0_told_22 (by rw [c22_7]; decide) (by rw [c22_7]; decide) (by rw [c22_7]; rfl) (by decide) ?_
                    have i22_7 := c_eq c22_7
                    refine lv_aload_n hx hb dX0_told_143 rfl (lv_at hl 0 rfl) ?_
                    refine w_calli (ci := 0) (q0 := 6) (As := []) (rest := []) 0 (wXL g) C h (k_X0_paidByAll l g σ18 (by first | assumption | omega)) (lw_V q1015 q1017 qs40 q144 q1018) rfl rfl rfl rfl (by decide +kernel) ⟨Nat.le_of_ble_eq_true rfl, Nat.le_of_ble_eq_true rfl⟩ rfl hl.1 rfl (Nat.le_of_ble_eq_true rfl) ⟨Nat.le_of_ble_eq_true rfl, Nat.le_of_ble_eq_true rfl⟩ dX0_told_144 (fun r144 σ144 H locs eσ144 er144 hE144 h => ?_)
                    rw [eσ144] at h
                    clear hE144
                    clear eσ144
                    have he : f_X0_told σ p1 = (σ18, r144) := (by have er7 := er7.symm; subst er7; have et0_18 := et0_18.symm; subst et0_18; have eσ18 := eσ18.symm; subst eσ18; have er144 := er144.symm; subst er144; exact ((if_neg c22_0).trans ((if_neg c22_1).trans ((if_neg c22_2).trans ((if_neg c22_3).trans ((if_neg c22_4).trans ((if_neg c22_5).trans ((if_neg c22_6).trans ((if_pos c22_7).trans rfl)))))))))
                    exact w_reti (wXL g) C h hr hlocks (congrArg Prod.fst he) (congrArg Prod.snd he) ⟨hlpq, hldq⟩ dX0_told_147
                  · have i22_7 := c_ne c22_7
                    by_cases c22_8 : p1 = (8 : Int32)
                    · refine lv_tableIn (off := 126) (tgt := 148) hx hb dX0_told_22 (by rw [c22_8]; decide) (by rw [c22_8]; decide) (by rw [c22_8]; rfl) (by decide) ?_
                      have i22_8 := c_eq c22_8
                      refine lv_aload_n hx hb dX0_told_148 rfl (lv_at hl 0 rfl) ?_
                      refine L_at (rest := []) C h ⟨Nat.le_of_ble_eq_true rfl, Nat.le_of_ble_eq_true rfl⟩ hl.1 (Nat.le_of_ble_eq_true rfl) ⟨Nat.le_of_ble_eq_true rfl, Nat.le_of_ble_eq_true rfl⟩ dX0_told_149 (fun H locs h => ?_)
                      refine L_t6 C h dX0_told_152 ?_
                      have he : f_X0_told σ p1 = (σ18, (gi (ttb σ18) 6)) := (by have er7 := er7.symm; subst er7; have et0_18 := et0_18.symm; subst et0_18; have eσ18 := eσ18.symm; subst eσ18; exact ((if_neg c22_0).trans ((if_neg c22_1).trans ((if_neg c22_2).trans ((if_neg c22_3).trans ((if_neg c22_4).trans ((if_neg c22_5).trans ((if_neg c22_6).trans ((if_neg c22_7).trans ((if_pos c22_8).trans rfl))))))))))
                      exact w_reti (wXL g) C h hr hlocks (congrArg Prod.fst he) (congrArg Prod.snd he) ⟨hlpq, hldq⟩ dX0_told_155
                    · have i22_8 := c_ne c22_8
                      by_cases c22_9 : p1 = (9 : Int32)
                      · refine lv_tableIn (off := 134) (tgt := 156) hx hb dX0_told_22 (by rw [c22_9]; decide) (by rw [c22_9]; decide) (by rw [c22_9]; rfl) (by decide) ?_
                        have i22_9 := c_eq c22_9
                        refine lv_aload_n hx hb dX0_told_156 rfl (lv_at hl 0 rfl) ?_
                        refine L_at (rest := []) C h ⟨Nat.le_of_ble_eq_true rfl, Nat.le_of_ble_eq_true rfl⟩ hl.1 (Nat.le_of_ble_eq_true rfl) ⟨Nat.le_of_ble_eq_true rfl, Nat.le_of_ble_eq_true rfl⟩ dX0_told_157 (fun H locs h => ?_)
                        refine L_t7 C h dX0_told_160 ?_
                        have he : f_X0_told σ p1 = (σ18, (gi (ttb σ18) 7)) := (by have er7 := er7.symm; subst er7; have et0_18 := et0_18.symm; subst et0_18; have eσ18 := eσ18.symm; subst eσ18; exact ((if_neg c22_0).trans ((if_neg c22_1).trans ((if_neg c22_2).trans ((if_neg c22_3).trans ((if_neg c22_4).trans ((if_neg c22_5).trans ((if_neg c22_6).trans ((if_neg c22_7).trans ((if_neg c22_8).trans ((if_pos c22_9).trans rfl)))))))))))
                        exact w_reti (wXL g) C h hr hlocks (congrArg Prod.fst he) (congrArg Prod.snd he) ⟨hlpq, hldq⟩ dX0_told_163
                      · have i22_9 := c_ne c22_9
                        by_cases c22_10 : p1 = (10 : Int32)
                        · refine lv_tableIn (off := 142) (tgt := 164) hx hb dX0_told_22 (by rw [c22_10]; decide) (by rw [c22_10]; decide) (by rw [c22_10]; rfl) (by decide) ?_
                          have i22_10 := c_eq c22_10
                          refine lv_aload_n hx hb dX0_told_164 rfl (lv_at hl 0 rfl) ?_
                          refine L_at (rest := []) C h ⟨Nat.le_of_ble_eq_true rfl, Nat.le_of_ble_eq_true rfl⟩ hl.1 (Nat.le_of_ble_eq_true rfl) ⟨Nat.le_of_ble_eq_true rfl, Nat.le_of_ble_eq_true rfl⟩ dX0_told_165 (fun H locs h => ?_)
                          refine L_tcalli (As := []) (rest := []) 0 C h (k_X5_guests l g.1 (ttb σ18) (by first | assumption | omega)) (lw_V q1019 q1006 q1007 q151 q1008) rfl rfl (by decide +kernel) ⟨Nat.le_of_ble_eq_true rfl, Nat.le_of_ble_eq_true rfl⟩ rfl hl.1 rfl (Nat.le_of_ble_eq_true rfl) ⟨Nat.le_of_ble_eq_true rfl, Nat.le_of_ble_eq_true rfl⟩ dX0_told_168 (fun r168 σ168 H locs eσ168 er168 hE168 h => ?_)
                          have h : wH (dL g) σ18 s H locs := by rw [eσ168] at h; exact h
                          have hE168 : (0 ≤ r168.toInt ∧ r168.toInt ≤ 63) := hE168
                          have hrg_168 := hE168
                          clear eσ168
                          have he : f_X0_told σ p1 = (σ18, r168) := (by have er7 := er7.symm; subst er7; have et0_18 := et0_18.symm; subst et0_18; have eσ18 := eσ18.symm; subst eσ18; have er168 := er168.symm; subst er168; exact ((if_neg c22_0).trans ((if_neg c22_1).trans ((if_neg c22_2).trans ((if_neg c22_3).trans ((if_neg c22_4).trans ((if_neg c22_5).trans ((if_neg c22_6).trans ((if_neg c22_7).trans ((if_neg c22_8).trans ((if_neg c22_9).trans ((if_pos c22_10).trans rfl))))))))))))
                          exact w_reti (wXL g) C h hr hlocks (congrArg Prod.fst he) (congrArg Prod.snd he) ⟨hlpq, hldq⟩ dX0_told_171
                        · have i22_10 := c_ne c22_10
                          by_cases c22_11 : p1 = (11 : Int32)
                          · refine lv_tableIn (off := 150) (tgt := 172) hx hb dX0_told_22 (by rw [c22_11]; decide) (by rw [c22_11]; decide) (by rw [c22_11]; rfl) (by decide) ?_
                            have i22_11 := c_eq c22_11
                            refine lv_aload_n hx hb dX0_told_172 rfl (lv_at hl 0 rfl) ?_
                            refine L_at (rest := []) C h ⟨Nat.le_of_ble_eq_true rfl, Nat.le_of_ble_eq_true rfl⟩ hl.1 (Nat.le_of_ble_eq_true rfl) ⟨Nat.le_of_ble_eq_true rfl, Nat.le_of_ble_eq_true rfl⟩ dX0_told_173 (fun H locs h => ?_)
                            refine L_t8 C h dX0_told_176 ?_
                            have he : f_X0_told σ p1 = (σ18, (gi (ttb σ18) 8)) := (by have er7 := er7.symm; subst er7; have et0_18 := et0_18.symm; subst et0_18; have eσ18 := eσ18.symm; subst eσ18; exact ((if_neg c22_0).trans ((if_neg c22_1).trans ((if_neg c22_2).trans ((if_neg c22_3).trans ((if_neg c22_4).trans ((if_neg c22_5).trans ((if_neg c22_6).trans ((if_neg c22_7).trans ((if_neg c22_8).trans ((if_neg c22_9).trans ((if_neg c22_10).trans ((if_pos c22_11).trans rfl)))))))))))))
                            exact w_reti (wXL g) C h hr hlocks (congrArg Prod.fst he) (congrArg Prod.snd he) ⟨hlpq, hldq⟩ dX0_told_179
                          · have i22_11 := c_ne c22_11
                            refine lv_tableOut (tgt := 180) hx hb dX0_told_22 (by have y0 := c_ne c22_0; rw [show (0 : Int32).toInt = 0 from rfl] at y0; have y1 := c_ne c22_1; rw [show (1 : Int32).toInt = 1 from rfl] at y1; have y2 := c_ne c22_2; rw [show (2 : Int32).toInt = 2 from rfl] at y2; have y3 := c_ne c22_3; rw [show (3 : Int32).toInt = 3 from rfl] at y3; have y4 := c_ne c22_4; rw [show (4 : Int32).toInt = 4 from rfl] at y4; have y5 := c_ne c22_5; rw [show (5 : Int32).toInt = 5 from rfl] at y5; have y6 := c_ne c22_6; rw [show (6 : Int32).toInt = 6 from rfl] at y6; have y7 := c_ne c22_7; rw [show (7 : Int32).toInt = 7 from rfl] at y7; have y8 := c_ne c22_8; rw [show (8 : Int32).toInt = 8 from rfl] at y8; have y9 := c_ne c22_9; rw [show (9 : Int32).toInt = 9 from rfl] at y9; have y10 := c_ne c22_10; rw [show (10 : Int32).toInt = 10 from rfl] at y10; have y11 := c_ne c22_11; rw [show (11 : Int32).toInt = 11 from rfl] at y11; omega) (by decide) ?_
                            refine lv_iconst (v := -1) hx hb dX0_told_180 (by decide) ?_
                            have he : f_X0_told σ p1 = (σ18, (-1 : Int32)) := (by have er7 := er7.symm; subst er7; have et0_18 := et0_18.symm; subst et0_18; have eσ18 := eσ18.symm; subst eσ18; exact ((if_neg c22_0).trans ((if_neg c22_1).trans ((if_neg c22_2).trans ((if_neg c22_3).trans ((if_neg c22_4).trans ((if_neg c22_5).trans ((if_neg c22_6).trans ((if_neg c22_7).trans ((if_neg c22_8).trans ((if_neg c22_9).trans ((if_neg c22_10).trans ((if_neg c22_11).trans rfl)))))))))))))
                            exact w_reti (wXL g) C h hr hlocks (congrArg Prod.fst he) (congrArg Prod.snd he) ⟨hlpq, hldq⟩ dX0_told_181
  refine lv_if_eq (tgt := 17) hx hb dX0_told_10 (by decide) (fun c10 => ?_) (fun c10 => ?_)
  · have i10 := c_eq c10
    refine lv_iconst (v := 1) hx hb dX0_told_17 (by decide) ?_
    exact j18 _ _ _ _ (by exact ((if_pos c10).trans rfl)) (Or.inr rfl) h hl
  · have i10 := c_ne c10
    have okr7 := lIsIn_ok er7 c10
    refine lv_iconst (v := 0) hx hb dX0_told_13 (by decide) ?_
    refine lv_goto (tgt := 18) hx hb dX0_told_14 (by decide) ?_
    exact j18 _ _ _ _ (by exact ((if_neg c10).trans rfl)) (Or.inl rfl) h hl
def f_X0_person (σ : MS × MS) (p1 : Int32) (p2 : Int32) : (MS × MS) × Int32 := (let r3 := (f_X0_isPerson σ p1); (let z26_ : Int32 := (if r3 = (0 : Int32) then ((1 : Int32)) else ((let r15 := (f_X0_isIn p2.toInt64 (0 : Int64) (5 : Int64)); if r15 = (0 : Int32) then ((1 : Int32)) else ((0 : Int32))))); let t0_26 := z26_; (let σ26 := lsi σ 7 t0_26; if (gi (own σ26) 7) ≤ (0 : Int32) then (if p2 = (0 : Int32) then ((σ26, (ga (ttb σ26) 21 p1))) else (if p2 = (1 : Int32) then ((σ26, (ga (ttb σ26) 22 p1))) else (if p2 = (2 : Int32) then ((σ26, (ga (ttb σ26) 23 p1))) else (if p2 = (3 : Int32) then ((σ26, (ga (ttb σ26) 24 p1))) else (if p2 = (4 : Int32) then ((let z117 := (f_X0_answer σ26 (ga (ttb σ26) 25 p1)); let σ117 := z117.1; let r117 := z117.2; (σ117, r117))) else ((σ26, (ga (ttb σ26) 11 p1)))))))) else ((σ26, (-1 : Int32))))))
set_option maxHeartbeats 4000000 in
set_option maxRecDepth 100000 in
theorem k_X0_person (l : Launch) (g : GL) (σ : MS × MS) (p1 : Int32) (p2 : Int32) (hlp : 0 ≤ (gi (ttb σ) 1).toInt ∧ (gi (ttb σ) 1).toInt ≤ 6) (hld : 0 ≤ (gi (ttb σ) 3).toInt ∧ (gi (ttb σ) 3).toInt ≤ 16 ∧ (gi (ttb σ) 3).toInt ≤ (g.1.2.1 50 : Int)) : Met l yX0_person (ws_ yX0_person cX0_person 3 (some .int)) ({ frames := 2, cells := 0, slots := 0, locals := 46 } : Room) (wPc (dL g) (g.2.2.1 99) σ [.int p1, .int p2]) (wQi (dL g) (f_X0_person σ p1 p2).1 (f_X0_person σ p1 p2).2 (fun u r => ((gi (ttb u) 1).toInt = (gi (ttb σ) 1).toInt) ∧ ((gi (ttb u) 3).toInt = (gi (ttb σ) 3).toInt))) 0 0 (dL g).2.2.2.1 := by
  refine met_W RX0 (by decide) rfl (Nat.le_of_ble_eq_true rfl) ?_
  intro p e s m args below meth c C hr hlocks h ls hl
  have hx := C.1.1
  have hb := C.1.2.1
  have hml := C.1.2.2.1
  have hown := C.1.2.2.2.1
  have hts := C.1.2.2.2.2
  have hl : lv_has ls 3 [(0, .ref (g.2.2.1 99)), (1, .int p1), (2, .int p2)] := hl
  have hlpq : (gi (ttb σ) 1).toInt = (gi (ttb σ) 1).toInt := rfl
  have hldq : (gi (ttb σ) 3).toInt = (gi (ttb σ) 3).toInt := rfl
  have zlm1 : (-1 : Int32).toInt = -1 := rfl
  have zl0 : (0 : Int32).toInt = 0 := rfl
  have zl1 : (1 : Int32).toInt = 1 := rfl
  have zl2 : (2 : Int32).toInt = 2 := rfl
  have zl3 : (3 : Int32).toInt = 3 := rfl
  have zl4 : (4 : Int32).toInt = 4 := rfl
  refine lv_aload_n hx hb dX0_person_0 rfl (lv_at hl 0 rfl) ?_
  refine lv_aload_n hx hb dX0_person_1 rfl (lv_at hl 0 rfl) ?_
  refine lv_iload_n hx hb dX0_person_2 rfl (lv_at hl 1 rfl) ?_
  refine w_callz (ci := 0) (q0 := 6) (As := [.int p1]) (rest := [.ref (g.2.2.1 99)]) 1 (wXL g) C h (k_X0_isPerson l g σ p1 (by first | assumption | omega)) (lw_V q1024 q1026 qs41 q144 q1027) rfl rfl rfl rfl (by decide +kernel) ⟨Nat.le_of_ble_eq_true rfl, Nat.le_of_ble_eq_true rfl⟩ rfl hl.1 rfl (Nat.le_of_ble_eq_true rfl) ⟨Nat.le_of_ble_eq_true rfl, Nat.le_of_ble_eq_true rfl⟩ dX0_person_3 (fun r3 σ3 H locs eσ3 er3 br3 hE3 h => ?_)
  rw [eσ3] at h
  clear hE3
  clear eσ3
  have j26 : ∀ (t0_26 : Int32) (H : Heap) (locs : List Loc) (ls : Array Slot) (ej26 : (if r3 = (0 : Int32) then ((1 : Int32)) else ((let r15 := (f_X0_isIn p2.toInt64 (0 : Int64) (5 : Int64)); if r15 = (0 : Int32) then ((1 : Int32)) else ((0 : Int32))))) = t0_26) (bt0_26 : t0_26 = 0 ∨ t0_26 = 1) (hI26 : (0 < t0_26.toInt) ∨ (0 ≤ p1.toInt ∧ p1.toInt < (gi (ttb σ) 1).toInt ∧ 0 ≤ p2.toInt ∧ p2.toInt ≤ 5)) (h : wH (dL g) σ s H locs) (hl : lv_has ls 3 [(0, .ref (g.2.2.1 99)), (1, .int p1), (2, .int p2)]), W p l e ({ frames := 2, cells := 0, slots := 0, locals := 46 } : Room) s m args below meth c H locs 0 0 (MQ below (wQi (dL g) (f_X0_person σ p1 p2).1 (f_X0_person σ p1 p2).2 (fun u r => ((gi (ttb u) 1).toInt = (gi (ttb σ) 1).toInt) ∧ ((gi (ttb u) 3).toInt = (gi (ttb σ) 3).toInt))) args s 0 0 (dL g).2.2.2.1) (F0 m 26 ls [.int t0_26, .ref (g.2.2.1 99)]) := by
    intro t0_26 H locs ls ej26 bt0_26 hI26 h hl
    have et0_26 := ej26.symm
    refine L_p7 C h dX0_person_26 (fun σ26 H locs eσ26 h => ?_)
    have hNEW : (0 ≤ (gi (ttb σ26) 1).toInt ∧ (gi (ttb σ26) 1).toInt ≤ 6) ∧ (0 ≤ (gi (ttb σ26) 3).toInt ∧ (gi (ttb σ26) 3).toInt ≤ 16 ∧ (gi (ttb σ26) 3).toInt ≤ (g.1.2.1 50 : Int)) ∧ ((gi (ttb σ26) 1).toInt = (gi (ttb σ) 1).toInt) ∧ ((gi (ttb σ26) 3).toInt = (gi (ttb σ) 3).toInt) := ⟨(by rw [eσ26] <;> exact hlp), (by rw [eσ26] <;> exact hld), (by rw [eσ26] <;> exact hlpq), (by rw [eσ26] <;> exact hldq)⟩
    obtain ⟨hlp, hld, hlpq, hldq⟩ := hNEW
    have q7_26 : (gi (own σ26) 7).toInt = t0_26.toInt := by rw [eσ26]; rfl
    refine lv_aload_n hx hb dX0_person_29 rfl (lv_at hl 0 rfl) ?_
    refine L_g7 C h dX0_person_30 ?_
    refine lv_if_le (tgt := 38) hx hb dX0_person_33 (by decide) (fun c33 => ?_) (fun c33 => ?_)
    · have i33 := c_le c33
      refine lv_iload_n hx hb dX0_person_38 rfl (lv_at hl 2 rfl) ?_
      by_cases c39_0 : p2 = (0 : Int32)
      · refine lv_tableIn (off := 33) (tgt := 72) hx hb dX0_person_39 (by rw [c39_0]; decide) (by rw [c39_0]; decide) (by rw [c39_0]; rfl) (by decide) ?_
        have i39_0 := c_eq c39_0
        refine lv_aload_n hx hb dX0_person_72 rfl (lv_at hl 0 rfl) ?_
        refine lv_iload_n hx hb dX0_person_73 rfl (lv_at hl 1 rfl) ?_
        refine L_one (rest := []) C h (by omega) ⟨Nat.le_of_ble_eq_true rfl, Nat.le_of_ble_eq_true rfl⟩ hl.1 (Nat.le_of_ble_eq_true rfl) ⟨Nat.le_of_ble_eq_true rfl, Nat.le_of_ble_eq_true rfl⟩ dX0_person_74 (fun H locs h => ?_)
        refine L_f1 C h (by omega) dX0_person_77 ?_
        have he : f_X0_person σ p1 p2 = (σ26, (ga (ttb σ26) 21 p1)) := (by have er3 := er3.symm; subst er3; have et0_26 := et0_26.symm; subst et0_26; have eσ26 := eσ26.symm; subst eσ26; exact ((if_pos c33).trans ((if_pos c39_0).trans rfl)))
        exact w_reti (wXL g) C h hr hlocks (congrArg Prod.fst he) (congrArg Prod.snd he) ⟨hlpq, hldq⟩ dX0_person_80
      · have i39_0 := c_ne c39_0
        by_cases c39_1 : p2 = (1 : Int32)
        · refine lv_tableIn (off := 42) (tgt := 81) hx hb dX0_person_39 (by rw [c39_1]; decide) (by rw [c39_1]; decide) (by rw [c39_1]; rfl) (by decide) ?_
          have i39_1 := c_eq c39_1
          refine lv_aload_n hx hb dX0_person_81 rfl (lv_at hl 0 rfl) ?_
          refine lv_iload_n hx hb dX0_person_82 rfl (lv_at hl 1 rfl) ?_
          refine L_one (rest := []) C h (by omega) ⟨Nat.le_of_ble_eq_true rfl, Nat.le_of_ble_eq_true rfl⟩ hl.1 (Nat.le_of_ble_eq_true rfl) ⟨Nat.le_of_ble_eq_true rfl, Nat.le_of_ble_eq_true rfl⟩ dX0_person_83 (fun H locs h => ?_)
          refine L_f2 C h (by omega) dX0_person_86 ?_
          have he : f_X0_person σ p1 p2 = (σ26, (ga (ttb σ26) 22 p1)) := (by have er3 := er3.symm; subst er3; have et0_26 := et0_26.symm; subst et0_26; have eσ26 := eσ26.symm; subst eσ26; exact ((if_pos c33).trans ((if_neg c39_0).trans ((if_pos c39_1).trans rfl))))
          exact w_reti (wXL g) C h hr hlocks (congrArg Prod.fst he) (congrArg Prod.snd he) ⟨hlpq, hldq⟩ dX0_person_89
        · have i39_1 := c_ne c39_1
          by_cases c39_2 : p2 = (2 : Int32)
          · refine lv_tableIn (off := 51) (tgt := 90) hx hb dX0_person_39 (by rw [c39_2]; decide) (by rw [c39_2]; decide) (by rw [c39_2]; rfl) (by decide) ?_
            have i39_2 := c_eq c39_2
            refine lv_aload_n hx hb dX0_person_90 rfl (lv_at hl 0 rfl) ?_
            refine lv_iload_n hx hb dX0_person_91 rfl (lv_at hl 1 rfl) ?_
            refine L_one (rest := []) C h (by omega) ⟨Nat.le_of_ble_eq_true rfl, Nat.le_of_ble_eq_true rfl⟩ hl.1 (Nat.le_of_ble_eq_true rfl) ⟨Nat.le_of_ble_eq_true rfl, Nat.le_of_ble_eq_true rfl⟩ dX0_person_92 (fun H locs h => ?_)
            refine L_f3 C h (by omega) dX0_person_95 ?_
            have he : f_X0_person σ p1 p2 = (σ26, (ga (ttb σ26) 23 p1)) := (by have er3 := er3.symm; subst er3; have et0_26 := et0_26.symm; subst et0_26; have eσ26 := eσ26.symm; subst eσ26; exact ((if_pos c33).trans ((if_neg c39_0).trans ((if_neg c39_1).trans ((if_pos c39_2).trans rfl)))))
            exact w_reti (wXL g) C h hr hlocks (congrArg Prod.fst he) (congrArg Prod.snd he) ⟨hlpq, hldq⟩ dX0_person_98
          · have i39_2 := c_ne c39_2
            by_cases c39_3 : p2 = (3 : Int32)
            · refine lv_tableIn (off := 60) (tgt := 99) hx hb dX0_person_39 (by rw [c39_3]; decide) (by rw [c39_3]; decide) (by rw [c39_3]; rfl) (by decide) ?_
              have i39_3 := c_eq c39_3
              refine lv_aload_n hx hb dX0_person_99 rfl (lv_at hl 0 rfl) ?_
              refine lv_iload_n hx hb dX0_person_100 rfl (lv_at hl 1 rfl) ?_
              refine L_one (rest := []) C h (by omega) ⟨Nat.le_of_ble_eq_true rfl, Nat.le_of_ble_eq_true rfl⟩ hl.1 (Nat.le_of_ble_eq_true rfl) ⟨Nat.le_of_ble_eq_true rfl, Nat.le_of_ble_eq_true rfl⟩ dX0_person_101 (fun H locs h => ?_)
              refine L_f4 C h (by omega) dX0_person_104 ?_
              have he : f_X0_person σ p1 p2 = (σ26, (ga (ttb σ26) 24 p1)) := (by have er3 := er3.symm; subst er3; have et0_26 := et0_26.symm; subst et0_26; have eσ26 := eσ26.symm; subst eσ26; exact ((if_pos c33).trans ((if_neg c39_0).trans ((if_neg c39_1).trans ((if_neg c39_2).trans ((if_pos c39_3).trans rfl))))))
              exact w_reti (wXL g) C h hr hlocks (congrArg Prod.fst he) (congrArg Prod.snd he) ⟨hlpq, hldq⟩ dX0_person_107
            · have i39_3 := c_ne c39_3
              by_cases c39_4 : p2 = (4 : Int32)
              · refine lv_tableIn (off := 69) (tgt := 108) hx hb dX0_person_39 (by rw [c39_4]; decide) (by rw [c39_4]; decide) (by rw [c39_4]; rfl) (by decide) ?_
                have i39_4 := c_eq c39_4
                refine lv_aload_n hx hb dX0_person_108 rfl (lv_at hl 0 rfl) ?_
                refine lv_aload_n hx hb dX0_person_109 rfl (lv_at hl 0 rfl) ?_
                refine lv_iload_n hx hb dX0_person_110 rfl (lv_at hl 1 rfl) ?_
                refine L_one (rest := [.ref (g.2.2.1 99)]) C h (by omega) ⟨Nat.le_of_ble_eq_true rfl, Nat.le_of_ble_eq_true rfl⟩ hl.1 (Nat.le_of_ble_eq_true rfl) ⟨Nat.le_of_ble_eq_true rfl, Nat.le_of_ble_eq_true rfl⟩ dX0_person_111 (fun H locs h => ?_)
                refine L_f5 C h (by omega) dX0_person_114 ?_
                refine w_calli (ci := 0) (q0 := 6) (As := [.int (ga (ttb σ26) 25 p1)]) (rest := []) 1 (wXL g) C h (k_X0_answer l g σ26 (ga (ttb σ26) 25 p1)) (lw_V q1033 q1035 qs43 q144 q1036) rfl rfl rfl rfl (by decide +kernel) ⟨Nat.le_of_ble_eq_true rfl, Nat.le_of_ble_eq_true rfl⟩ rfl hl.1 rfl (Nat.le_of_ble_eq_true rfl) ⟨Nat.le_of_ble_eq_true rfl, Nat.le_of_ble_eq_true rfl⟩ dX0_person_117 (fun r117 σ117 H locs eσ117 er117 hE117 h => ?_)
                clear hE117
                have hNEW : (0 ≤ (gi (ttb σ117) 1).toInt ∧ (gi (ttb σ117) 1).toInt ≤ 6) ∧ (0 ≤ (gi (ttb σ117) 3).toInt ∧ (gi (ttb σ117) 3).toInt ≤ 16 ∧ (gi (ttb σ117) 3).toInt ≤ (g.1.2.1 50 : Int)) ∧ ((gi (ttb σ117) 1).toInt = (gi (ttb σ) 1).toInt) ∧ ((gi (ttb σ117) 3).toInt = (gi (ttb σ) 3).toInt) := ⟨(by rw [eσ117, lanswer_s] <;> exact hlp), (by rw [eσ117, lanswer_s] <;> exact hld), (by rw [eσ117, lanswer_s] <;> exact hlpq), (by rw [eσ117, lanswer_s] <;> exact hldq)⟩
                clear hlp hld hlpq hldq
                obtain ⟨hlp, hld, hlpq, hldq⟩ := hNEW
                have he : f_X0_person σ p1 p2 = (σ117, r117) := (by have er3 := er3.symm; subst er3; have et0_26 := et0_26.symm; subst et0_26; have eσ26 := eσ26.symm; subst eσ26; have eσ117 := eσ117.symm; subst eσ117; have er117 := er117.symm; subst er117; exact ((if_pos c33).trans ((if_neg c39_0).trans ((if_neg c39_1).trans ((if_neg c39_2).trans ((if_neg c39_3).trans ((if_pos c39_4).trans rfl)))))))
                exact w_reti (wXL g) C h hr hlocks (congrArg Prod.fst he) (congrArg Prod.snd he) ⟨hlpq, hldq⟩ dX0_person_120
              · have i39_4 := c_ne c39_4
                refine lv_tableOut (tgt := 121) hx hb dX0_person_39 (by have y0 := c_ne c39_0; rw [show (0 : Int32).toInt = 0 from rfl] at y0; have y1 := c_ne c39_1; rw [show (1 : Int32).toInt = 1 from rfl] at y1; have y2 := c_ne c39_2; rw [show (2 : Int32).toInt = 2 from rfl] at y2; have y3 := c_ne c39_3; rw [show (3 : Int32).toInt = 3 from rfl] at y3; have y4 := c_ne c39_4; rw [show (4 : Int32).toInt = 4 from rfl] at y4; omega) (by decide) ?_
                refine lv_aload_n hx hb dX0_person_121 rfl (lv_at hl 0 rfl) ?_
                refine L_at (rest := []) C h ⟨Nat.le_of_ble_eq_true rfl, Nat.le_of_ble_eq_true rfl⟩ hl.1 (Nat.le_of_ble_eq_true rfl) ⟨Nat.le_of_ble_eq_true rfl, Nat.le_of_ble_eq_true rfl⟩ dX0_person_122 (fun H locs h => ?_)
                refine L_t11 C h dX0_person_125 ?_
                refine lv_iload_n hx hb dX0_person_128 rfl (lv_at hl 1 rfl) ?_
                refine L_l211 C h (ix_of (rfl : p1.toInt = p1.toInt) (by omega)) dX0_person_129 ?_
                have he : f_X0_person σ p1 p2 = (σ26, (ga (ttb σ26) 11 p1)) := (by have er3 := er3.symm; subst er3; have et0_26 := et0_26.symm; subst et0_26; have eσ26 := eσ26.symm; subst eσ26; exact ((if_pos c33).trans ((if_neg c39_0).trans ((if_neg c39_1).trans ((if_neg c39_2).trans ((if_neg c39_3).trans ((if_neg c39_4).trans rfl)))))))
                exact w_reti (wXL g) C h hr hlocks (congrArg Prod.fst he) (congrArg Prod.snd he) ⟨hlpq, hldq⟩ dX0_person_130
    · have i33 := c_nle c33
      refine lv_iconst (v := -1) hx hb dX0_person_36 (by decide) ?_
      have he : f_X0_person σ p1 p2 = (σ26, (-1 : Int32)) := (by have er3 := er3.symm; subst er3; have et0_26 := et0_26.symm; subst et0_26; have eσ26 := eσ26.symm; subst eσ26; exact ((if_neg c33).trans rfl))
      exact w_reti (wXL g) C h hr hlocks (congrArg Prod.fst he) (congrArg Prod.snd he) ⟨hlpq, hldq⟩ dX0_person_37
  refine lv_if_eq (tgt := 25) hx hb dX0_person_6 (by decide) (fun c6 => ?_) (fun c6 => ?_)
  · have i6 := c_eq c6
    refine lv_iconst (v := 1) hx hb dX0_person_25 (by decide) ?_
    exact j26 _ _ _ _ (by exact ((if_pos c6).trans rfl)) (Or.inr rfl) (by first | assumption | omega) h hl
  · have i6 := c_ne c6
    have okr3 := lIsPerson_ok hlp er3 c6
    refine lv_iload_n hx hb dX0_person_9 rfl (lv_at hl 2 rfl) ?_
    refine lv_i2l (v := p2.toInt64) hx hb dX0_person_10 rfl ?_
    refine lv_lconst (v := 0) hx hb dX0_person_11 (by decide) ?_
    refine lv_ldc2 hx hb hown (hts _ q1028) dX0_person_12 ?_
    refine s_callz (As := [.long p2.toInt64, .long (0 : Int64), .long (5 : Int64)]) (rest := [.ref (g.2.2.1 99)]) 3 C.1 (k_X0_isIn l p2.toInt64 (0 : Int64) (5 : Int64)) (lw_S q994 q995 q144 q996) rfl rfl (by decide +kernel) ⟨Nat.le_of_ble_eq_true rfl, Nat.le_of_ble_eq_true rfl⟩ rfl hl.1 rfl (Nat.le_of_ble_eq_true rfl) ⟨Nat.le_of_ble_eq_true rfl, Nat.le_of_ble_eq_true rfl⟩ dX0_person_15 h.2.2.1 (fun r15 H locs er15 br15 hz1 hk1 hS1 => ?_)
    have h := h.same hk1 hS1
    clear hz1 hk1 hS1
    refine lv_if_eq (tgt := 25) hx hb dX0_person_18 (by decide) (fun c18 => ?_) (fun c18 => ?_)
    · have i18 := c_eq c18
      refine lv_iconst (v := 1) hx hb dX0_person_25 (by decide) ?_
      exact j26 _ _ _ _ (by have er15 := er15.symm; subst er15; exact ((if_neg c6).trans ((if_pos c18).trans rfl))) (Or.inr rfl) (by first | assumption | omega) h hl
    · have i18 := c_ne c18
      have okr15 := lIsIn_ok er15 c18
      have kk15 := isFrom_i (A := 0) (B := 5) rfl rfl okr15
      refine lv_iconst (v := 0) hx hb dX0_person_21 (by decide) ?_
      refine lv_goto (tgt := 26) hx hb dX0_person_22 (by decide) ?_
      exact j26 _ _ _ _ (by have er15 := er15.symm; subst er15; exact ((if_neg c6).trans ((if_neg c18).trans rfl))) (Or.inl rfl) (by first | assumption | omega) h hl
def f_X0_dish (σ : MS × MS) (p1 : Int32) (p2 : Int32) : (MS × MS) × Int32 := (let r14 := (f_X0_isIn p1.toInt64 (0 : Int64) ((gi (ttb σ) 3) - (1 : Int32)).toInt64); (let z35_ : Int32 := (if r14 = (0 : Int32) then ((1 : Int32)) else ((let r24 := (f_X0_isIn p2.toInt64 (0 : Int64) (1 : Int64)); if r24 = (0 : Int32) then ((1 : Int32)) else ((0 : Int32))))); let t0_35 := z35_; (let σ35 := lsi σ 7 t0_35; if (gi (own σ35) 7) ≤ (0 : Int32) then (if p2 = (0 : Int32) then ((σ35, (ga (ttb σ35) 9 p1))) else ((let z75 := (f_X0_answer σ35 (ga (ttb σ35) 10 p1)); let σ75 := z75.1; let r75 := z75.2; (σ75, r75)))) else ((σ35, (-1 : Int32))))))
set_option maxHeartbeats 4000000 in
set_option maxRecDepth 100000 in
theorem k_X0_dish (l : Launch) (g : GL) (σ : MS × MS) (p1 : Int32) (p2 : Int32) (hlp : 0 ≤ (gi (ttb σ) 1).toInt ∧ (gi (ttb σ) 1).toInt ≤ 6) (hld : 0 ≤ (gi (ttb σ) 3).toInt ∧ (gi (ttb σ) 3).toInt ≤ 16 ∧ (gi (ttb σ) 3).toInt ≤ (g.1.2.1 50 : Int)) : Met l yX0_dish (ws_ yX0_dish cX0_dish 3 (some .int)) ({ frames := 1, cells := 0, slots := 0, locals := 25 } : Room) (wPc (dL g) (g.2.2.1 99) σ [.int p1, .int p2]) (wQi (dL g) (f_X0_dish σ p1 p2).1 (f_X0_dish σ p1 p2).2 (fun u r => ((gi (ttb u) 1).toInt = (gi (ttb σ) 1).toInt) ∧ ((gi (ttb u) 3).toInt = (gi (ttb σ) 3).toInt))) 0 0 (dL g).2.2.2.1 := by
  refine met_W RX0 (by decide) rfl (Nat.le_of_ble_eq_true rfl) ?_
  intro p e s m args below meth c C hr hlocks h ls hl
  have hx := C.1.1
  have hb := C.1.2.1
  have hml := C.1.2.2.1
  have hown := C.1.2.2.2.1
  have hts := C.1.2.2.2.2
  have hl : lv_has ls 3 [(0, .ref (g.2.2.1 99)), (1, .int p1), (2, .int p2)] := hl
  have hlpq : (gi (ttb σ) 1).toInt = (gi (ttb σ) 1).toInt := rfl
  have hldq : (gi (ttb σ) 3).toInt = (gi (ttb σ) 3).toInt := rfl
  have zlm1 : (-1 : Int32).toInt = -1 := rfl
  have zl0 : (0 : Int32).toInt = 0 := rfl
  have zl1 : (1 : Int32).toInt = 1 := rfl
  refine lv_aload_n hx hb dX0_dish_0 rfl (lv_at hl 0 rfl) ?_
  refine lv_iload_n hx hb dX0_dish_1 rfl (lv_at hl 1 rfl) ?_
  refine lv_i2l (v := p1.toInt64) hx hb dX0_dish_2 rfl ?_
  refine lv_lconst (v := 0) hx hb dX0_dish_3 (by decide) ?_
  refine lv_aload_n hx hb dX0_dish_4 rfl (lv_at hl 0 rfl) ?_
  refine L_at (rest := [.long (0 : Int64), .long p1.toInt64, .ref (g.2.2.1 99)]) C h ⟨Nat.le_of_ble_eq_true rfl, Nat.le_of_ble_eq_true rfl⟩ hl.1 (Nat.le_of_ble_eq_true rfl) ⟨Nat.le_of_ble_eq_true rfl, Nat.le_of_ble_eq_true rfl⟩ dX0_dish_5 (fun H locs h => ?_)
  refine L_t3 C h dX0_dish_8 ?_
  refine lv_iconst (v := 1) hx hb dX0_dish_11 (by decide) ?_
  refine lv_isub hx hb dX0_dish_12 ?_
  refine lv_i2l (v := ((gi (ttb σ) 3) - (1 : Int32)).toInt64) hx hb dX0_dish_13 rfl ?_
  refine s_callz (As := [.long p1.toInt64, .long (0 : Int64), .long ((gi (ttb σ) 3) - (1 : Int32)).toInt64]) (rest := [.ref (g.2.2.1 99)]) 3 C.1 (k_X0_isIn l p1.toInt64 (0 : Int64) ((gi (ttb σ) 3) - (1 : Int32)).toInt64) (lw_S q994 q995 q144 q996) rfl rfl (by decide +kernel) ⟨Nat.le_of_ble_eq_true rfl, Nat.le_of_ble_eq_true rfl⟩ rfl hl.1 rfl (Nat.le_of_ble_eq_true rfl) ⟨Nat.le_of_ble_eq_true rfl, Nat.le_of_ble_eq_true rfl⟩ dX0_dish_14 h.2.2.1 (fun r14 H locs er14 br14 hz1 hk1 hS1 => ?_)
  have h := h.same hk1 hS1
  clear hz1 hk1 hS1
  have j35 : ∀ (t0_35 : Int32) (H : Heap) (locs : List Loc) (ls : Array Slot) (ej35 : (if r14 = (0 : Int32) then ((1 : Int32)) else ((let r24 := (f_X0_isIn p2.toInt64 (0 : Int64) (1 : Int64)); if r24 = (0 : Int32) then ((1 : Int32)) else ((0 : Int32))))) = t0_35) (bt0_35 : t0_35 = 0 ∨ t0_35 = 1) (hI35 : (0 < t0_35.toInt) ∨ (0 ≤ p1.toInt ∧ p1.toInt < (gi (ttb σ) 3).toInt)) (h : wH (dL g) σ s H locs) (hl : lv_has ls 3 [(0, .ref (g.2.2.1 99)), (1, .int p1), (2, .int p2)]), W p l e ({ frames := 1, cells := 0, slots := 0, locals := 25 } : Room) s m args below meth c H locs 0 0 (MQ below (wQi (dL g) (f_X0_dish σ p1 p2).1 (f_X0_dish σ p1 p2).2 (fun u r => ((gi (ttb u) 1).toInt = (gi (ttb σ) 1).toInt) ∧ ((gi (ttb u) 3).toInt = (gi (ttb σ) 3).toInt))) args s 0 0 (dL g).2.2.2.1) (F0 m 35 ls [.int t0_35, .ref (g.2.2.1 99)]) := by
    intro t0_35 H locs ls ej35 bt0_35 hI35 h hl
    have et0_35 := ej35.symm
    refine L_p7 C h dX0_dish_35 (fun σ35 H locs eσ35 h => ?_)
    have hNEW : (0 ≤ (gi (ttb σ35) 1).toInt ∧ (gi (ttb σ35) 1).toInt ≤ 6) ∧ (0 ≤ (gi (ttb σ35) 3).toInt ∧ (gi (ttb σ35) 3).toInt ≤ 16 ∧ (gi (ttb σ35) 3).toInt ≤ (g.1.2.1 50 : Int)) ∧ ((gi (ttb σ35) 1).toInt = (gi (ttb σ) 1).toInt) ∧ ((gi (ttb σ35) 3).toInt = (gi (ttb σ) 3).toInt) := ⟨(by rw [eσ35] <;> exact hlp), (by rw [eσ35] <;> exact hld), (by rw [eσ35] <;> exact hlpq), (by rw [eσ35] <;> exact hldq)⟩
    obtain ⟨hlp, hld, hlpq, hldq⟩ := hNEW
    have q7_35 : (gi (own σ35) 7).toInt = t0_35.toInt := by rw [eσ35]; rfl
    refine lv_aload_n hx hb dX0_dish_38 rfl (lv_at hl 0 rfl) ?_
    refine L_g7 C h dX0_dish_39 ?_
    refine lv_if_le (tgt := 49) hx hb dX0_dish_42 (by decide) (fun c42 => ?_) (fun c42 => ?_)
    · have i42 := c_le c42
      refine lv_iload_n hx hb dX0_dish_49 rfl (lv_at hl 2 rfl) ?_
      refine lv_if_ne (tgt := 65) hx hb dX0_dish_50 (by decide) (fun c50 => ?_) (fun c50 => ?_)
      · have i50 := c_ne c50
        refine lv_aload_n hx hb dX0_dish_65 rfl (lv_at hl 0 rfl) ?_
        refine lv_aload_n hx hb dX0_dish_66 rfl (lv_at hl 0 rfl) ?_
        refine L_at (rest := [.ref (g.2.2.1 99)]) C h ⟨Nat.le_of_ble_eq_true rfl, Nat.le_of_ble_eq_true rfl⟩ hl.1 (Nat.le_of_ble_eq_true rfl) ⟨Nat.le_of_ble_eq_true rfl, Nat.le_of_ble_eq_true rfl⟩ dX0_dish_67 (fun H locs h => ?_)
        refine L_t10 C h dX0_dish_70 ?_
        refine lv_iload_n hx hb dX0_dish_73 rfl (lv_at hl 1 rfl) ?_
        refine L_l210 C h (ix_of (rfl : p1.toInt = p1.toInt) (by omega)) dX0_dish_74 ?_
        refine w_calli (ci := 0) (q0 := 6) (As := [.int (ga (ttb σ35) 10 p1)]) (rest := []) 1 (wXL g) C h (k_X0_answer l g σ35 (ga (ttb σ35) 10 p1)) (lw_V q1033 q1035 qs43 q144 q1036) rfl rfl rfl rfl (by decide +kernel) ⟨Nat.le_of_ble_eq_true rfl, Nat.le_of_ble_eq_true rfl⟩ rfl hl.1 rfl (Nat.le_of_ble_eq_true rfl) ⟨Nat.le_of_ble_eq_true rfl, Nat.le_of_ble_eq_true rfl⟩ dX0_dish_75 (fun r75 σ75 H locs eσ75 er75 hE75 h => ?_)
        clear hE75
        have hNEW : (0 ≤ (gi (ttb σ75) 1).toInt ∧ (gi (ttb σ75) 1).toInt ≤ 6) ∧ (0 ≤ (gi (ttb σ75) 3).toInt ∧ (gi (ttb σ75) 3).toInt ≤ 16 ∧ (gi (ttb σ75) 3).toInt ≤ (g.1.2.1 50 : Int)) ∧ ((gi (ttb σ75) 1).toInt = (gi (ttb σ) 1).toInt) ∧ ((gi (ttb σ75) 3).toInt = (gi (ttb σ) 3).toInt) := ⟨(by rw [eσ75, lanswer_s] <;> exact hlp), (by rw [eσ75, lanswer_s] <;> exact hld), (by rw [eσ75, lanswer_s] <;> exact hlpq), (by rw [eσ75, lanswer_s] <;> exact hldq)⟩
        clear hlp hld hlpq hldq
        obtain ⟨hlp, hld, hlpq, hldq⟩ := hNEW
        have he : f_X0_dish σ p1 p2 = (σ75, r75) := (by have er14 := er14.symm; subst er14; have et0_35 := et0_35.symm; subst et0_35; have eσ35 := eσ35.symm; subst eσ35; have eσ75 := eσ75.symm; subst eσ75; have er75 := er75.symm; subst er75; exact ((if_pos c42).trans ((if_neg c50).trans rfl)))
        exact w_reti (wXL g) C h hr hlocks (congrArg Prod.fst he) (congrArg Prod.snd he) ⟨hlpq, hldq⟩ dX0_dish_78
      · have i50 := c_eq c50
        refine lv_aload_n hx hb dX0_dish_53 rfl (lv_at hl 0 rfl) ?_
        refine L_at (rest := []) C h ⟨Nat.le_of_ble_eq_true rfl, Nat.le_of_ble_eq_true rfl⟩ hl.1 (Nat.le_of_ble_eq_true rfl) ⟨Nat.le_of_ble_eq_true rfl, Nat.le_of_ble_eq_true rfl⟩ dX0_dish_54 (fun H locs h => ?_)
        refine L_t9 C h dX0_dish_57 ?_
        refine lv_iload_n hx hb dX0_dish_60 rfl (lv_at hl 1 rfl) ?_
        refine L_l29 C h (ix_of (rfl : p1.toInt = p1.toInt) (by omega)) dX0_dish_61 ?_
        refine lv_goto (tgt := 78) hx hb dX0_dish_62 (by decide) ?_
        have he : f_X0_dish σ p1 p2 = (σ35, (ga (ttb σ35) 9 p1)) := (by have er14 := er14.symm; subst er14; have et0_35 := et0_35.symm; subst et0_35; have eσ35 := eσ35.symm; subst eσ35; exact ((if_pos c42).trans ((if_pos c50).trans rfl)))
        exact w_reti (wXL g) C h hr hlocks (congrArg Prod.fst he) (congrArg Prod.snd he) ⟨hlpq, hldq⟩ dX0_dish_78
    · have i42 := c_nle c42
      refine lv_iconst (v := -1) hx hb dX0_dish_45 (by decide) ?_
      refine lv_goto (tgt := 78) hx hb dX0_dish_46 (by decide) ?_
      have he : f_X0_dish σ p1 p2 = (σ35, (-1 : Int32)) := (by have er14 := er14.symm; subst er14; have et0_35 := et0_35.symm; subst et0_35; have eσ35 := eσ35.symm; subst eσ35; exact ((if_neg c42).trans rfl))
      exact w_reti (wXL g) C h hr hlocks (congrArg Prod.fst he) (congrArg Prod.snd he) ⟨hlpq, hldq⟩ dX0_dish_78
  refine lv_if_eq (tgt := 34) hx hb dX0_dish_17 (by decide) (fun c17 => ?_) (fun c17 => ?_)
  · have i17 := c_eq c17
    refine lv_iconst (v := 1) hx hb dX0_dish_34 (by decide) ?_
    exact j35 _ _ _ _ (by exact ((if_pos c17).trans rfl)) (Or.inr rfl) (by first | assumption | omega) h hl
  · have i17 := c_ne c17
    have okr14 := lIsIn_ok er14 c17
    have kk14 := okr14
    rw [Int32.toInt_toInt64, Int32.toInt_toInt64, i_sub rfl (show (1 : Int32).toInt = 1 from rfl) (by omega), show (0 : Int64).toInt = 0 from rfl] at kk14
    refine lv_iload_n hx hb dX0_dish_20 rfl (lv_at hl 2 rfl) ?_
    refine lv_i2l (v := p2.toInt64) hx hb dX0_dish_21 rfl ?_
    refine lv_lconst (v := 0) hx hb dX0_dish_22 (by decide) ?_
    refine lv_lconst (v := 1) hx hb dX0_dish_23 (by decide) ?_
    refine s_callz (As := [.long p2.toInt64, .long (0 : Int64), .long (1 : Int64)]) (rest := [.ref (g.2.2.1 99)]) 3 C.1 (k_X0_isIn l p2.toInt64 (0 : Int64) (1 : Int64)) (lw_S q994 q995 q144 q996) rfl rfl (by decide +kernel) ⟨Nat.le_of_ble_eq_true rfl, Nat.le_of_ble_eq_true rfl⟩ rfl hl.1 rfl (Nat.le_of_ble_eq_true rfl) ⟨Nat.le_of_ble_eq_true rfl, Nat.le_of_ble_eq_true rfl⟩ dX0_dish_24 h.2.2.1 (fun r24 H locs er24 br24 hz1 hk1 hS1 => ?_)
    have h := h.same hk1 hS1
    clear hz1 hk1 hS1
    refine lv_if_eq (tgt := 34) hx hb dX0_dish_27 (by decide) (fun c27 => ?_) (fun c27 => ?_)
    · have i27 := c_eq c27
      refine lv_iconst (v := 1) hx hb dX0_dish_34 (by decide) ?_
      exact j35 _ _ _ _ (by have er24 := er24.symm; subst er24; exact ((if_neg c17).trans ((if_pos c27).trans rfl))) (Or.inr rfl) (by first | assumption | omega) h hl
    · have i27 := c_ne c27
      have okr24 := lIsIn_ok er24 c27
      refine lv_iconst (v := 0) hx hb dX0_dish_30 (by decide) ?_
      refine lv_goto (tgt := 35) hx hb dX0_dish_31 (by decide) ?_
      exact j35 _ _ _ _ (by have er24 := er24.symm; subst er24; exact ((if_neg c17).trans ((if_neg c27).trans rfl))) (Or.inl rfl) (by first | assumption | omega) h hl
def f_X0_eaten (σ : MS × MS) (p1 : Int32) : (MS × MS) × Int32 := (let r3 := (f_X0_isPerson σ p1); (let z14_ : Int32 := (if r3 = (0 : Int32) then ((1 : Int32)) else ((0 : Int32))); let t0_14 := z14_; (let σ14 := lsi σ 7 t0_14; if (gi (own σ14) 7) ≤ (0 : Int32) then ((let r33 := (f_X5_eaten (ttb σ14) p1); (σ14, r33))) else ((σ14, (-1 : Int32))))))
set_option maxHeartbeats 4000000 in
set_option maxRecDepth 100000 in
theorem k_X0_eaten (l : Launch) (g : GL) (σ : MS × MS) (p1 : Int32) (hlp : 0 ≤ (gi (ttb σ) 1).toInt ∧ (gi (ttb σ) 1).toInt ≤ 6) (hld : 0 ≤ (gi (ttb σ) 3).toInt ∧ (gi (ttb σ) 3).toInt ≤ 16 ∧ (gi (ttb σ) 3).toInt ≤ (g.1.2.1 50 : Int)) : Met l yX0_eaten (ws_ yX0_eaten cX0_eaten 2 (some .int)) ({ frames := 3, cells := 0, slots := 0, locals := 65 } : Room) (wPc (dL g) (g.2.2.1 99) σ [.int p1]) (wQi (dL g) (f_X0_eaten σ p1).1 (f_X0_eaten σ p1).2 (fun u r => ((gi (ttb u) 1).toInt = (gi (ttb σ) 1).toInt) ∧ ((gi (ttb u) 3).toInt = (gi (ttb σ) 3).toInt))) 0 0 (dL g).2.2.2.1 := by
  refine met_W RX0 (by decide) rfl (Nat.le_of_ble_eq_true rfl) ?_
  intro p e s m args below meth c C hr hlocks h ls hl
  have hx := C.1.1
  have hb := C.1.2.1
  have hml := C.1.2.2.1
  have hown := C.1.2.2.2.1
  have hts := C.1.2.2.2.2
  have hl : lv_has ls 2 [(0, .ref (g.2.2.1 99)), (1, .int p1)] := hl
  have hlpq : (gi (ttb σ) 1).toInt = (gi (ttb σ) 1).toInt := rfl
  have hldq : (gi (ttb σ) 3).toInt = (gi (ttb σ) 3).toInt := rfl
  have zlm1 : (-1 : Int32).toInt = -1 := rfl
  have zl0 : (0 : Int32).toInt = 0 := rfl
  have zl1 : (1 : Int32).toInt = 1 := rfl
  refine lv_aload_n hx hb dX0_eaten_0 rfl (lv_at hl 0 rfl) ?_
  refine lv_aload_n hx hb dX0_eaten_1 rfl (lv_at hl 0 rfl) ?_
  refine lv_iload_n hx hb dX0_eaten_2 rfl (lv_at hl 1 rfl) ?_
  refine w_callz (ci := 0) (q0 := 6) (As := [.int p1]) (rest := [.ref (g.2.2.1 99)]) 1 (wXL g) C h (k_X0_isPerson l g σ p1 (by first | assumption | omega)) (lw_V q1024 q1026 qs41 q144 q1027) rfl rfl rfl rfl (by decide +kernel) ⟨Nat.le_of_ble_eq_true rfl, Nat.le_of_ble_eq_true rfl⟩ rfl hl.1 rfl (Nat.le_of_ble_eq_true rfl) ⟨Nat.le_of_ble_eq_true rfl, Nat.le_of_ble_eq_true rfl⟩ dX0_eaten_3 (fun r3 σ3 H locs eσ3 er3 br3 hE3 h => ?_)
  rw [eσ3] at h
  clear hE3
  clear eσ3
  have j14 : ∀ (t0_14 : Int32) (H : Heap) (locs : List Loc) (ls : Array Slot) (ej14 : (if r3 = (0 : Int32) then ((1 : Int32)) else ((0 : Int32))) = t0_14) (bt0_14 : t0_14 = 0 ∨ t0_14 = 1) (hI14 : (0 < t0_14.toInt) ∨ (0 ≤ p1.toInt ∧ p1.toInt < (gi (ttb σ) 1).toInt)) (h : wH (dL g) σ s H locs) (hl : lv_has ls 2 [(0, .ref (g.2.2.1 99)), (1, .int p1)]), W p l e ({ frames := 3, cells := 0, slots := 0, locals := 65 } : Room) s m args below meth c H locs 0 0 (MQ below (wQi (dL g) (f_X0_eaten σ p1).1 (f_X0_eaten σ p1).2 (fun u r => ((gi (ttb u) 1).toInt = (gi (ttb σ) 1).toInt) ∧ ((gi (ttb u) 3).toInt = (gi (ttb σ) 3).toInt))) args s 0 0 (dL g).2.2.2.1) (F0 m 14 ls [.int t0_14, .ref (g.2.2.1 99)]) := by
    intro t0_14 H locs ls ej14 bt0_14 hI14 h hl
    have et0_14 := ej14.symm
    refine L_p7 C h dX0_eaten_14 (fun σ14 H locs eσ14 h => ?_)
    have hNEW : (0 ≤ (gi (ttb σ14) 1).toInt ∧ (gi (ttb σ14) 1).toInt ≤ 6) ∧ (0 ≤ (gi (ttb σ14) 3).toInt ∧ (gi (ttb σ14) 3).toInt ≤ 16 ∧ (gi (ttb σ14) 3).toInt ≤ (g.1.2.1 50 : Int)) ∧ ((gi (ttb σ14) 1).toInt = (gi (ttb σ) 1).toInt) ∧ ((gi (ttb σ14) 3).toInt = (gi (ttb σ) 3).toInt) := ⟨(by rw [eσ14] <;> exact hlp), (by rw [eσ14] <;> exact hld), (by rw [eσ14] <;> exact hlpq), (by rw [eσ14] <;> exact hldq)⟩
    obtain ⟨hlp, hld, hlpq, hldq⟩ := hNEW
    have q7_14 : (gi (own σ14) 7).toInt = t0_14.toInt := by rw [eσ14]; rfl
    refine lv_aload_n hx hb dX0_eaten_17 rfl (lv_at hl 0 rfl) ?_
    refine L_g7 C h dX0_eaten_18 ?_
    refine lv_if_le (tgt := 28) hx hb dX0_eaten_21 (by decide) (fun c21 => ?_) (fun c21 => ?_)
    · have i21 := c_le c21
      refine lv_aload_n hx hb dX0_eaten_28 rfl (lv_at hl 0 rfl) ?_
      refine L_at (rest := []) C h ⟨Nat.le_of_ble_eq_true rfl, Nat.le_of_ble_eq_true rfl⟩ hl.1 (Nat.le_of_ble_eq_true rfl) ⟨Nat.le_of_ble_eq_true rfl, Nat.le_of_ble_eq_true rfl⟩ dX0_eaten_29 (fun H locs h => ?_)
      refine lv_iload_n hx hb dX0_eaten_32 rfl (lv_at hl 1 rfl) ?_
      refine L_tcalli (As := [.int p1]) (rest := []) 1 C h (k_X5_eaten l g.1 (ttb σ14) p1 (by first | assumption | omega) (by first | assumption | omega) (by first | assumption | omega)) (lw_V q1045 q1046 q1047 q151 q1048) rfl rfl (by decide +kernel) ⟨Nat.le_of_ble_eq_true rfl, Nat.le_of_ble_eq_true rfl⟩ rfl hl.1 rfl (Nat.le_of_ble_eq_true rfl) ⟨Nat.le_of_ble_eq_true rfl, Nat.le_of_ble_eq_true rfl⟩ dX0_eaten_33 (fun r33 σ33 H locs eσ33 er33 hE33 h => ?_)
      have h : wH (dL g) σ14 s H locs := by rw [eσ33] at h; exact h
      clear hE33
      clear eσ33
      have he : f_X0_eaten σ p1 = (σ14, r33) := (by have er3 := er3.symm; subst er3; have et0_14 := et0_14.symm; subst et0_14; have eσ14 := eσ14.symm; subst eσ14; have er33 := er33.symm; subst er33; exact ((if_pos c21).trans rfl))
      exact w_reti (wXL g) C h hr hlocks (congrArg Prod.fst he) (congrArg Prod.snd he) ⟨hlpq, hldq⟩ dX0_eaten_36
    · have i21 := c_nle c21
      refine lv_iconst (v := -1) hx hb dX0_eaten_24 (by decide) ?_
      refine lv_goto (tgt := 36) hx hb dX0_eaten_25 (by decide) ?_
      have he : f_X0_eaten σ p1 = (σ14, (-1 : Int32)) := (by have er3 := er3.symm; subst er3; have et0_14 := et0_14.symm; subst et0_14; have eσ14 := eσ14.symm; subst eσ14; exact ((if_neg c21).trans rfl))
      exact w_reti (wXL g) C h hr hlocks (congrArg Prod.fst he) (congrArg Prod.snd he) ⟨hlpq, hldq⟩ dX0_eaten_36
  refine lv_if_eq (tgt := 13) hx hb dX0_eaten_6 (by decide) (fun c6 => ?_) (fun c6 => ?_)
  · have i6 := c_eq c6
    refine lv_iconst (v := 1) hx hb dX0_eaten_13 (by decide) ?_
    exact j14 _ _ _ _ (by exact ((if_pos c6).trans rfl)) (Or.inr rfl) (by first | assumption | omega) h hl
  · have i6 := c_ne c6
    have okr3 := lIsPerson_ok hlp er3 c6
    refine lv_iconst (v := 0) hx hb dX0_eaten_9 (by decide) ?_
    refine lv_goto (tgt := 14) hx hb dX0_eaten_10 (by decide) ?_
    exact j14 _ _ _ _ (by exact ((if_neg c6).trans rfl)) (Or.inl rfl) (by first | assumption | omega) h hl
def f_X0_due (σ : MS × MS) (p1 : Int32) (p2 : Int32) : (MS × MS) × Int32 := (let r3 := (f_X0_isPerson σ p1); (let z21_ : Int32 := (if r3 = (0 : Int32) then ((1 : Int32)) else ((let r10 := (f_X0_isSplit p2); if r10 = (0 : Int32) then ((1 : Int32)) else ((0 : Int32))))); let t0_21 := z21_; (let σ21 := lsi σ 7 t0_21; if (gi (own σ21) 7) ≤ (0 : Int32) then ((let r41 := (f_X5_due (ttb σ21) p1 p2); (σ21, r41))) else ((σ21, (-1 : Int32))))))
set_option maxHeartbeats 4000000 in
set_option maxRecDepth 100000 in
theorem k_X0_due (l : Launch) (g : GL) (σ : MS × MS) (p1 : Int32) (p2 : Int32) (hlp : 0 ≤ (gi (ttb σ) 1).toInt ∧ (gi (ttb σ) 1).toInt ≤ 6) (hld : 0 ≤ (gi (ttb σ) 3).toInt ∧ (gi (ttb σ) 3).toInt ≤ 16 ∧ (gi (ttb σ) 3).toInt ≤ (g.1.2.1 50 : Int)) : Met l yX0_due (ws_ yX0_due cX0_due 3 (some .int)) ({ frames := 4, cells := 0, slots := 0, locals := 91 } : Room) (wPc (dL g) (g.2.2.1 99) σ [.int p1, .int p2]) (wQi (dL g) (f_X0_due σ p1 p2).1 (f_X0_due σ p1 p2).2 (fun u r => ((gi (ttb u) 1).toInt = (gi (ttb σ) 1).toInt) ∧ ((gi (ttb u) 3).toInt = (gi (ttb σ) 3).toInt))) 0 0 (dL g).2.2.2.1 := by
  refine met_W RX0 (by decide) rfl (Nat.le_of_ble_eq_true rfl) ?_
  intro p e s m args below meth c C hr hlocks h ls hl
  have hx := C.1.1
  have hb := C.1.2.1
  have hml := C.1.2.2.1
  have hown := C.1.2.2.2.1
  have hts := C.1.2.2.2.2
  have hl : lv_has ls 3 [(0, .ref (g.2.2.1 99)), (1, .int p1), (2, .int p2)] := hl
  have hlpq : (gi (ttb σ) 1).toInt = (gi (ttb σ) 1).toInt := rfl
  have hldq : (gi (ttb σ) 3).toInt = (gi (ttb σ) 3).toInt := rfl
  have zlm1 : (-1 : Int32).toInt = -1 := rfl
  have zl0 : (0 : Int32).toInt = 0 := rfl
  have zl1 : (1 : Int32).toInt = 1 := rfl
  refine lv_aload_n hx hb dX0_due_0 rfl (lv_at hl 0 rfl) ?_
  refine lv_aload_n hx hb dX0_due_1 rfl (lv_at hl 0 rfl) ?_
  refine lv_iload_n hx hb dX0_due_2 rfl (lv_at hl 1 rfl) ?_
  refine w_callz (ci := 0) (q0 := 6) (As := [.int p1]) (rest := [.ref (g.2.2.1 99)]) 1 (wXL g) C h (k_X0_isPerson l g σ p1 (by first | assumption | omega)) (lw_V q1024 q1026 qs41 q144 q1027) rfl rfl rfl rfl (by decide +kernel) ⟨Nat.le_of_ble_eq_true rfl, Nat.le_of_ble_eq_true rfl⟩ rfl hl.1 rfl (Nat.le_of_ble_eq_true rfl) ⟨Nat.le_of_ble_eq_true rfl, Nat.le_of_ble_eq_true rfl⟩ dX0_due_3 (fun r3 σ3 H locs eσ3 er3 br3 hE3 h => ?_)
  rw [eσ3] at h
  clear hE3
  clear eσ3
  have j21 : ∀ (t0_21 : Int32) (H : Heap) (locs : List Loc) (ls : Array Slot) (ej21 : (if r3 = (0 : Int32) then ((1 : Int32)) else ((let r10 := (f_X0_isSplit p2); if r10 = (0 : Int32) then ((1 : Int32)) else ((0 : Int32))))) = t0_21) (bt0_21 : t0_21 = 0 ∨ t0_21 = 1) (hI21 : (0 < t0_21.toInt) ∨ (0 ≤ p1.toInt ∧ p1.toInt < (gi (ttb σ) 1).toInt)) (h : wH (dL g) σ s H locs) (hl : lv_has ls 3 [(0, .ref (g.2.2.1 99)), (1, .int p1), (2, .int p2)]), W p l e ({ frames := 4, cells := 0, slots := 0, locals := 91 } : Room) s m args below meth c H locs 0 0 (MQ below (wQi (dL g) (f_X0_due σ p1 p2).1 (f_X0_due σ p1 p2).2 (fun u r => ((gi (ttb u) 1).toInt = (gi (ttb σ) 1).toInt) ∧ ((gi (ttb u) 3).toInt = (gi (ttb σ) 3).toInt))) args s 0 0 (dL g).2.2.2.1) (F0 m 21 ls [.int t0_21, .ref (g.2.2.1 99)]) := by
    intro t0_21 H locs ls ej21 bt0_21 hI21 h hl
    have et0_21 := ej21.symm
    refine L_p7 C h dX0_due_21 (fun σ21 H locs eσ21 h => ?_)
    have hNEW : (0 ≤ (gi (ttb σ21) 1).toInt ∧ (gi (ttb σ21) 1).toInt ≤ 6) ∧ (0 ≤ (gi (ttb σ21) 3).toInt ∧ (gi (ttb σ21) 3).toInt ≤ 16 ∧ (gi (ttb σ21) 3).toInt ≤ (g.1.2.1 50 : Int)) ∧ ((gi (ttb σ21) 1).toInt = (gi (ttb σ) 1).toInt) ∧ ((gi (ttb σ21) 3).toInt = (gi (ttb σ) 3).toInt) := ⟨(by rw [eσ21] <;> exact hlp), (by rw [eσ21] <;> exact hld), (by rw [eσ21] <;> exact hlpq), (by rw [eσ21] <;> exact hldq)⟩
    obtain ⟨hlp, hld, hlpq, hldq⟩ := hNEW
    have q7_21 : (gi (own σ21) 7).toInt = t0_21.toInt := by rw [eσ21]; rfl
    refine lv_aload_n hx hb dX0_due_24 rfl (lv_at hl 0 rfl) ?_
    refine L_g7 C h dX0_due_25 ?_
    refine lv_if_le (tgt := 35) hx hb dX0_due_28 (by decide) (fun c28 => ?_) (fun c28 => ?_)
    · have i28 := c_le c28
      refine lv_aload_n hx hb dX0_due_35 rfl (lv_at hl 0 rfl) ?_
      refine L_at (rest := []) C h ⟨Nat.le_of_ble_eq_true rfl, Nat.le_of_ble_eq_true rfl⟩ hl.1 (Nat.le_of_ble_eq_true rfl) ⟨Nat.le_of_ble_eq_true rfl, Nat.le_of_ble_eq_true rfl⟩ dX0_due_36 (fun H locs h => ?_)
      refine lv_iload_n hx hb dX0_due_39 rfl (lv_at hl 1 rfl) ?_
      refine lv_iload_n hx hb dX0_due_40 rfl (lv_at hl 2 rfl) ?_
      refine L_tcalli (As := [.int p1, .int p2]) (rest := []) 2 C h (k_X5_due l g.1 (ttb σ21) p1 p2 (by first | assumption | omega) (by first | assumption | omega) (by first | assumption | omega)) (lw_V q1065 q1066 q1067 q151 q1068) rfl rfl (by decide +kernel) ⟨Nat.le_of_ble_eq_true rfl, Nat.le_of_ble_eq_true rfl⟩ rfl hl.1 rfl (Nat.le_of_ble_eq_true rfl) ⟨Nat.le_of_ble_eq_true rfl, Nat.le_of_ble_eq_true rfl⟩ dX0_due_41 (fun r41 σ41 H locs eσ41 er41 hE41 h => ?_)
      have h : wH (dL g) σ21 s H locs := by rw [eσ41] at h; exact h
      clear hE41
      clear eσ41
      have he : f_X0_due σ p1 p2 = (σ21, r41) := (by have er3 := er3.symm; subst er3; have et0_21 := et0_21.symm; subst et0_21; have eσ21 := eσ21.symm; subst eσ21; have er41 := er41.symm; subst er41; exact ((if_pos c28).trans rfl))
      exact w_reti (wXL g) C h hr hlocks (congrArg Prod.fst he) (congrArg Prod.snd he) ⟨hlpq, hldq⟩ dX0_due_44
    · have i28 := c_nle c28
      refine lv_iconst (v := -1) hx hb dX0_due_31 (by decide) ?_
      refine lv_goto (tgt := 44) hx hb dX0_due_32 (by decide) ?_
      have he : f_X0_due σ p1 p2 = (σ21, (-1 : Int32)) := (by have er3 := er3.symm; subst er3; have et0_21 := et0_21.symm; subst et0_21; have eσ21 := eσ21.symm; subst eσ21; exact ((if_neg c28).trans rfl))
      exact w_reti (wXL g) C h hr hlocks (congrArg Prod.fst he) (congrArg Prod.snd he) ⟨hlpq, hldq⟩ dX0_due_44
  refine lv_if_eq (tgt := 20) hx hb dX0_due_6 (by decide) (fun c6 => ?_) (fun c6 => ?_)
  · have i6 := c_eq c6
    refine lv_iconst (v := 1) hx hb dX0_due_20 (by decide) ?_
    exact j21 _ _ _ _ (by exact ((if_pos c6).trans rfl)) (Or.inr rfl) (by first | assumption | omega) h hl
  · have i6 := c_ne c6
    have okr3 := lIsPerson_ok hlp er3 c6
    refine lv_iload_n hx hb dX0_due_9 rfl (lv_at hl 2 rfl) ?_
    refine s_callz (As := [.int p2]) (rest := [.ref (g.2.2.1 99)]) 1 C.1 (k_X0_isSplit l p2) (lw_S q1061 q1062 q144 q1063) rfl rfl (by decide +kernel) ⟨Nat.le_of_ble_eq_true rfl, Nat.le_of_ble_eq_true rfl⟩ rfl hl.1 rfl (Nat.le_of_ble_eq_true rfl) ⟨Nat.le_of_ble_eq_true rfl, Nat.le_of_ble_eq_true rfl⟩ dX0_due_10 h.2.2.1 (fun r10 H locs er10 br10 hz1 hk1 hS1 => ?_)
    have h := h.same hk1 hS1
    clear hz1 hk1 hS1
    refine lv_if_eq (tgt := 20) hx hb dX0_due_13 (by decide) (fun c13 => ?_) (fun c13 => ?_)
    · have i13 := c_eq c13
      refine lv_iconst (v := 1) hx hb dX0_due_20 (by decide) ?_
      exact j21 _ _ _ _ (by have er10 := er10.symm; subst er10; exact ((if_neg c6).trans ((if_pos c13).trans rfl))) (Or.inr rfl) (by first | assumption | omega) h hl
    · have i13 := c_ne c13
      refine lv_iconst (v := 0) hx hb dX0_due_16 (by decide) ?_
      refine lv_goto (tgt := 21) hx hb dX0_due_17 (by decide) ?_
      exact j21 _ _ _ _ (by have er10 := er10.symm; subst er10; exact ((if_neg c6).trans ((if_neg c13).trans rfl))) (Or.inl rfl) (by first | assumption | omega) h hl
def f_X0_unfairOf_L4 (σ : MS × MS) (y1_4 : Int32) : Nat → Int32 → Int32 → Int32 × Int32
  | 0, x2_4, x3_4 => (x2_4, x3_4)
  | n + 1, x2_4, x3_4 => if (gi (ttb σ) 1) ≤ x3_4 then ((x2_4, x3_4)) else ((let r22 := (f_X5_due (ttb σ) x3_4 y1_4); let r30 := (f_X5_eaten (ttb σ) x3_4); let v38 := (x2_4 + (jabs (r22 - r30))); f_X0_unfairOf_L4 σ y1_4 n v38 (x3_4 + (1 : Int32))))
def f_X0_unfairOf (σ : MS × MS) (p1 : Int32) : Int32 := (let zL4 := f_X0_unfairOf_L4 σ p1 (7) (0 : Int32) (0 : Int32); let x2_4e := zL4.1; let x3_4e := zL4.2; x2_4e)
set_option maxHeartbeats 4000000 in
set_option maxRecDepth 100000 in
theorem k_X0_unfairOf (l : Launch) (g : GL) (σ : MS × MS) (p1 : Int32) (hlp : 0 ≤ (gi (ttb σ) 1).toInt ∧ (gi (ttb σ) 1).toInt ≤ 6) (hld : 0 ≤ (gi (ttb σ) 3).toInt ∧ (gi (ttb σ) 3).toInt ≤ 16 ∧ (gi (ttb σ) 3).toInt ≤ (g.1.2.1 50 : Int)) : Met l yX0_unfairOf (ws_ yX0_unfairOf cX0_unfairOf 4 (some .int)) ({ frames := 4, cells := 0, slots := 0, locals := 91 } : Room) (wPc (dL g) (g.2.2.1 99) σ [.int p1]) (wQi (dL g) σ (f_X0_unfairOf σ p1) (fun u r => True)) 0 0 (dL g).2.2.2.1 := by
  refine met_W RX0 (by decide) rfl (Nat.le_of_ble_eq_true rfl) ?_
  intro p e s m args below meth c C hr hlocks h ls hl
  have hx := C.1.1
  have hb := C.1.2.1
  have hml := C.1.2.2.1
  have hown := C.1.2.2.2.1
  have hts := C.1.2.2.2.2
  have hl : lv_has ls 4 [(0, .ref (g.2.2.1 99)), (1, .int p1)] := hl
  have zl0 : (0 : Int32).toInt = 0 := rfl
  have zl1 : (1 : Int32).toInt = 1 := rfl
  refine lv_iconst (v := 0) hx hb dX0_unfairOf_0 (by decide) ?_
  refine lv_istore_n (lv' := [(2, .int (0 : Int32)), (0, .ref (g.2.2.1 99)), (1, .int p1)]) hx hb dX0_unfairOf_1 rfl hl (by decide) rfl (fun ls hl => ?_)
  refine lv_iconst (v := 0) hx hb dX0_unfairOf_2 (by decide) ?_
  refine lv_istore_n (lv' := [(3, .int (0 : Int32)), (2, .int (0 : Int32)), (0, .ref (g.2.2.1 99)), (1, .int p1)]) hx hb dX0_unfairOf_3 rfl hl (by decide) rfl (fun ls hl => ?_)
  have hL4 : ∀ (n : Nat) (x2_4 : Int32) (x3_4 : Int32) (H : Heap) (locs : List Loc) (ls : Array Slot), (0 ≤ x3_4.toInt ∧ x3_4.toInt ≤ (gi (ttb σ) 1).toInt) → ((gi (ttb σ) 1).toInt - x3_4.toInt).toNat < n → wH (dL g) σ s H locs → lv_has ls 4 [(0, .ref (g.2.2.1 99)), (1, .int p1), (2, .int x2_4), (3, .int x3_4)] → (∀ (x2_4' : Int32) (x3_4' : Int32) (H : Heap) (locs : List Loc) (ls : Array Slot), f_X0_unfairOf_L4 σ p1 n x2_4 x3_4 = (x2_4', x3_4') → (0 ≤ x3_4'.toInt ∧ x3_4'.toInt ≤ (gi (ttb σ) 1).toInt) → wH (dL g) σ s H locs → lv_has ls 4 [(2, .int x2_4')] → W p l e ({ frames := 4, cells := 0, slots := 0, locals := 91 } : Room) s m args below meth c H locs 0 0 (MQ below (wQi (dL g) σ (f_X0_unfairOf σ p1) (fun u r => True)) args s 0 0 (dL g).2.2.2.1) (F0 m 45 ls [])) → W p l e ({ frames := 4, cells := 0, slots := 0, locals := 91 } : Room) s m args below meth c H locs 0 0 (MQ below (wQi (dL g) σ (f_X0_unfairOf σ p1) (fun u r => True)) args s 0 0 (dL g).2.2.2.1) (F0 m 4 ls []) := by
    intro n
    induction n with
    | zero =>
      intro x2_4 x3_4 H locs ls _ hm; exact absurd hm (Nat.not_lt_zero _)
    | succ n ih =>
      intro x2_4 x3_4 H locs ls hI4 hm h hl kk
      refine lv_iload_n hx hb dX0_unfairOf_4 rfl (lv_at hl 3 rfl) ?_
      refine lv_aload_n hx hb dX0_unfairOf_5 rfl (lv_at hl 0 rfl) ?_
      refine L_at (rest := [.int x3_4]) C h ⟨Nat.le_of_ble_eq_true rfl, Nat.le_of_ble_eq_true rfl⟩ hl.1 (Nat.le_of_ble_eq_true rfl) ⟨Nat.le_of_ble_eq_true rfl, Nat.le_of_ble_eq_true rfl⟩ dX0_unfairOf_6 (fun H locs h => ?_)
      refine L_t1 C h dX0_unfairOf_9 ?_
      refine lv_icmp_ge (tgt := 45) hx hb dX0_unfairOf_12 (by decide) (fun c12 => ?_) (fun c12 => ?_)
      · have i12 := c_le c12
        exact kk x2_4 x3_4 _ _ _ (show f_X0_unfairOf_L4 σ p1 (n + 1) x2_4 x3_4 = (x2_4, x3_4) from (by exact ((if_pos c12).trans rfl)))  (by first | assumption | omega) h (lv_sub hl [2] rfl)
      · have i12 := c_nle c12
        refine lv_iload_n hx hb dX0_unfairOf_15 rfl (lv_at hl 2 rfl) ?_
        refine lv_aload_n hx hb dX0_unfairOf_16 rfl (lv_at hl 0 rfl) ?_
        refine L_at (rest := [.int x2_4]) C h ⟨Nat.le_of_ble_eq_true rfl, Nat.le_of_ble_eq_true rfl⟩ hl.1 (Nat.le_of_ble_eq_true rfl) ⟨Nat.le_of_ble_eq_true rfl, Nat.le_of_ble_eq_true rfl⟩ dX0_unfairOf_17 (fun H locs h => ?_)
        refine lv_iload_n hx hb dX0_unfairOf_20 rfl (lv_at hl 3 rfl) ?_
        refine lv_iload_n hx hb dX0_unfairOf_21 rfl (lv_at hl 1 rfl) ?_
        refine L_tcalli (As := [.int x3_4, .int p1]) (rest := [.int x2_4]) 2 C h (k_X5_due l g.1 (ttb σ) x3_4 p1 (by first | assumption | omega) (by first | assumption | omega) (by first | assumption | omega)) (lw_V q1065 q1066 q1067 q151 q1068) rfl rfl (by decide +kernel) ⟨Nat.le_of_ble_eq_true rfl, Nat.le_of_ble_eq_true rfl⟩ rfl hl.1 rfl (Nat.le_of_ble_eq_true rfl) ⟨Nat.le_of_ble_eq_true rfl, Nat.le_of_ble_eq_true rfl⟩ dX0_unfairOf_22 (fun r22 σ22 H locs eσ22 er22 hE22 h => ?_)
        have h : wH (dL g) σ s H locs := by rw [eσ22] at h; exact h
        clear hE22
        clear eσ22
        refine lv_aload_n hx hb dX0_unfairOf_25 rfl (lv_at hl 0 rfl) ?_
        refine L_at (rest := [.int r22, .int x2_4]) C h ⟨Nat.le_of_ble_eq_true rfl, Nat.le_of_ble_eq_true rfl⟩ hl.1 (Nat.le_of_ble_eq_true rfl) ⟨Nat.le_of_ble_eq_true rfl, Nat.le_of_ble_eq_true rfl⟩ dX0_unfairOf_26 (fun H locs h => ?_)
        refine lv_iload_n hx hb dX0_unfairOf_29 rfl (lv_at hl 3 rfl) ?_
        refine L_tcalli (As := [.int x3_4]) (rest := [.int r22, .int x2_4]) 1 C h (k_X5_eaten l g.1 (ttb σ) x3_4 (by first | assumption | omega) (by first | assumption | omega) (by first | assumption | omega)) (lw_V q1045 q1046 q1047 q151 q1048) rfl rfl (by decide +kernel) ⟨Nat.le_of_ble_eq_true rfl, Nat.le_of_ble_eq_true rfl⟩ rfl hl.1 rfl (Nat.le_of_ble_eq_true rfl) ⟨Nat.le_of_ble_eq_true rfl, Nat.le_of_ble_eq_true rfl⟩ dX0_unfairOf_30 (fun r30 σ30 H locs eσ30 er30 hE30 h => ?_)
        have h : wH (dL g) σ s H locs := by rw [eσ30] at h; exact h
        clear hE30
        clear eσ30
        refine lv_isub hx hb dX0_unfairOf_33 ?_
        refine va_mabs hx hb (hml.trans hl.1.symm) hown (hts _ q1084) (hts _ q1085) (hts _ q164) (hts _ q1086) (Nat.le_of_ble_eq_true rfl) (Nat.le_of_ble_eq_true rfl) (Nat.le_of_ble_eq_true rfl) (Nat.le_of_ble_eq_true rfl) dX0_unfairOf_34 ?_
        refine lv_iadd hx hb dX0_unfairOf_37 ?_
        refine lv_topi (fun v38 ev38 => ?_)
        refine lv_istore_n (lv' := [(2, .int v38), (0, .ref (g.2.2.1 99)), (1, .int p1), (3, .int x3_4)]) hx hb dX0_unfairOf_38 rfl hl (by decide) rfl (fun ls hl => ?_)
        refine lv_iinc (v := (x3_4 + (1 : Int32))) (lv' := [(3, .int (x3_4 + (1 : Int32))), (2, .int v38), (0, .ref (g.2.2.1 99)), (1, .int p1)]) hx hb dX0_unfairOf_39 hl (k := 3) rfl rfl (by decide) rfl (fun ls hl => ?_)
        refine lv_goto (tgt := 4) hx hb dX0_unfairOf_42 (by decide) ?_
        have tt3 : (x3_4 + (1 : Int32)).toInt = (x3_4.toInt + (1)) := (i_add (rfl : x3_4.toInt = x3_4.toInt) zl1 (by omega))
        exact ih v38 (x3_4 + (1 : Int32)) _ _ _  (by first | assumption | omega) (by omega) h (lv_sub hl [2, 3, 1, 0] rfl) (fun x2_4' x3_4' H locs ls en hI h hl => kk x2_4' x3_4' H locs ls ((show f_X0_unfairOf_L4 σ p1 (n + 1) x2_4 x3_4 = f_X0_unfairOf_L4 σ p1 n v38 (x3_4 + (1 : Int32)) from (by have er22 := er22.symm; subst er22; have er30 := er30.symm; subst er30; have ev38 := ev38.symm; subst ev38; exact ((if_neg c12).trans rfl))).trans en) hI h hl)
  refine hL4 (7) (0 : Int32) (0 : Int32) _ _ _  (by first | assumption | omega) (by omega) h (lv_sub hl [2, 3, 1, 0] rfl) (fun x2_4e x3_4e H locs ls eL4 hI4 h hl => ?_)
  have ex2_4e : x2_4e = (f_X0_unfairOf_L4 σ p1 (7) (0 : Int32) (0 : Int32)).1 := by rw [eL4]
  have ex3_4e : x3_4e = (f_X0_unfairOf_L4 σ p1 (7) (0 : Int32) (0 : Int32)).2 := by rw [eL4]
  refine lv_iload_n hx hb dX0_unfairOf_45 rfl (lv_at hl 0 rfl) ?_
  have he : f_X0_unfairOf σ p1 = x2_4e := (by have ex2_4e := ex2_4e.symm; subst ex2_4e; have ex3_4e := ex3_4e.symm; subst ex3_4e; exact rfl)
  exact w_reti (wXL g) C h hr hlocks rfl he trivial dX0_unfairOf_46
def f_X0_unfair (σ : MS × MS) (p1 : Int32) : (MS × MS) × Int32 := (let r2 := (f_X0_isSplit p1); (let z13_ : Int32 := (if r2 = (0 : Int32) then ((1 : Int32)) else ((0 : Int32))); let t0_13 := z13_; (let σ13 := lsi σ 7 t0_13; if (gi (own σ13) 7) ≤ (0 : Int32) then ((let r29 := (f_X0_unfairOf σ13 p1); (σ13, r29))) else ((σ13, (-1 : Int32))))))
set_option maxHeartbeats 4000000 in
set_option maxRecDepth 100000 in
theorem k_X0_unfair (l : Launch) (g : GL) (σ : MS × MS) (p1 : Int32) (hlp : 0 ≤ (gi (ttb σ) 1).toInt ∧ (gi (ttb σ) 1).toInt ≤ 6) (hld : 0 ≤ (gi (ttb σ) 3).toInt ∧ (gi (ttb σ) 3).toInt ≤ 16 ∧ (gi (ttb σ) 3).toInt ≤ (g.1.2.1 50 : Int)) : Met l yX0_unfair (ws_ yX0_unfair cX0_unfair 2 (some .int)) ({ frames := 5, cells := 0, slots := 0, locals := 114 } : Room) (wPc (dL g) (g.2.2.1 99) σ [.int p1]) (wQi (dL g) (f_X0_unfair σ p1).1 (f_X0_unfair σ p1).2 (fun u r => ((gi (ttb u) 1).toInt = (gi (ttb σ) 1).toInt) ∧ ((gi (ttb u) 3).toInt = (gi (ttb σ) 3).toInt))) 0 0 (dL g).2.2.2.1 := by
  refine met_W RX0 (by decide) rfl (Nat.le_of_ble_eq_true rfl) ?_
  intro p e s m args below meth c C hr hlocks h ls hl
  have hx := C.1.1
  have hb := C.1.2.1
  have hml := C.1.2.2.1
  have hown := C.1.2.2.2.1
  have hts := C.1.2.2.2.2
  have hl : lv_has ls 2 [(0, .ref (g.2.2.1 99)), (1, .int p1)] := hl
  have hlpq : (gi (ttb σ) 1).toInt = (gi (ttb σ) 1).toInt := rfl
  have hldq : (gi (ttb σ) 3).toInt = (gi (ttb σ) 3).toInt := rfl
  have zlm1 : (-1 : Int32).toInt = -1 := rfl
  have zl0 : (0 : Int32).toInt = 0 := rfl
  have zl1 : (1 : Int32).toInt = 1 := rfl
  refine lv_aload_n hx hb dX0_unfair_0 rfl (lv_at hl 0 rfl) ?_
  refine lv_iload_n hx hb dX0_unfair_1 rfl (lv_at hl 1 rfl) ?_
  refine s_callz (As := [.int p1]) (rest := [.ref (g.2.2.1 99)]) 1 C.1 (k_X0_isSplit l p1) (lw_S q1061 q1062 q144 q1063) rfl rfl (by decide +kernel) ⟨Nat.le_of_ble_eq_true rfl, Nat.le_of_ble_eq_true rfl⟩ rfl hl.1 rfl (Nat.le_of_ble_eq_true rfl) ⟨Nat.le_of_ble_eq_true rfl, Nat.le_of_ble_eq_true rfl⟩ dX0_unfair_2 h.2.2.1 (fun r2 H locs er2 br2 hz1 hk1 hS1 => ?_)
  have h := h.same hk1 hS1
  clear hz1 hk1 hS1
  have j13 : ∀ (t0_13 : Int32) (H : Heap) (locs : List Loc) (ls : Array Slot) (ej13 : (if r2 = (0 : Int32) then ((1 : Int32)) else ((0 : Int32))) = t0_13) (bt0_13 : t0_13 = 0 ∨ t0_13 = 1) (h : wH (dL g) σ s H locs) (hl : lv_has ls 2 [(0, .ref (g.2.2.1 99)), (1, .int p1)]), W p l e ({ frames := 5, cells := 0, slots := 0, locals := 114 } : Room) s m args below meth c H locs 0 0 (MQ below (wQi (dL g) (f_X0_unfair σ p1).1 (f_X0_unfair σ p1).2 (fun u r => ((gi (ttb u) 1).toInt = (gi (ttb σ) 1).toInt) ∧ ((gi (ttb u) 3).toInt = (gi (ttb σ) 3).toInt))) args s 0 0 (dL g).2.2.2.1) (F0 m 13 ls [.int t0_13, .ref (g.2.2.1 99)]) := by
    intro t0_13 H locs ls ej13 bt0_13 h hl
    have et0_13 := ej13.symm
    refine L_p7 C h dX0_unfair_13 (fun σ13 H locs eσ13 h => ?_)
    have hNEW : (0 ≤ (gi (ttb σ13) 1).toInt ∧ (gi (ttb σ13) 1).toInt ≤ 6) ∧ (0 ≤ (gi (ttb σ13) 3).toInt ∧ (gi (ttb σ13) 3).toInt ≤ 16 ∧ (gi (ttb σ13) 3).toInt ≤ (g.1.2.1 50 : Int)) ∧ ((gi (ttb σ13) 1).toInt = (gi (ttb σ) 1).toInt) ∧ ((gi (ttb σ13) 3).toInt = (gi (ttb σ) 3).toInt) := ⟨(by rw [eσ13] <;> exact hlp), (by rw [eσ13] <;> exact hld), (by rw [eσ13] <;> exact hlpq), (by rw [eσ13] <;> exact hldq)⟩
    obtain ⟨hlp, hld, hlpq, hldq⟩ := hNEW
    have q7_13 : (gi (own σ13) 7).toInt = t0_13.toInt := by rw [eσ13]; rfl
    refine lv_aload_n hx hb dX0_unfair_16 rfl (lv_at hl 0 rfl) ?_
    refine L_g7 C h dX0_unfair_17 ?_
    refine lv_if_le (tgt := 27) hx hb dX0_unfair_20 (by decide) (fun c20 => ?_) (fun c20 => ?_)
    · have i20 := c_le c20
      refine lv_aload_n hx hb dX0_unfair_27 rfl (lv_at hl 0 rfl) ?_
      refine lv_iload_n hx hb dX0_unfair_28 rfl (lv_at hl 1 rfl) ?_
      refine w_calli (ci := 0) (q0 := 6) (As := [.int p1]) (rest := []) 1 (wXL g) C h (k_X0_unfairOf l g σ13 p1 (by first | assumption | omega) (by first | assumption | omega)) (lw_V q1080 q1082 qs44 q144 q1083) rfl rfl rfl rfl (by decide +kernel) ⟨Nat.le_of_ble_eq_true rfl, Nat.le_of_ble_eq_true rfl⟩ rfl hl.1 rfl (Nat.le_of_ble_eq_true rfl) ⟨Nat.le_of_ble_eq_true rfl, Nat.le_of_ble_eq_true rfl⟩ dX0_unfair_29 (fun r29 σ29 H locs eσ29 er29 hE29 h => ?_)
      rw [eσ29] at h
      clear hE29
      clear eσ29
      have he : f_X0_unfair σ p1 = (σ13, r29) := (by have er2 := er2.symm; subst er2; have et0_13 := et0_13.symm; subst et0_13; have eσ13 := eσ13.symm; subst eσ13; have er29 := er29.symm; subst er29; exact ((if_pos c20).trans rfl))
      exact w_reti (wXL g) C h hr hlocks (congrArg Prod.fst he) (congrArg Prod.snd he) ⟨hlpq, hldq⟩ dX0_unfair_32
    · have i20 := c_nle c20
      refine lv_iconst (v := -1) hx hb dX0_unfair_23 (by decide) ?_
      refine lv_goto (tgt := 32) hx hb dX0_unfair_24 (by decide) ?_
      have he : f_X0_unfair σ p1 = (σ13, (-1 : Int32)) := (by have er2 := er2.symm; subst er2; have et0_13 := et0_13.symm; subst et0_13; have eσ13 := eσ13.symm; subst eσ13; exact ((if_neg c20).trans rfl))
      exact w_reti (wXL g) C h hr hlocks (congrArg Prod.fst he) (congrArg Prod.snd he) ⟨hlpq, hldq⟩ dX0_unfair_32
  refine lv_if_eq (tgt := 12) hx hb dX0_unfair_5 (by decide) (fun c5 => ?_) (fun c5 => ?_)
  · have i5 := c_eq c5
    refine lv_iconst (v := 1) hx hb dX0_unfair_12 (by decide) ?_
    exact j13 _ _ _ _ (by exact ((if_pos c5).trans rfl)) (Or.inr rfl) h hl
  · have i5 := c_ne c5
    refine lv_iconst (v := 0) hx hb dX0_unfair_8 (by decide) ?_
    refine lv_goto (tgt := 13) hx hb dX0_unfair_9 (by decide) ?_
    exact j13 _ _ _ _ (by exact ((if_neg c5).trans rfl)) (Or.inl rfl) h hl
def f_X0_fairest_L9 (σ : MS × MS) : Nat → Int32 → Int32 → Int32 × Int32
  | 0, x1_9, x2_9 => (x1_9, x2_9)
  | n + 1, x1_9, x2_9 => if (2 : Int32) < x2_9 then ((x1_9, x2_9)) else ((let r16 := (f_X0_unfairOf σ x2_9); let r21 := (f_X0_unfairOf σ x1_9); if r21 ≤ r16 then (f_X0_fairest_L9 σ n x1_9 (x2_9 + (1 : Int32))) else (f_X0_fairest_L9 σ n x2_9 (x2_9 + (1 : Int32)))))
def f_X0_fairest (σ : MS × MS) : (MS × MS) × Int32 := (let σ2 := lsi σ 7 (0 : Int32); (let zL9 := f_X0_fairest_L9 σ2 (3) (0 : Int32) (1 : Int32); let x1_9e := zL9.1; let x2_9e := zL9.2; (σ2, x1_9e)))
set_option maxHeartbeats 4000000 in
set_option maxRecDepth 100000 in
theorem k_X0_fairest (l : Launch) (g : GL) (σ : MS × MS) (hlp : 0 ≤ (gi (ttb σ) 1).toInt ∧ (gi (ttb σ) 1).toInt ≤ 6) (hld : 0 ≤ (gi (ttb σ) 3).toInt ∧ (gi (ttb σ) 3).toInt ≤ 16 ∧ (gi (ttb σ) 3).toInt ≤ (g.1.2.1 50 : Int)) : Met l yX0_fairest (ws_ yX0_fairest cX0_fairest 3 (some .int)) ({ frames := 5, cells := 0, slots := 0, locals := 114 } : Room) (wPc (dL g) (g.2.2.1 99) σ []) (wQi (dL g) (f_X0_fairest σ).1 (f_X0_fairest σ).2 (fun u r => ((gi (ttb u) 1).toInt = (gi (ttb σ) 1).toInt) ∧ ((gi (ttb u) 3).toInt = (gi (ttb σ) 3).toInt))) 0 0 (dL g).2.2.2.1 := by
  refine met_W RX0 (by decide) rfl (Nat.le_of_ble_eq_true rfl) ?_
  intro p e s m args below meth c C hr hlocks h ls hl
  have hx := C.1.1
  have hb := C.1.2.1
  have hml := C.1.2.2.1
  have hown := C.1.2.2.2.1
  have hts := C.1.2.2.2.2
  have hl : lv_has ls 3 [(0, .ref (g.2.2.1 99))] := hl
  have hlpq : (gi (ttb σ) 1).toInt = (gi (ttb σ) 1).toInt := rfl
  have hldq : (gi (ttb σ) 3).toInt = (gi (ttb σ) 3).toInt := rfl
  have zl0 : (0 : Int32).toInt = 0 := rfl
  have zl1 : (1 : Int32).toInt = 1 := rfl
  have zl2 : (2 : Int32).toInt = 2 := rfl
  refine lv_aload_n hx hb dX0_fairest_0 rfl (lv_at hl 0 rfl) ?_
  refine lv_iconst (v := 0) hx hb dX0_fairest_1 (by decide) ?_
  refine L_p7 C h dX0_fairest_2 (fun σ2 H locs eσ2 h => ?_)
  have hNEW : (0 ≤ (gi (ttb σ2) 1).toInt ∧ (gi (ttb σ2) 1).toInt ≤ 6) ∧ (0 ≤ (gi (ttb σ2) 3).toInt ∧ (gi (ttb σ2) 3).toInt ≤ 16 ∧ (gi (ttb σ2) 3).toInt ≤ (g.1.2.1 50 : Int)) ∧ ((gi (ttb σ2) 1).toInt = (gi (ttb σ) 1).toInt) ∧ ((gi (ttb σ2) 3).toInt = (gi (ttb σ) 3).toInt) := ⟨(by rw [eσ2] <;> exact hlp), (by rw [eσ2] <;> exact hld), (by rw [eσ2] <;> exact hlpq), (by rw [eσ2] <;> exact hldq)⟩
  obtain ⟨hlp, hld, hlpq, hldq⟩ := hNEW
  refine lv_iconst (v := 0) hx hb dX0_fairest_5 (by decide) ?_
  refine lv_istore_n (lv' := [(1, .int (0 : Int32)), (0, .ref (g.2.2.1 99))]) hx hb dX0_fairest_6 rfl hl (by decide) rfl (fun ls hl => ?_)
  refine lv_iconst (v := 1) hx hb dX0_fairest_7 (by decide) ?_
  refine lv_istore_n (lv' := [(2, .int (1 : Int32)), (1, .int (0 : Int32)), (0, .ref (g.2.2.1 99))]) hx hb dX0_fairest_8 rfl hl (by decide) rfl (fun ls hl => ?_)
  have hL9 : ∀ (n : Nat) (x1_9 : Int32) (x2_9 : Int32) (H : Heap) (locs : List Loc) (ls : Array Slot), (1 ≤ x2_9.toInt ∧ x2_9.toInt ≤ 3) → (3 - x2_9.toInt).toNat < n → wH (dL g) σ2 s H locs → lv_has ls 3 [(0, .ref (g.2.2.1 99)), (1, .int x1_9), (2, .int x2_9)] → (∀ (x1_9' : Int32) (x2_9' : Int32) (H : Heap) (locs : List Loc) (ls : Array Slot), f_X0_fairest_L9 σ2 n x1_9 x2_9 = (x1_9', x2_9') → (1 ≤ x2_9'.toInt ∧ x2_9'.toInt ≤ 3) → wH (dL g) σ2 s H locs → lv_has ls 3 [(1, .int x1_9')] → W p l e ({ frames := 5, cells := 0, slots := 0, locals := 114 } : Room) s m args below meth c H locs 0 0 (MQ below (wQi (dL g) (f_X0_fairest σ).1 (f_X0_fairest σ).2 (fun u r => ((gi (ttb u) 1).toInt = (gi (ttb σ) 1).toInt) ∧ ((gi (ttb u) 3).toInt = (gi (ttb σ) 3).toInt))) args s 0 0 (dL g).2.2.2.1) (F0 m 35 ls [])) → W p l e ({ frames := 5, cells := 0, slots := 0, locals := 114 } : Room) s m args below meth c H locs 0 0 (MQ below (wQi (dL g) (f_X0_fairest σ).1 (f_X0_fairest σ).2 (fun u r => ((gi (ttb u) 1).toInt = (gi (ttb σ) 1).toInt) ∧ ((gi (ttb u) 3).toInt = (gi (ttb σ) 3).toInt))) args s 0 0 (dL g).2.2.2.1) (F0 m 9 ls []) := by
    intro n
    induction n with
    | zero =>
      intro x1_9 x2_9 H locs ls _ hm; exact absurd hm (Nat.not_lt_zero _)
    | succ n ih =>
      intro x1_9 x2_9 H locs ls hI9 hm h hl kk
      refine lv_iload_n hx hb dX0_fairest_9 rfl (lv_at hl 2 rfl) ?_
      refine lv_iconst (v := 2) hx hb dX0_fairest_10 (by decide) ?_
      refine lv_icmp_gt (tgt := 35) hx hb dX0_fairest_11 (by decide) (fun c11 => ?_) (fun c11 => ?_)
      · have i11 := c_lt c11
        exact kk x1_9 x2_9 _ _ _ (show f_X0_fairest_L9 σ2 (n + 1) x1_9 x2_9 = (x1_9, x2_9) from (by exact ((if_pos c11).trans rfl)))  (by first | assumption | omega) h (lv_sub hl [1] rfl)
      · have i11 := c_nlt c11
        refine lv_aload_n hx hb dX0_fairest_14 rfl (lv_at hl 0 rfl) ?_
        refine lv_iload_n hx hb dX0_fairest_15 rfl (lv_at hl 2 rfl) ?_
        refine w_calli (ci := 0) (q0 := 6) (As := [.int x2_9]) (rest := []) 1 (wXL g) C h (k_X0_unfairOf l g σ2 x2_9 (by first | assumption | omega) (by first | assumption | omega)) (lw_V q1080 q1082 qs44 q144 q1083) rfl rfl rfl rfl (by decide +kernel) ⟨Nat.le_of_ble_eq_true rfl, Nat.le_of_ble_eq_true rfl⟩ rfl hl.1 rfl (Nat.le_of_ble_eq_true rfl) ⟨Nat.le_of_ble_eq_true rfl, Nat.le_of_ble_eq_true rfl⟩ dX0_fairest_16 (fun r16 σ16 H locs eσ16 er16 hE16 h => ?_)
        rw [eσ16] at h
        clear hE16
        clear eσ16
        refine lv_aload_n hx hb dX0_fairest_19 rfl (lv_at hl 0 rfl) ?_
        refine lv_iload_n hx hb dX0_fairest_20 rfl (lv_at hl 1 rfl) ?_
        refine w_calli (ci := 0) (q0 := 6) (As := [.int x1_9]) (rest := [.int r16]) 1 (wXL g) C h (k_X0_unfairOf l g σ2 x1_9 (by first | assumption | omega) (by first | assumption | omega)) (lw_V q1080 q1082 qs44 q144 q1083) rfl rfl rfl rfl (by decide +kernel) ⟨Nat.le_of_ble_eq_true rfl, Nat.le_of_ble_eq_true rfl⟩ rfl hl.1 rfl (Nat.le_of_ble_eq_true rfl) ⟨Nat.le_of_ble_eq_true rfl, Nat.le_of_ble_eq_true rfl⟩ dX0_fairest_21 (fun r21 σ21 H locs eσ21 er21 hE21 h => ?_)
        rw [eσ21] at h
        clear hE21
        clear eσ21
        refine lv_icmp_ge (tgt := 29) hx hb dX0_fairest_24 (by decide) (fun c24 => ?_) (fun c24 => ?_)
        · have i24 := c_le c24
          refine lv_iinc (v := (x2_9 + (1 : Int32))) (lv' := [(2, .int (x2_9 + (1 : Int32))), (0, .ref (g.2.2.1 99)), (1, .int x1_9)]) hx hb dX0_fairest_29 hl (k := 2) rfl rfl (by decide) rfl (fun ls hl => ?_)
          refine lv_goto (tgt := 9) hx hb dX0_fairest_32 (by decide) ?_
          have tt2 : (x2_9 + (1 : Int32)).toInt = (x2_9.toInt + (1)) := (i_add (rfl : x2_9.toInt = x2_9.toInt) zl1 (by omega))
          exact ih x1_9 (x2_9 + (1 : Int32)) _ _ _  (by first | assumption | omega) (by omega) h (lv_sub hl [1, 2, 0] rfl) (fun x1_9' x2_9' H locs ls en hI h hl => kk x1_9' x2_9' H locs ls ((show f_X0_fairest_L9 σ2 (n + 1) x1_9 x2_9 = f_X0_fairest_L9 σ2 n x1_9 (x2_9 + (1 : Int32)) from (by have er16 := er16.symm; subst er16; have er21 := er21.symm; subst er21; exact ((if_neg c11).trans ((if_pos c24).trans rfl)))).trans en) hI h hl)
        · have i24 := c_nle c24
          refine lv_iload_n hx hb dX0_fairest_27 rfl (lv_at hl 2 rfl) ?_
          refine lv_istore_n (lv' := [(1, .int x2_9), (0, .ref (g.2.2.1 99)), (2, .int x2_9)]) hx hb dX0_fairest_28 rfl hl (by decide) rfl (fun ls hl => ?_)
          refine lv_iinc (v := (x2_9 + (1 : Int32))) (lv' := [(2, .int (x2_9 + (1 : Int32))), (1, .int x2_9), (0, .ref (g.2.2.1 99))]) hx hb dX0_fairest_29 hl (k := 2) rfl rfl (by decide) rfl (fun ls hl => ?_)
          refine lv_goto (tgt := 9) hx hb dX0_fairest_32 (by decide) ?_
          have tt2 : (x2_9 + (1 : Int32)).toInt = (x2_9.toInt + (1)) := (i_add (rfl : x2_9.toInt = x2_9.toInt) zl1 (by omega))
          exact ih x2_9 (x2_9 + (1 : Int32)) _ _ _  (by first | assumption | omega) (by omega) h (lv_sub hl [2, 1, 0] rfl) (fun x1_9' x2_9' H locs ls en hI h hl => kk x1_9' x2_9' H locs ls ((show f_X0_fairest_L9 σ2 (n + 1) x1_9 x2_9 = f_X0_fairest_L9 σ2 n x2_9 (x2_9 + (1 : Int32)) from (by have er16 := er16.symm; subst er16; have er21 := er21.symm; subst er21; exact ((if_neg c11).trans ((if_neg c24).trans rfl)))).trans en) hI h hl)
  refine hL9 (3) (0 : Int32) (1 : Int32) _ _ _  (by first | assumption | omega) (by omega) h (lv_sub hl [2, 1, 0] rfl) (fun x1_9e x2_9e H locs ls eL9 hI9 h hl => ?_)
  have ex1_9e : x1_9e = (f_X0_fairest_L9 σ2 (3) (0 : Int32) (1 : Int32)).1 := by rw [eL9]
  have ex2_9e : x2_9e = (f_X0_fairest_L9 σ2 (3) (0 : Int32) (1 : Int32)).2 := by rw [eL9]
  refine lv_iload_n hx hb dX0_fairest_35 rfl (lv_at hl 0 rfl) ?_
  have he : f_X0_fairest σ = (σ2, x1_9e) := (by have eσ2 := eσ2.symm; subst eσ2; have ex1_9e := ex1_9e.symm; subst ex1_9e; have ex2_9e := ex2_9e.symm; subst ex2_9e; exact rfl)
  exact w_reti (wXL g) C h hr hlocks (congrArg Prod.fst he) (congrArg Prod.snd he) ⟨hlpq, hldq⟩ dX0_fairest_36
def f_X0_dearer (σ : MS × MS) (p1 : Int32) (p2 : Int32) (p3 : Int32) : (MS × MS) × Int32 := (let r3 := (f_X0_isPerson σ p1); (let z28_ : Int32 := (if r3 = (0 : Int32) then ((1 : Int32)) else ((let r10 := (f_X0_isSplit p2); if r10 = (0 : Int32) then ((1 : Int32)) else ((let r17 := (f_X0_isSplit p3); if r17 = (0 : Int32) then ((1 : Int32)) else ((0 : Int32))))))); let t0_28 := z28_; (let σ28 := lsi σ 7 t0_28; if (gi (own σ28) 7) ≤ (0 : Int32) then ((let r48 := (f_X5_due (ttb σ28) p1 p2); let r57 := (f_X5_due (ttb σ28) p1 p3); (σ28, (r48 - r57)))) else ((σ28, (-1 : Int32))))))
set_option maxHeartbeats 4000000 in
set_option maxRecDepth 100000 in
theorem k_X0_dearer (l : Launch) (g : GL) (σ : MS × MS) (p1 : Int32) (p2 : Int32) (p3 : Int32) (hlp : 0 ≤ (gi (ttb σ) 1).toInt ∧ (gi (ttb σ) 1).toInt ≤ 6) (hld : 0 ≤ (gi (ttb σ) 3).toInt ∧ (gi (ttb σ) 3).toInt ≤ 16 ∧ (gi (ttb σ) 3).toInt ≤ (g.1.2.1 50 : Int)) : Met l yX0_dearer (ws_ yX0_dearer cX0_dearer 4 (some .int)) ({ frames := 4, cells := 0, slots := 0, locals := 91 } : Room) (wPc (dL g) (g.2.2.1 99) σ [.int p1, .int p2, .int p3]) (wQi (dL g) (f_X0_dearer σ p1 p2 p3).1 (f_X0_dearer σ p1 p2 p3).2 (fun u r => ((gi (ttb u) 1).toInt = (gi (ttb σ) 1).toInt) ∧ ((gi (ttb u) 3).toInt = (gi (ttb σ) 3).toInt))) 0 0 (dL g).2.2.2.1 := by
  refine met_W RX0 (by decide) rfl (Nat.le_of_ble_eq_true rfl) ?_
  intro p e s m args below meth c C hr hlocks h ls hl
  have hx := C.1.1
  have hb := C.1.2.1
  have hml := C.1.2.2.1
  have hown := C.1.2.2.2.1
  have hts := C.1.2.2.2.2
  have hl : lv_has ls 4 [(0, .ref (g.2.2.1 99)), (1, .int p1), (2, .int p2), (3, .int p3)] := hl
  have hlpq : (gi (ttb σ) 1).toInt = (gi (ttb σ) 1).toInt := rfl
  have hldq : (gi (ttb σ) 3).toInt = (gi (ttb σ) 3).toInt := rfl
  have zlm1 : (-1 : Int32).toInt = -1 := rfl
  have zl0 : (0 : Int32).toInt = 0 := rfl
  have zl1 : (1 : Int32).toInt = 1 := rfl
  refine lv_aload_n hx hb dX0_dearer_0 rfl (lv_at hl 0 rfl) ?_
  refine lv_aload_n hx hb dX0_dearer_1 rfl (lv_at hl 0 rfl) ?_
  refine lv_iload_n hx hb dX0_dearer_2 rfl (lv_at hl 1 rfl) ?_
  refine w_callz (ci := 0) (q0 := 6) (As := [.int p1]) (rest := [.ref (g.2.2.1 99)]) 1 (wXL g) C h (k_X0_isPerson l g σ p1 (by first | assumption | omega)) (lw_V q1024 q1026 qs41 q144 q1027) rfl rfl rfl rfl (by decide +kernel) ⟨Nat.le_of_ble_eq_true rfl, Nat.le_of_ble_eq_true rfl⟩ rfl hl.1 rfl (Nat.le_of_ble_eq_true rfl) ⟨Nat.le_of_ble_eq_true rfl, Nat.le_of_ble_eq_true rfl⟩ dX0_dearer_3 (fun r3 σ3 H locs eσ3 er3 br3 hE3 h => ?_)
  rw [eσ3] at h
  clear hE3
  clear eσ3
  have j28 : ∀ (t0_28 : Int32) (H : Heap) (locs : List Loc) (ls : Array Slot) (ej28 : (if r3 = (0 : Int32) then ((1 : Int32)) else ((let r10 := (f_X0_isSplit p2); if r10 = (0 : Int32) then ((1 : Int32)) else ((let r17 := (f_X0_isSplit p3); if r17 = (0 : Int32) then ((1 : Int32)) else ((0 : Int32))))))) = t0_28) (bt0_28 : t0_28 = 0 ∨ t0_28 = 1) (hI28 : (0 < t0_28.toInt) ∨ (0 ≤ p1.toInt ∧ p1.toInt < (gi (ttb σ) 1).toInt)) (h : wH (dL g) σ s H locs) (hl : lv_has ls 4 [(0, .ref (g.2.2.1 99)), (1, .int p1), (2, .int p2), (3, .int p3)]), W p l e ({ frames := 4, cells := 0, slots := 0, locals := 91 } : Room) s m args below meth c H locs 0 0 (MQ below (wQi (dL g) (f_X0_dearer σ p1 p2 p3).1 (f_X0_dearer σ p1 p2 p3).2 (fun u r => ((gi (ttb u) 1).toInt = (gi (ttb σ) 1).toInt) ∧ ((gi (ttb u) 3).toInt = (gi (ttb σ) 3).toInt))) args s 0 0 (dL g).2.2.2.1) (F0 m 28 ls [.int t0_28, .ref (g.2.2.1 99)]) := by
    intro t0_28 H locs ls ej28 bt0_28 hI28 h hl
    have et0_28 := ej28.symm
    refine L_p7 C h dX0_dearer_28 (fun σ28 H locs eσ28 h => ?_)
    have hNEW : (0 ≤ (gi (ttb σ28) 1).toInt ∧ (gi (ttb σ28) 1).toInt ≤ 6) ∧ (0 ≤ (gi (ttb σ28) 3).toInt ∧ (gi (ttb σ28) 3).toInt ≤ 16 ∧ (gi (ttb σ28) 3).toInt ≤ (g.1.2.1 50 : Int)) ∧ ((gi (ttb σ28) 1).toInt = (gi (ttb σ) 1).toInt) ∧ ((gi (ttb σ28) 3).toInt = (gi (ttb σ) 3).toInt) := ⟨(by rw [eσ28] <;> exact hlp), (by rw [eσ28] <;> exact hld), (by rw [eσ28] <;> exact hlpq), (by rw [eσ28] <;> exact hldq)⟩
    obtain ⟨hlp, hld, hlpq, hldq⟩ := hNEW
    have q7_28 : (gi (own σ28) 7).toInt = t0_28.toInt := by rw [eσ28]; rfl
    refine lv_aload_n hx hb dX0_dearer_31 rfl (lv_at hl 0 rfl) ?_
    refine L_g7 C h dX0_dearer_32 ?_
    refine lv_if_le (tgt := 42) hx hb dX0_dearer_35 (by decide) (fun c35 => ?_) (fun c35 => ?_)
    · have i35 := c_le c35
      refine lv_aload_n hx hb dX0_dearer_42 rfl (lv_at hl 0 rfl) ?_
      refine L_at (rest := []) C h ⟨Nat.le_of_ble_eq_true rfl, Nat.le_of_ble_eq_true rfl⟩ hl.1 (Nat.le_of_ble_eq_true rfl) ⟨Nat.le_of_ble_eq_true rfl, Nat.le_of_ble_eq_true rfl⟩ dX0_dearer_43 (fun H locs h => ?_)
      refine lv_iload_n hx hb dX0_dearer_46 rfl (lv_at hl 1 rfl) ?_
      refine lv_iload_n hx hb dX0_dearer_47 rfl (lv_at hl 2 rfl) ?_
      refine L_tcalli (As := [.int p1, .int p2]) (rest := []) 2 C h (k_X5_due l g.1 (ttb σ28) p1 p2 (by first | assumption | omega) (by first | assumption | omega) (by first | assumption | omega)) (lw_V q1065 q1066 q1067 q151 q1068) rfl rfl (by decide +kernel) ⟨Nat.le_of_ble_eq_true rfl, Nat.le_of_ble_eq_true rfl⟩ rfl hl.1 rfl (Nat.le_of_ble_eq_true rfl) ⟨Nat.le_of_ble_eq_true rfl, Nat.le_of_ble_eq_true rfl⟩ dX0_dearer_48 (fun r48 σ48 H locs eσ48 er48 hE48 h => ?_)
      have h : wH (dL g) σ28 s H locs := by rw [eσ48] at h; exact h
      clear hE48
      clear eσ48
      refine lv_aload_n hx hb dX0_dearer_51 rfl (lv_at hl 0 rfl) ?_
      refine L_at (rest := [.int r48]) C h ⟨Nat.le_of_ble_eq_true rfl, Nat.le_of_ble_eq_true rfl⟩ hl.1 (Nat.le_of_ble_eq_true rfl) ⟨Nat.le_of_ble_eq_true rfl, Nat.le_of_ble_eq_true rfl⟩ dX0_dearer_52 (fun H locs h => ?_)
      refine lv_iload_n hx hb dX0_dearer_55 rfl (lv_at hl 1 rfl) ?_
      refine lv_iload_n hx hb dX0_dearer_56 rfl (lv_at hl 3 rfl) ?_
      refine L_tcalli (As := [.int p1, .int p3]) (rest := [.int r48]) 2 C h (k_X5_due l g.1 (ttb σ28) p1 p3 (by first | assumption | omega) (by first | assumption | omega) (by first | assumption | omega)) (lw_V q1065 q1066 q1067 q151 q1068) rfl rfl (by decide +kernel) ⟨Nat.le_of_ble_eq_true rfl, Nat.le_of_ble_eq_true rfl⟩ rfl hl.1 rfl (Nat.le_of_ble_eq_true rfl) ⟨Nat.le_of_ble_eq_true rfl, Nat.le_of_ble_eq_true rfl⟩ dX0_dearer_57 (fun r57 σ57 H locs eσ57 er57 hE57 h => ?_)
      have h : wH (dL g) σ28 s H locs := by rw [eσ57] at h; exact h
      clear hE57
      clear eσ57
      refine lv_isub hx hb dX0_dearer_60 ?_
      have he : f_X0_dearer σ p1 p2 p3 = (σ28, (r48 - r57)) := (by have er3 := er3.symm; subst er3; have et0_28 := et0_28.symm; subst et0_28; have eσ28 := eσ28.symm; subst eσ28; have er48 := er48.symm; subst er48; have er57 := er57.symm; subst er57; exact ((if_pos c35).trans rfl))
      exact w_reti (wXL g) C h hr hlocks (congrArg Prod.fst he) (congrArg Prod.snd he) ⟨hlpq, hldq⟩ dX0_dearer_61
    · have i35 := c_nle c35
      refine lv_iconst (v := -1) hx hb dX0_dearer_38 (by decide) ?_
      refine lv_goto (tgt := 61) hx hb dX0_dearer_39 (by decide) ?_
      have he : f_X0_dearer σ p1 p2 p3 = (σ28, (-1 : Int32)) := (by have er3 := er3.symm; subst er3; have et0_28 := et0_28.symm; subst et0_28; have eσ28 := eσ28.symm; subst eσ28; exact ((if_neg c35).trans rfl))
      exact w_reti (wXL g) C h hr hlocks (congrArg Prod.fst he) (congrArg Prod.snd he) ⟨hlpq, hldq⟩ dX0_dearer_61
  refine lv_if_eq (tgt := 27) hx hb dX0_dearer_6 (by decide) (fun c6 => ?_) (fun c6 => ?_)
  · have i6 := c_eq c6
    refine lv_iconst (v := 1) hx hb dX0_dearer_27 (by decide) ?_
    exact j28 _ _ _ _ (by exact ((if_pos c6).trans rfl)) (Or.inr rfl) (by first | assumption | omega) h hl
  · have i6 := c_ne c6
    have okr3 := lIsPerson_ok hlp er3 c6
    refine lv_iload_n hx hb dX0_dearer_9 rfl (lv_at hl 2 rfl) ?_
    refine s_callz (As := [.int p2]) (rest := [.ref (g.2.2.1 99)]) 1 C.1 (k_X0_isSplit l p2) (lw_S q1061 q1062 q144 q1063) rfl rfl (by decide +kernel) ⟨Nat.le_of_ble_eq_true rfl, Nat.le_of_ble_eq_true rfl⟩ rfl hl.1 rfl (Nat.le_of_ble_eq_true rfl) ⟨Nat.le_of_ble_eq_true rfl, Nat.le_of_ble_eq_true rfl⟩ dX0_dearer_10 h.2.2.1 (fun r10 H locs er10 br10 hz1 hk1 hS1 => ?_)
    have h := h.same hk1 hS1
    clear hz1 hk1 hS1
    refine lv_if_eq (tgt := 27) hx hb dX0_dearer_13 (by decide) (fun c13 => ?_) (fun c13 => ?_)
    · have i13 := c_eq c13
      refine lv_iconst (v := 1) hx hb dX0_dearer_27 (by decide) ?_
      exact j28 _ _ _ _ (by have er10 := er10.symm; subst er10; exact ((if_neg c6).trans ((if_pos c13).trans rfl))) (Or.inr rfl) (by first | assumption | omega) h hl
    · have i13 := c_ne c13
      refine lv_iload_n hx hb dX0_dearer_16 rfl (lv_at hl 3 rfl) ?_
      refine s_callz (As := [.int p3]) (rest := [.ref (g.2.2.1 99)]) 1 C.1 (k_X0_isSplit l p3) (lw_S q1061 q1062 q144 q1063) rfl rfl (by decide +kernel) ⟨Nat.le_of_ble_eq_true rfl, Nat.le_of_ble_eq_true rfl⟩ rfl hl.1 rfl (Nat.le_of_ble_eq_true rfl) ⟨Nat.le_of_ble_eq_true rfl, Nat.le_of_ble_eq_true rfl⟩ dX0_dearer_17 h.2.2.1 (fun r17 H locs er17 br17 hz1 hk1 hS1 => ?_)
      have h := h.same hk1 hS1
      clear hz1 hk1 hS1
      refine lv_if_eq (tgt := 27) hx hb dX0_dearer_20 (by decide) (fun c20 => ?_) (fun c20 => ?_)
      · have i20 := c_eq c20
        refine lv_iconst (v := 1) hx hb dX0_dearer_27 (by decide) ?_
        exact j28 _ _ _ _ (by have er10 := er10.symm; subst er10; have er17 := er17.symm; subst er17; exact ((if_neg c6).trans ((if_neg c13).trans ((if_pos c20).trans rfl)))) (Or.inr rfl) (by first | assumption | omega) h hl
      · have i20 := c_ne c20
        refine lv_iconst (v := 0) hx hb dX0_dearer_23 (by decide) ?_
        refine lv_goto (tgt := 28) hx hb dX0_dearer_24 (by decide) ?_
        exact j28 _ _ _ _ (by have er10 := er10.symm; subst er10; have er17 := er17.symm; subst er17; exact ((if_neg c6).trans ((if_neg c13).trans ((if_neg c20).trans rfl)))) (Or.inl rfl) (by first | assumption | omega) h hl
def f_X0_hardest_L29 (σ : MS × MS) (y1_29 : Int32) : Nat → Int32 → Int32 → Int32 × Int32
  | 0, x2_29, x3_29 => (x2_29, x3_29)
  | n + 1, x2_29, x3_29 => if (gi (ttb σ) 1) ≤ x3_29 then ((x2_29, x3_29)) else (if x2_29 < (0 : Int32) then (f_X0_hardest_L29 σ y1_29 n x3_29 (x3_29 + (1 : Int32))) else ((let r50 := (f_X5_due (ttb σ) x3_29 y1_29); let r59 := (f_X5_due (ttb σ) x2_29 y1_29); if r50 ≤ r59 then (f_X0_hardest_L29 σ y1_29 n x2_29 (x3_29 + (1 : Int32))) else (f_X0_hardest_L29 σ y1_29 n x3_29 (x3_29 + (1 : Int32))))))
def f_X0_hardest (σ : MS × MS) (p1 : Int32) : (MS × MS) × Int32 := (let r2 := (f_X0_isSplit p1); (let z13_ : Int32 := (if r2 = (0 : Int32) then ((1 : Int32)) else ((0 : Int32))); let t0_13 := z13_; (let σ13 := lsi σ 7 t0_13; if (gi (own σ13) 7) ≤ (0 : Int32) then ((let zL29 := f_X0_hardest_L29 σ13 p1 (7) (-1 : Int32) (0 : Int32); let x2_29e := zL29.1; let x3_29e := zL29.2; (let z75 := (f_X0_answer σ13 x2_29e); let σ75 := z75.1; let r75 := z75.2; (σ75, r75)))) else ((σ13, (-1 : Int32))))))
set_option maxHeartbeats 4000000 in
set_option maxRecDepth 100000 in
theorem k_X0_hardest (l : Launch) (g : GL) (σ : MS × MS) (p1 : Int32) (hlp : 0 ≤ (gi (ttb σ) 1).toInt ∧ (gi (ttb σ) 1).toInt ≤ 6) (hld : 0 ≤ (gi (ttb σ) 3).toInt ∧ (gi (ttb σ) 3).toInt ≤ 16 ∧ (gi (ttb σ) 3).toInt ≤ (g.1.2.1 50 : Int)) : Met l yX0_hardest (ws_ yX0_hardest cX0_hardest 4 (some .int)) ({ frames := 4, cells := 0, slots := 0, locals := 91 } : Room) (wPc (dL g) (g.2.2.1 99) σ [.int p1]) (wQi (dL g) (f_X0_hardest σ p1).1 (f_X0_hardest σ p1).2 (fun u r => ((gi (ttb u) 1).toInt = (gi (ttb σ) 1).toInt) ∧ ((gi (ttb u) 3).toInt = (gi (ttb σ) 3).toInt))) 0 0 (dL g).2.2.2.1 := by
  refine met_W RX0 (by decide) rfl (Nat.le_of_ble_eq_true rfl) ?_
  intro p e s m args below meth c C hr hlocks h ls hl
  have hx := C.1.1
  have hb := C.1.2.1
  have hml := C.1.2.2.1
  have hown := C.1.2.2.2.1
  have hts := C.1.2.2.2.2
  have hl : lv_has ls 4 [(0, .ref (g.2.2.1 99)), (1, .int p1)] := hl
  have hlpq : (gi (ttb σ) 1).toInt = (gi (ttb σ) 1).toInt := rfl
  have hldq : (gi (ttb σ) 3).toInt = (gi (ttb σ) 3).toInt := rfl
  have zlm1 : (-1 : Int32).toInt = -1 := rfl
  have zl0 : (0 : Int32).toInt = 0 := rfl
  have zl1 : (1 : Int32).toInt = 1 := rfl
  refine lv_aload_n hx hb dX0_hardest_0 rfl (lv_at hl 0 rfl) ?_
  refine lv_iload_n hx hb dX0_hardest_1 rfl (lv_at hl 1 rfl) ?_
  refine s_callz (As := [.int p1]) (rest := [.ref (g.2.2.1 99)]) 1 C.1 (k_X0_isSplit l p1) (lw_S q1061 q1062 q144 q1063) rfl rfl (by decide +kernel) ⟨Nat.le_of_ble_eq_true rfl, Nat.le_of_ble_eq_true rfl⟩ rfl hl.1 rfl (Nat.le_of_ble_eq_true rfl) ⟨Nat.le_of_ble_eq_true rfl, Nat.le_of_ble_eq_true rfl⟩ dX0_hardest_2 h.2.2.1 (fun r2 H locs er2 br2 hz1 hk1 hS1 => ?_)
  have h := h.same hk1 hS1
  clear hz1 hk1 hS1
  have j13 : ∀ (t0_13 : Int32) (H : Heap) (locs : List Loc) (ls : Array Slot) (ej13 : (if r2 = (0 : Int32) then ((1 : Int32)) else ((0 : Int32))) = t0_13) (bt0_13 : t0_13 = 0 ∨ t0_13 = 1) (h : wH (dL g) σ s H locs) (hl : lv_has ls 4 [(0, .ref (g.2.2.1 99)), (1, .int p1)]), W p l e ({ frames := 4, cells := 0, slots := 0, locals := 91 } : Room) s m args below meth c H locs 0 0 (MQ below (wQi (dL g) (f_X0_hardest σ p1).1 (f_X0_hardest σ p1).2 (fun u r => ((gi (ttb u) 1).toInt = (gi (ttb σ) 1).toInt) ∧ ((gi (ttb u) 3).toInt = (gi (ttb σ) 3).toInt))) args s 0 0 (dL g).2.2.2.1) (F0 m 13 ls [.int t0_13, .ref (g.2.2.1 99)]) := by
    intro t0_13 H locs ls ej13 bt0_13 h hl
    have et0_13 := ej13.symm
    refine L_p7 C h dX0_hardest_13 (fun σ13 H locs eσ13 h => ?_)
    have hNEW : (0 ≤ (gi (ttb σ13) 1).toInt ∧ (gi (ttb σ13) 1).toInt ≤ 6) ∧ (0 ≤ (gi (ttb σ13) 3).toInt ∧ (gi (ttb σ13) 3).toInt ≤ 16 ∧ (gi (ttb σ13) 3).toInt ≤ (g.1.2.1 50 : Int)) ∧ ((gi (ttb σ13) 1).toInt = (gi (ttb σ) 1).toInt) ∧ ((gi (ttb σ13) 3).toInt = (gi (ttb σ) 3).toInt) := ⟨(by rw [eσ13] <;> exact hlp), (by rw [eσ13] <;> exact hld), (by rw [eσ13] <;> exact hlpq), (by rw [eσ13] <;> exact hldq)⟩
    obtain ⟨hlp, hld, hlpq, hldq⟩ := hNEW
    have q7_13 : (gi (own σ13) 7).toInt = t0_13.toInt := by rw [eσ13]; rfl
    refine lv_aload_n hx hb dX0_hardest_16 rfl (lv_at hl 0 rfl) ?_
    refine L_g7 C h dX0_hardest_17 ?_
    refine lv_if_le (tgt := 25) hx hb dX0_hardest_20 (by decide) (fun c20 => ?_) (fun c20 => ?_)
    · have i20 := c_le c20
      refine lv_iconst (v := -1) hx hb dX0_hardest_25 (by decide) ?_
      refine lv_istore_n (lv' := [(2, .int (-1 : Int32)), (0, .ref (g.2.2.1 99)), (1, .int p1)]) hx hb dX0_hardest_26 rfl hl (by decide) rfl (fun ls hl => ?_)
      refine lv_iconst (v := 0) hx hb dX0_hardest_27 (by decide) ?_
      refine lv_istore_n (lv' := [(3, .int (0 : Int32)), (2, .int (-1 : Int32)), (0, .ref (g.2.2.1 99)), (1, .int p1)]) hx hb dX0_hardest_28 rfl hl (by decide) rfl (fun ls hl => ?_)
      have hL29 : ∀ (n : Nat) (x2_29 : Int32) (x3_29 : Int32) (H : Heap) (locs : List Loc) (ls : Array Slot), (0 ≤ x3_29.toInt ∧ x3_29.toInt ≤ (gi (ttb σ13) 1).toInt ∧ -1 ≤ x2_29.toInt ∧ x2_29.toInt < x3_29.toInt) → ((gi (ttb σ13) 1).toInt - x3_29.toInt).toNat < n → wH (dL g) σ13 s H locs → lv_has ls 4 [(0, .ref (g.2.2.1 99)), (1, .int p1), (2, .int x2_29), (3, .int x3_29)] → (∀ (x2_29' : Int32) (x3_29' : Int32) (H : Heap) (locs : List Loc) (ls : Array Slot), f_X0_hardest_L29 σ13 p1 n x2_29 x3_29 = (x2_29', x3_29') → (0 ≤ x3_29'.toInt ∧ x3_29'.toInt ≤ (gi (ttb σ13) 1).toInt ∧ -1 ≤ x2_29'.toInt ∧ x2_29'.toInt < x3_29'.toInt) → wH (dL g) σ13 s H locs → lv_has ls 4 [(0, .ref (g.2.2.1 99)), (2, .int x2_29')] → W p l e ({ frames := 4, cells := 0, slots := 0, locals := 91 } : Room) s m args below meth c H locs 0 0 (MQ below (wQi (dL g) (f_X0_hardest σ p1).1 (f_X0_hardest σ p1).2 (fun u r => ((gi (ttb u) 1).toInt = (gi (ttb σ) 1).toInt) ∧ ((gi (ttb u) 3).toInt = (gi (ttb σ) 3).toInt))) args s 0 0 (dL g).2.2.2.1) (F0 m 73 ls [])) → W p l e ({ frames := 4, cells := 0, slots := 0, locals := 91 } : Room) s m args below meth c H locs 0 0 (MQ below (wQi (dL g) (f_X0_hardest σ p1).1 (f_X0_hardest σ p1).2 (fun u r => ((gi (ttb u) 1).toInt = (gi (ttb σ) 1).toInt) ∧ ((gi (ttb u) 3).toInt = (gi (ttb σ) 3).toInt))) args s 0 0 (dL g).2.2.2.1) (F0 m 29 ls []) := by
        intro n
        induction n with
        | zero =>
          intro x2_29 x3_29 H locs ls _ hm; exact absurd hm (Nat.not_lt_zero _)
        | succ n ih =>
          intro x2_29 x3_29 H locs ls hI29 hm h hl kk
          refine lv_iload_n hx hb dX0_hardest_29 rfl (lv_at hl 3 rfl) ?_
          refine lv_aload_n hx hb dX0_hardest_30 rfl (lv_at hl 0 rfl) ?_
          refine L_at (rest := [.int x3_29]) C h ⟨Nat.le_of_ble_eq_true rfl, Nat.le_of_ble_eq_true rfl⟩ hl.1 (Nat.le_of_ble_eq_true rfl) ⟨Nat.le_of_ble_eq_true rfl, Nat.le_of_ble_eq_true rfl⟩ dX0_hardest_31 (fun H locs h => ?_)
          refine L_t1 C h dX0_hardest_34 ?_
          refine lv_icmp_ge (tgt := 73) hx hb dX0_hardest_37 (by decide) (fun c37 => ?_) (fun c37 => ?_)
          · have i37 := c_le c37
            exact kk x2_29 x3_29 _ _ _ (show f_X0_hardest_L29 σ13 p1 (n + 1) x2_29 x3_29 = (x2_29, x3_29) from (by exact ((if_pos c37).trans rfl)))  (by first | assumption | omega) h (lv_sub hl [0, 2] rfl)
          · have i37 := c_nle c37
            refine lv_iload_n hx hb dX0_hardest_40 rfl (lv_at hl 2 rfl) ?_
            refine lv_if_lt (tgt := 65) hx hb dX0_hardest_41 (by decide) (fun c41 => ?_) (fun c41 => ?_)
            · have i41 := c_lt c41
              refine lv_iload_n hx hb dX0_hardest_65 rfl (lv_at hl 3 rfl) ?_
              refine lv_istore_n (lv' := [(2, .int x3_29), (0, .ref (g.2.2.1 99)), (1, .int p1), (3, .int x3_29)]) hx hb dX0_hardest_66 rfl hl (by decide) rfl (fun ls hl => ?_)
              refine lv_iinc (v := (x3_29 + (1 : Int32))) (lv' := [(3, .int (x3_29 + (1 : Int32))), (2, .int x3_29), (0, .ref (g.2.2.1 99)), (1, .int p1)]) hx hb dX0_hardest_67 hl (k := 3) rfl rfl (by decide) rfl (fun ls hl => ?_)
              refine lv_goto (tgt := 29) hx hb dX0_hardest_70 (by decide) ?_
              have tt3 : (x3_29 + (1 : Int32)).toInt = (x3_29.toInt + (1)) := (i_add (rfl : x3_29.toInt = x3_29.toInt) zl1 (by omega))
              exact ih x3_29 (x3_29 + (1 : Int32)) _ _ _  (by first | assumption | omega) (by omega) h (lv_sub hl [2, 3, 1, 0] rfl) (fun x2_29' x3_29' H locs ls en hI h hl => kk x2_29' x3_29' H locs ls ((show f_X0_hardest_L29 σ13 p1 (n + 1) x2_29 x3_29 = f_X0_hardest_L29 σ13 p1 n x3_29 (x3_29 + (1 : Int32)) from (by exact ((if_neg c37).trans ((if_pos c41).trans rfl)))).trans en) hI h hl)
            · have i41 := c_nlt c41
              refine lv_aload_n hx hb dX0_hardest_44 rfl (lv_at hl 0 rfl) ?_
              refine L_at (rest := []) C h ⟨Nat.le_of_ble_eq_true rfl, Nat.le_of_ble_eq_true rfl⟩ hl.1 (Nat.le_of_ble_eq_true rfl) ⟨Nat.le_of_ble_eq_true rfl, Nat.le_of_ble_eq_true rfl⟩ dX0_hardest_45 (fun H locs h => ?_)
              refine lv_iload_n hx hb dX0_hardest_48 rfl (lv_at hl 3 rfl) ?_
              refine lv_iload_n hx hb dX0_hardest_49 rfl (lv_at hl 1 rfl) ?_
              refine L_tcalli (As := [.int x3_29, .int p1]) (rest := []) 2 C h (k_X5_due l g.1 (ttb σ13) x3_29 p1 (by first | assumption | omega) (by first | assumption | omega) (by first | assumption | omega)) (lw_V q1065 q1066 q1067 q151 q1068) rfl rfl (by decide +kernel) ⟨Nat.le_of_ble_eq_true rfl, Nat.le_of_ble_eq_true rfl⟩ rfl hl.1 rfl (Nat.le_of_ble_eq_true rfl) ⟨Nat.le_of_ble_eq_true rfl, Nat.le_of_ble_eq_true rfl⟩ dX0_hardest_50 (fun r50 σ50 H locs eσ50 er50 hE50 h => ?_)
              have h : wH (dL g) σ13 s H locs := by rw [eσ50] at h; exact h
              clear hE50
              clear eσ50
              refine lv_aload_n hx hb dX0_hardest_53 rfl (lv_at hl 0 rfl) ?_
              refine L_at (rest := [.int r50]) C h ⟨Nat.le_of_ble_eq_true rfl, Nat.le_of_ble_eq_true rfl⟩ hl.1 (Nat.le_of_ble_eq_true rfl) ⟨Nat.le_of_ble_eq_true rfl, Nat.le_of_ble_eq_true rfl⟩ dX0_hardest_54 (fun H locs h => ?_)
              refine lv_iload_n hx hb dX0_hardest_57 rfl (lv_at hl 2 rfl) ?_
              refine lv_iload_n hx hb dX0_hardest_58 rfl (lv_at hl 1 rfl) ?_
              refine L_tcalli (As := [.int x2_29, .int p1]) (rest := [.int r50]) 2 C h (k_X5_due l g.1 (ttb σ13) x2_29 p1 (by first | assumption | omega) (by first | assumption | omega) (by first | assumption | omega)) (lw_V q1065 q1066 q1067 q151 q1068) rfl rfl (by decide +kernel) ⟨Nat.le_of_ble_eq_true rfl, Nat.le_of_ble_eq_true rfl⟩ rfl hl.1 rfl (Nat.le_of_ble_eq_true rfl) ⟨Nat.le_of_ble_eq_true rfl, Nat.le_of_ble_eq_true rfl⟩ dX0_hardest_59 (fun r59 σ59 H locs eσ59 er59 hE59 h => ?_)
              have h : wH (dL g) σ13 s H locs := by rw [eσ59] at h; exact h
              clear hE59
              clear eσ59
              refine lv_icmp_le (tgt := 67) hx hb dX0_hardest_62 (by decide) (fun c62 => ?_) (fun c62 => ?_)
              · have i62 := c_le c62
                refine lv_iinc (v := (x3_29 + (1 : Int32))) (lv' := [(3, .int (x3_29 + (1 : Int32))), (0, .ref (g.2.2.1 99)), (1, .int p1), (2, .int x2_29)]) hx hb dX0_hardest_67 hl (k := 3) rfl rfl (by decide) rfl (fun ls hl => ?_)
                refine lv_goto (tgt := 29) hx hb dX0_hardest_70 (by decide) ?_
                have tt3 : (x3_29 + (1 : Int32)).toInt = (x3_29.toInt + (1)) := (i_add (rfl : x3_29.toInt = x3_29.toInt) zl1 (by omega))
                exact ih x2_29 (x3_29 + (1 : Int32)) _ _ _  (by first | assumption | omega) (by omega) h (lv_sub hl [1, 2, 3, 0] rfl) (fun x2_29' x3_29' H locs ls en hI h hl => kk x2_29' x3_29' H locs ls ((show f_X0_hardest_L29 σ13 p1 (n + 1) x2_29 x3_29 = f_X0_hardest_L29 σ13 p1 n x2_29 (x3_29 + (1 : Int32)) from (by have er50 := er50.symm; subst er50; have er59 := er59.symm; subst er59; exact ((if_neg c37).trans ((if_neg c41).trans ((if_pos c62).trans rfl))))).trans en) hI h hl)
              · have i62 := c_nle c62
                refine lv_iload_n hx hb dX0_hardest_65 rfl (lv_at hl 3 rfl) ?_
                refine lv_istore_n (lv' := [(2, .int x3_29), (0, .ref (g.2.2.1 99)), (1, .int p1), (3, .int x3_29)]) hx hb dX0_hardest_66 rfl hl (by decide) rfl (fun ls hl => ?_)
                refine lv_iinc (v := (x3_29 + (1 : Int32))) (lv' := [(3, .int (x3_29 + (1 : Int32))), (2, .int x3_29), (0, .ref (g.2.2.1 99)), (1, .int p1)]) hx hb dX0_hardest_67 hl (k := 3) rfl rfl (by decide) rfl (fun ls hl => ?_)
                refine lv_goto (tgt := 29) hx hb dX0_hardest_70 (by decide) ?_
                have tt3 : (x3_29 + (1 : Int32)).toInt = (x3_29.toInt + (1)) := (i_add (rfl : x3_29.toInt = x3_29.toInt) zl1 (by omega))
                exact ih x3_29 (x3_29 + (1 : Int32)) _ _ _  (by first | assumption | omega) (by omega) h (lv_sub hl [2, 3, 1, 0] rfl) (fun x2_29' x3_29' H locs ls en hI h hl => kk x2_29' x3_29' H locs ls ((show f_X0_hardest_L29 σ13 p1 (n + 1) x2_29 x3_29 = f_X0_hardest_L29 σ13 p1 n x3_29 (x3_29 + (1 : Int32)) from (by have er50 := er50.symm; subst er50; have er59 := er59.symm; subst er59; exact ((if_neg c37).trans ((if_neg c41).trans ((if_neg c62).trans rfl))))).trans en) hI h hl)
      refine hL29 (7) (-1 : Int32) (0 : Int32) _ _ _  (by first | assumption | omega) (by omega) h (lv_sub hl [2, 3, 1, 0] rfl) (fun x2_29e x3_29e H locs ls eL29 hI29 h hl => ?_)
      have ex2_29e : x2_29e = (f_X0_hardest_L29 σ13 p1 (7) (-1 : Int32) (0 : Int32)).1 := by rw [eL29]
      have ex3_29e : x3_29e = (f_X0_hardest_L29 σ13 p1 (7) (-1 : Int32) (0 : Int32)).2 := by rw [eL29]
      refine lv_aload_n hx hb dX0_hardest_73 rfl (lv_at hl 0 rfl) ?_
      refine lv_iload_n hx hb dX0_hardest_74 rfl (lv_at hl 1 rfl) ?_
      refine w_calli (ci := 0) (q0 := 6) (As := [.int x2_29e]) (rest := []) 1 (wXL g) C h (k_X0_answer l g σ13 x2_29e) (lw_V q1033 q1035 qs43 q144 q1036) rfl rfl rfl rfl (by decide +kernel) ⟨Nat.le_of_ble_eq_true rfl, Nat.le_of_ble_eq_true rfl⟩ rfl hl.1 rfl (Nat.le_of_ble_eq_true rfl) ⟨Nat.le_of_ble_eq_true rfl, Nat.le_of_ble_eq_true rfl⟩ dX0_hardest_75 (fun r75 σ75 H locs eσ75 er75 hE75 h => ?_)
      clear hE75
      have hNEW : (0 ≤ (gi (ttb σ75) 1).toInt ∧ (gi (ttb σ75) 1).toInt ≤ 6) ∧ (0 ≤ (gi (ttb σ75) 3).toInt ∧ (gi (ttb σ75) 3).toInt ≤ 16 ∧ (gi (ttb σ75) 3).toInt ≤ (g.1.2.1 50 : Int)) ∧ ((gi (ttb σ75) 1).toInt = (gi (ttb σ) 1).toInt) ∧ ((gi (ttb σ75) 3).toInt = (gi (ttb σ) 3).toInt) := ⟨(by rw [eσ75, lanswer_s] <;> exact hlp), (by rw [eσ75, lanswer_s] <;> exact hld), (by rw [eσ75, lanswer_s] <;> exact hlpq), (by rw [eσ75, lanswer_s] <;> exact hldq)⟩
      obtain ⟨hlp, hld, hlpq, hldq⟩ := hNEW
      have he : f_X0_hardest σ p1 = (σ75, r75) := (by have er2 := er2.symm; subst er2; have et0_13 := et0_13.symm; subst et0_13; have eσ13 := eσ13.symm; subst eσ13; have ex2_29e := ex2_29e.symm; subst ex2_29e; have ex3_29e := ex3_29e.symm; subst ex3_29e; have eσ75 := eσ75.symm; subst eσ75; have er75 := er75.symm; subst er75; exact ((if_pos c20).trans rfl))
      exact w_reti (wXL g) C h hr hlocks (congrArg Prod.fst he) (congrArg Prod.snd he) ⟨hlpq, hldq⟩ dX0_hardest_78
    · have i20 := c_nle c20
      refine lv_iconst (v := -1) hx hb dX0_hardest_23 (by decide) ?_
      have he : f_X0_hardest σ p1 = (σ13, (-1 : Int32)) := (by have er2 := er2.symm; subst er2; have et0_13 := et0_13.symm; subst et0_13; have eσ13 := eσ13.symm; subst eσ13; exact ((if_neg c20).trans rfl))
      exact w_reti (wXL g) C h hr hlocks (congrArg Prod.fst he) (congrArg Prod.snd he) ⟨hlpq, hldq⟩ dX0_hardest_24
  refine lv_if_eq (tgt := 12) hx hb dX0_hardest_5 (by decide) (fun c5 => ?_) (fun c5 => ?_)
  · have i5 := c_eq c5
    refine lv_iconst (v := 1) hx hb dX0_hardest_12 (by decide) ?_
    exact j13 _ _ _ _ (by exact ((if_pos c5).trans rfl)) (Or.inr rfl) h hl
  · have i5 := c_ne c5
    refine lv_iconst (v := 0) hx hb dX0_hardest_8 (by decide) ?_
    refine lv_goto (tgt := 13) hx hb dX0_hardest_9 (by decide) ?_
    exact j13 _ _ _ _ (by exact ((if_neg c5).trans rfl)) (Or.inl rfl) h hl
def f_X0_split (σ : MS × MS) (p1 : Int32) : (MS × MS) × Int32 := (let r2 := (f_X0_isSplit p1); (let z13_ : Int32 := (if r2 = (0 : Int32) then ((1 : Int32)) else ((0 : Int32))); let t0_13 := z13_; (let σ13 := lsi σ 7 t0_13; (let jj31 := (fun (σJ31 : (MS × MS)) => if (gi (own σJ31) 7) = (0 : Int32) then ((σJ31, (1 : Int32))) else ((σJ31, (0 : Int32)))); if (gi (own σ13) 7) = (0 : Int32) then ((let σ28 := tsi σ13 4 p1; jj31 σ28)) else (jj31 σ13)))))
set_option maxHeartbeats 4000000 in
set_option maxRecDepth 100000 in
theorem k_X0_split (l : Launch) (g : GL) (σ : MS × MS) (p1 : Int32) (hlp : 0 ≤ (gi (ttb σ) 1).toInt ∧ (gi (ttb σ) 1).toInt ≤ 6) (hld : 0 ≤ (gi (ttb σ) 3).toInt ∧ (gi (ttb σ) 3).toInt ≤ 16 ∧ (gi (ttb σ) 3).toInt ≤ (g.1.2.1 50 : Int)) : Met l yX0_split (ws_ yX0_split cX0_split 2 (some .boolean)) ({ frames := 2, cells := 0, slots := 0, locals := 45 } : Room) (wPc (dL g) (g.2.2.1 99) σ [.int p1]) (wQz (dL g) (f_X0_split σ p1).1 (f_X0_split σ p1).2 (fun u r => ((gi (ttb u) 1).toInt = (gi (ttb σ) 1).toInt) ∧ ((gi (ttb u) 3).toInt = (gi (ttb σ) 3).toInt))) 0 0 (dL g).2.2.2.1 := by
  refine met_W RX0 (by decide) rfl (Nat.le_of_ble_eq_true rfl) ?_
  intro p e s m args below meth c C hr hlocks h ls hl
  have hx := C.1.1
  have hb := C.1.2.1
  have hml := C.1.2.2.1
  have hown := C.1.2.2.2.1
  have hts := C.1.2.2.2.2
  have hl : lv_has ls 2 [(0, .ref (g.2.2.1 99)), (1, .int p1)] := hl
  have hlpq : (gi (ttb σ) 1).toInt = (gi (ttb σ) 1).toInt := rfl
  have hldq : (gi (ttb σ) 3).toInt = (gi (ttb σ) 3).toInt := rfl
  have zl0 : (0 : Int32).toInt = 0 := rfl
  have zl1 : (1 : Int32).toInt = 1 := rfl
  refine lv_aload_n hx hb dX0_split_0 rfl (lv_at hl 0 rfl) ?_
  refine lv_iload_n hx hb dX0_split_1 rfl (lv_at hl 1 rfl) ?_
  refine s_callz (As := [.int p1]) (rest := [.ref (g.2.2.1 99)]) 1 C.1 (k_X0_isSplit l p1) (lw_S q1061 q1062 q144 q1063) rfl rfl (by decide +kernel) ⟨Nat.le_of_ble_eq_true rfl, Nat.le_of_ble_eq_true rfl⟩ rfl hl.1 rfl (Nat.le_of_ble_eq_true rfl) ⟨Nat.le_of_ble_eq_true rfl, Nat.le_of_ble_eq_true rfl⟩ dX0_split_2 h.2.2.1 (fun r2 H locs er2 br2 hz1 hk1 hS1 => ?_)
  have h := h.same hk1 hS1
  clear hz1 hk1 hS1
  have j13 : ∀ (t0_13 : Int32) (H : Heap) (locs : List Loc) (ls : Array Slot) (ej13 : (if r2 = (0 : Int32) then ((1 : Int32)) else ((0 : Int32))) = t0_13) (bt0_13 : t0_13 = 0 ∨ t0_13 = 1) (h : wH (dL g) σ s H locs) (hl : lv_has ls 2 [(0, .ref (g.2.2.1 99)), (1, .int p1)]), W p l e ({ frames := 2, cells := 0, slots := 0, locals := 45 } : Room) s m args below meth c H locs 0 0 (MQ below (wQz (dL g) (f_X0_split σ p1).1 (f_X0_split σ p1).2 (fun u r => ((gi (ttb u) 1).toInt = (gi (ttb σ) 1).toInt) ∧ ((gi (ttb u) 3).toInt = (gi (ttb σ) 3).toInt))) args s 0 0 (dL g).2.2.2.1) (F0 m 13 ls [.int t0_13, .ref (g.2.2.1 99)]) := by
    intro t0_13 H locs ls ej13 bt0_13 h hl
    have et0_13 := ej13.symm
    refine L_p7 C h dX0_split_13 (fun σ13 H locs eσ13 h => ?_)
    have hNEW : (0 ≤ (gi (ttb σ13) 1).toInt ∧ (gi (ttb σ13) 1).toInt ≤ 6) ∧ (0 ≤ (gi (ttb σ13) 3).toInt ∧ (gi (ttb σ13) 3).toInt ≤ 16 ∧ (gi (ttb σ13) 3).toInt ≤ (g.1.2.1 50 : Int)) ∧ ((gi (ttb σ13) 1).toInt = (gi (ttb σ) 1).toInt) ∧ ((gi (ttb σ13) 3).toInt = (gi (ttb σ) 3).toInt) := ⟨(by rw [eσ13] <;> exact hlp), (by rw [eσ13] <;> exact hld), (by rw [eσ13] <;> exact hlpq), (by rw [eσ13] <;> exact hldq)⟩
    obtain ⟨hlp, hld, hlpq, hldq⟩ := hNEW
    have q7_13 : (gi (own σ13) 7).toInt = t0_13.toInt := by rw [eσ13]; rfl
    refine lv_aload_n hx hb dX0_split_16 rfl (lv_at hl 0 rfl) ?_
    refine L_g7 C h dX0_split_17 ?_
    have j31 : ∀ (σJ31 : (MS × MS)) (H : Heap) (locs : List Loc) (ls : Array Slot) (ej31 : f_X0_split σ p1 = if (gi (own σJ31) 7) = (0 : Int32) then ((σJ31, (1 : Int32))) else ((σJ31, (0 : Int32)))) (hlp : 0 ≤ (gi (ttb σJ31) 1).toInt ∧ (gi (ttb σJ31) 1).toInt ≤ 6) (hld : 0 ≤ (gi (ttb σJ31) 3).toInt ∧ (gi (ttb σJ31) 3).toInt ≤ 16 ∧ (gi (ttb σJ31) 3).toInt ≤ (g.1.2.1 50 : Int)) (hlpq : (gi (ttb σJ31) 1).toInt = (gi (ttb σ) 1).toInt) (hldq : (gi (ttb σJ31) 3).toInt = (gi (ttb σ) 3).toInt) (h : wH (dL g) σJ31 s H locs) (hl : lv_has ls 2 [(0, .ref (g.2.2.1 99))]), W p l e ({ frames := 2, cells := 0, slots := 0, locals := 45 } : Room) s m args below meth c H locs 0 0 (MQ below (wQz (dL g) (f_X0_split σ p1).1 (f_X0_split σ p1).2 (fun u r => ((gi (ttb u) 1).toInt = (gi (ttb σ) 1).toInt) ∧ ((gi (ttb u) 3).toInt = (gi (ttb σ) 3).toInt))) args s 0 0 (dL g).2.2.2.1) (F0 m 31 ls []) := by
      intro σJ31 H locs ls ej31 hlp hld hlpq hldq h hl
      refine lv_aload_n hx hb dX0_split_31 rfl (lv_at hl 0 rfl) ?_
      refine L_g7 C h dX0_split_32 ?_
      refine lv_if_ne (tgt := 42) hx hb dX0_split_35 (by decide) (fun c35 => ?_) (fun c35 => ?_)
      · have i35 := c_ne c35
        refine lv_iconst (v := 0) hx hb dX0_split_42 (by decide) ?_
        have he : f_X0_split σ p1 = (σJ31, (0 : Int32)) := (by exact (ej31.trans ((if_neg c35).trans rfl)))
        exact w_retz (wXL g) C h hr hlocks (congrArg Prod.fst he) (congrArg Prod.snd he) (Or.inl rfl) ⟨hlpq, hldq⟩ dX0_split_43
      · have i35 := c_eq c35
        refine lv_iconst (v := 1) hx hb dX0_split_38 (by decide) ?_
        refine lv_goto (tgt := 43) hx hb dX0_split_39 (by decide) ?_
        have he : f_X0_split σ p1 = (σJ31, (1 : Int32)) := (by exact (ej31.trans ((if_pos c35).trans rfl)))
        exact w_retz (wXL g) C h hr hlocks (congrArg Prod.fst he) (congrArg Prod.snd he) (Or.inr rfl) ⟨hlpq, hldq⟩ dX0_split_43
    refine lv_if_ne (tgt := 31) hx hb dX0_split_20 (by decide) (fun c20 => ?_) (fun c20 => ?_)
    · have i20 := c_ne c20
      exact j31 _ _ _ _ (by have er2 := er2.symm; subst er2; have et0_13 := et0_13.symm; subst et0_13; have eσ13 := eσ13.symm; subst eσ13; exact ((if_neg c20).trans rfl)) hlp hld hlpq hldq h (lv_sub hl [0] rfl)
    · have i20 := c_eq c20
      refine lv_aload_n hx hb dX0_split_23 rfl (lv_at hl 0 rfl) ?_
      refine L_at (rest := []) C h ⟨Nat.le_of_ble_eq_true rfl, Nat.le_of_ble_eq_true rfl⟩ hl.1 (Nat.le_of_ble_eq_true rfl) ⟨Nat.le_of_ble_eq_true rfl, Nat.le_of_ble_eq_true rfl⟩ dX0_split_24 (fun H locs h => ?_)
      refine lv_iload_n hx hb dX0_split_27 rfl (lv_at hl 1 rfl) ?_
      refine L_u4 C h dX0_split_28 (fun σ28 H locs eσ28 h => ?_)
      have hNEW : (0 ≤ (gi (ttb σ28) 1).toInt ∧ (gi (ttb σ28) 1).toInt ≤ 6) ∧ (0 ≤ (gi (ttb σ28) 3).toInt ∧ (gi (ttb σ28) 3).toInt ≤ 16 ∧ (gi (ttb σ28) 3).toInt ≤ (g.1.2.1 50 : Int)) ∧ ((gi (ttb σ28) 1).toInt = (gi (ttb σ) 1).toInt) ∧ ((gi (ttb σ28) 3).toInt = (gi (ttb σ) 3).toInt) := ⟨(by rw [eσ28] <;> exact hlp), (by rw [eσ28] <;> exact hld), (by rw [eσ28] <;> exact hlpq), (by rw [eσ28] <;> exact hldq)⟩
      clear hlp hld hlpq hldq
      obtain ⟨hlp, hld, hlpq, hldq⟩ := hNEW
      exact j31 _ _ _ _ (by have er2 := er2.symm; subst er2; have et0_13 := et0_13.symm; subst et0_13; have eσ13 := eσ13.symm; subst eσ13; have eσ28 := eσ28.symm; subst eσ28; exact ((if_pos c20).trans rfl)) hlp hld hlpq hldq h (lv_sub hl [0] rfl)
  refine lv_if_eq (tgt := 12) hx hb dX0_split_5 (by decide) (fun c5 => ?_) (fun c5 => ?_)
  · have i5 := c_eq c5
    refine lv_iconst (v := 1) hx hb dX0_split_12 (by decide) ?_
    exact j13 _ _ _ _ (by exact ((if_pos c5).trans rfl)) (Or.inr rfl) h hl
  · have i5 := c_ne c5
    refine lv_iconst (v := 0) hx hb dX0_split_8 (by decide) ?_
    refine lv_goto (tgt := 13) hx hb dX0_split_9 (by decide) ?_
    exact j13 _ _ _ _ (by exact ((if_neg c5).trans rfl)) (Or.inl rfl) h hl
def f_X0_law (σ : MS × MS) (p1 : Int32) : (MS × MS) × Int32 := (let r2 := (f_X0_isLaw p1); (let z13_ : Int32 := (if r2 = (0 : Int32) then ((1 : Int32)) else ((0 : Int32))); let t0_13 := z13_; (let σ13 := lsi σ 7 t0_13; (let jj31 := (fun (σJ31 : (MS × MS)) => if (gi (own σJ31) 7) = (0 : Int32) then ((σJ31, (1 : Int32))) else ((σJ31, (0 : Int32)))); if (gi (own σ13) 7) = (0 : Int32) then ((let σ28 := tsi σ13 5 p1; jj31 σ28)) else (jj31 σ13)))))
set_option maxHeartbeats 4000000 in
set_option maxRecDepth 100000 in
theorem k_X0_law (l : Launch) (g : GL) (σ : MS × MS) (p1 : Int32) (hlp : 0 ≤ (gi (ttb σ) 1).toInt ∧ (gi (ttb σ) 1).toInt ≤ 6) (hld : 0 ≤ (gi (ttb σ) 3).toInt ∧ (gi (ttb σ) 3).toInt ≤ 16 ∧ (gi (ttb σ) 3).toInt ≤ (g.1.2.1 50 : Int)) : Met l yX0_law (ws_ yX0_law cX0_law 2 (some .boolean)) ({ frames := 2, cells := 0, slots := 0, locals := 45 } : Room) (wPc (dL g) (g.2.2.1 99) σ [.int p1]) (wQz (dL g) (f_X0_law σ p1).1 (f_X0_law σ p1).2 (fun u r => ((gi (ttb u) 1).toInt = (gi (ttb σ) 1).toInt) ∧ ((gi (ttb u) 3).toInt = (gi (ttb σ) 3).toInt))) 0 0 (dL g).2.2.2.1 := by
  refine met_W RX0 (by decide) rfl (Nat.le_of_ble_eq_true rfl) ?_
  intro p e s m args below meth c C hr hlocks h ls hl
  have hx := C.1.1
  have hb := C.1.2.1
  have hml := C.1.2.2.1
  have hown := C.1.2.2.2.1
  have hts := C.1.2.2.2.2
  have hl : lv_has ls 2 [(0, .ref (g.2.2.1 99)), (1, .int p1)] := hl
  have hlpq : (gi (ttb σ) 1).toInt = (gi (ttb σ) 1).toInt := rfl
  have hldq : (gi (ttb σ) 3).toInt = (gi (ttb σ) 3).toInt := rfl
  have zl0 : (0 : Int32).toInt = 0 := rfl
  have zl1 : (1 : Int32).toInt = 1 := rfl
  refine lv_aload_n hx hb dX0_law_0 rfl (lv_at hl 0 rfl) ?_
  refine lv_iload_n hx hb dX0_law_1 rfl (lv_at hl 1 rfl) ?_
  refine s_callz (As := [.int p1]) (rest := [.ref (g.2.2.1 99)]) 1 C.1 (k_X0_isLaw l p1) (lw_S q1117 q1118 q144 q1119) rfl rfl (by decide +kernel) ⟨Nat.le_of_ble_eq_true rfl, Nat.le_of_ble_eq_true rfl⟩ rfl hl.1 rfl (Nat.le_of_ble_eq_true rfl) ⟨Nat.le_of_ble_eq_true rfl, Nat.le_of_ble_eq_true rfl⟩ dX0_law_2 h.2.2.1 (fun r2 H locs er2 br2 hz1 hk1 hS1 => ?_)
  have h := h.same hk1 hS1
  clear hz1 hk1 hS1
  have j13 : ∀ (t0_13 : Int32) (H : Heap) (locs : List Loc) (ls : Array Slot) (ej13 : (if r2 = (0 : Int32) then ((1 : Int32)) else ((0 : Int32))) = t0_13) (bt0_13 : t0_13 = 0 ∨ t0_13 = 1) (h : wH (dL g) σ s H locs) (hl : lv_has ls 2 [(0, .ref (g.2.2.1 99)), (1, .int p1)]), W p l e ({ frames := 2, cells := 0, slots := 0, locals := 45 } : Room) s m args below meth c H locs 0 0 (MQ below (wQz (dL g) (f_X0_law σ p1).1 (f_X0_law σ p1).2 (fun u r => ((gi (ttb u) 1).toInt = (gi (ttb σ) 1).toInt) ∧ ((gi (ttb u) 3).toInt = (gi (ttb σ) 3).toInt))) args s 0 0 (dL g).2.2.2.1) (F0 m 13 ls [.int t0_13, .ref (g.2.2.1 99)]) := by
    intro t0_13 H locs ls ej13 bt0_13 h hl
    have et0_13 := ej13.symm
    refine L_p7 C h dX0_law_13 (fun σ13 H locs eσ13 h => ?_)
    have hNEW : (0 ≤ (gi (ttb σ13) 1).toInt ∧ (gi (ttb σ13) 1).toInt ≤ 6) ∧ (0 ≤ (gi (ttb σ13) 3).toInt ∧ (gi (ttb σ13) 3).toInt ≤ 16 ∧ (gi (ttb σ13) 3).toInt ≤ (g.1.2.1 50 : Int)) ∧ ((gi (ttb σ13) 1).toInt = (gi (ttb σ) 1).toInt) ∧ ((gi (ttb σ13) 3).toInt = (gi (ttb σ) 3).toInt) := ⟨(by rw [eσ13] <;> exact hlp), (by rw [eσ13] <;> exact hld), (by rw [eσ13] <;> exact hlpq), (by rw [eσ13] <;> exact hldq)⟩
    obtain ⟨hlp, hld, hlpq, hldq⟩ := hNEW
    have q7_13 : (gi (own σ13) 7).toInt = t0_13.toInt := by rw [eσ13]; rfl
    refine lv_aload_n hx hb dX0_law_16 rfl (lv_at hl 0 rfl) ?_
    refine L_g7 C h dX0_law_17 ?_
    have j31 : ∀ (σJ31 : (MS × MS)) (H : Heap) (locs : List Loc) (ls : Array Slot) (ej31 : f_X0_law σ p1 = if (gi (own σJ31) 7) = (0 : Int32) then ((σJ31, (1 : Int32))) else ((σJ31, (0 : Int32)))) (hlp : 0 ≤ (gi (ttb σJ31) 1).toInt ∧ (gi (ttb σJ31) 1).toInt ≤ 6) (hld : 0 ≤ (gi (ttb σJ31) 3).toInt ∧ (gi (ttb σJ31) 3).toInt ≤ 16 ∧ (gi (ttb σJ31) 3).toInt ≤ (g.1.2.1 50 : Int)) (hlpq : (gi (ttb σJ31) 1).toInt = (gi (ttb σ) 1).toInt) (hldq : (gi (ttb σJ31) 3).toInt = (gi (ttb σ) 3).toInt) (h : wH (dL g) σJ31 s H locs) (hl : lv_has ls 2 [(0, .ref (g.2.2.1 99))]), W p l e ({ frames := 2, cells := 0, slots := 0, locals := 45 } : Room) s m args below meth c H locs 0 0 (MQ below (wQz (dL g) (f_X0_law σ p1).1 (f_X0_law σ p1).2 (fun u r => ((gi (ttb u) 1).toInt = (gi (ttb σ) 1).toInt) ∧ ((gi (ttb u) 3).toInt = (gi (ttb σ) 3).toInt))) args s 0 0 (dL g).2.2.2.1) (F0 m 31 ls []) := by
      intro σJ31 H locs ls ej31 hlp hld hlpq hldq h hl
      refine lv_aload_n hx hb dX0_law_31 rfl (lv_at hl 0 rfl) ?_
      refine L_g7 C h dX0_law_32 ?_
      refine lv_if_ne (tgt := 42) hx hb dX0_law_35 (by decide) (fun c35 => ?_) (fun c35 => ?_)
      · have i35 := c_ne c35
        refine lv_iconst (v := 0) hx hb dX0_law_42 (by decide) ?_
        have he : f_X0_law σ p1 = (σJ31, (0 : Int32)) := (by exact (ej31.trans ((if_neg c35).trans rfl)))
        exact w_retz (wXL g) C h hr hlocks (congrArg Prod.fst he) (congrArg Prod.snd he) (Or.inl rfl) ⟨hlpq, hldq⟩ dX0_law_43
      · have i35 := c_eq c35
        refine lv_iconst (v := 1) hx hb dX0_law_38 (by decide) ?_
        refine lv_goto (tgt := 43) hx hb dX0_law_39 (by decide) ?_
        have he : f_X0_law σ p1 = (σJ31, (1 : Int32)) := (by exact (ej31.trans ((if_pos c35).trans rfl)))
        exact w_retz (wXL g) C h hr hlocks (congrArg Prod.fst he) (congrArg Prod.snd he) (Or.inr rfl) ⟨hlpq, hldq⟩ dX0_law_43
    refine lv_if_ne (tgt := 31) hx hb dX0_law_20 (by decide) (fun c20 => ?_) (fun c20 => ?_)
    · have i20 := c_ne c20
      exact j31 _ _ _ _ (by have er2 := er2.symm; subst er2; have et0_13 := et0_13.symm; subst et0_13; have eσ13 := eσ13.symm; subst eσ13; exact ((if_neg c20).trans rfl)) hlp hld hlpq hldq h (lv_sub hl [0] rfl)
    · have i20 := c_eq c20
      refine lv_aload_n hx hb dX0_law_23 rfl (lv_at hl 0 rfl) ?_
      refine L_at (rest := []) C h ⟨Nat.le_of_ble_eq_true rfl, Nat.le_of_ble_eq_true rfl⟩ hl.1 (Nat.le_of_ble_eq_true rfl) ⟨Nat.le_of_ble_eq_true rfl, Nat.le_of_ble_eq_true rfl⟩ dX0_law_24 (fun H locs h => ?_)
      refine lv_iload_n hx hb dX0_law_27 rfl (lv_at hl 1 rfl) ?_
      refine L_u5 C h dX0_law_28 (fun σ28 H locs eσ28 h => ?_)
      have hNEW : (0 ≤ (gi (ttb σ28) 1).toInt ∧ (gi (ttb σ28) 1).toInt ≤ 6) ∧ (0 ≤ (gi (ttb σ28) 3).toInt ∧ (gi (ttb σ28) 3).toInt ≤ 16 ∧ (gi (ttb σ28) 3).toInt ≤ (g.1.2.1 50 : Int)) ∧ ((gi (ttb σ28) 1).toInt = (gi (ttb σ) 1).toInt) ∧ ((gi (ttb σ28) 3).toInt = (gi (ttb σ) 3).toInt) := ⟨(by rw [eσ28] <;> exact hlp), (by rw [eσ28] <;> exact hld), (by rw [eσ28] <;> exact hlpq), (by rw [eσ28] <;> exact hldq)⟩
      clear hlp hld hlpq hldq
      obtain ⟨hlp, hld, hlpq, hldq⟩ := hNEW
      exact j31 _ _ _ _ (by have er2 := er2.symm; subst er2; have et0_13 := et0_13.symm; subst et0_13; have eσ13 := eσ13.symm; subst eσ13; have eσ28 := eσ28.symm; subst eσ28; exact ((if_pos c20).trans rfl)) hlp hld hlpq hldq h (lv_sub hl [0] rfl)
  refine lv_if_eq (tgt := 12) hx hb dX0_law_5 (by decide) (fun c5 => ?_) (fun c5 => ?_)
  · have i5 := c_eq c5
    refine lv_iconst (v := 1) hx hb dX0_law_12 (by decide) ?_
    exact j13 _ _ _ _ (by exact ((if_pos c5).trans rfl)) (Or.inr rfl) h hl
  · have i5 := c_ne c5
    refine lv_iconst (v := 0) hx hb dX0_law_8 (by decide) ?_
    refine lv_goto (tgt := 13) hx hb dX0_law_9 (by decide) ?_
    exact j13 _ _ _ _ (by exact ((if_neg c5).trans rfl)) (Or.inl rfl) h hl
def f_X0_padded (σ : MS × MS) (p1 : Int32) : (MS × MS) × Int32 := (let r7 := (f_X0_isIn p1.toInt64 (0 : Int64) (99999 : Int64)); (let z18_ : Int32 := (if r7 = (0 : Int32) then ((1 : Int32)) else ((0 : Int32))); let t0_18 := z18_; (let σ18 := lsi σ 7 t0_18; if (gi (own σ18) 7) ≤ (0 : Int32) then ((let r37 := (f_X5_bill (ttb σ18)); (σ18, (p1 - r37)))) else ((σ18, (-1 : Int32))))))
set_option maxHeartbeats 4000000 in
set_option maxRecDepth 100000 in
theorem k_X0_padded (l : Launch) (g : GL) (σ : MS × MS) (p1 : Int32) (hlp : 0 ≤ (gi (ttb σ) 1).toInt ∧ (gi (ttb σ) 1).toInt ≤ 6) (hld : 0 ≤ (gi (ttb σ) 3).toInt ∧ (gi (ttb σ) 3).toInt ≤ 16 ∧ (gi (ttb σ) 3).toInt ≤ (g.1.2.1 50 : Int)) : Met l yX0_padded (ws_ yX0_padded cX0_padded 2 (some .int)) ({ frames := 1, cells := 0, slots := 0, locals := 25 } : Room) (wPc (dL g) (g.2.2.1 99) σ [.int p1]) (wQi (dL g) (f_X0_padded σ p1).1 (f_X0_padded σ p1).2 (fun u r => ((gi (ttb u) 1).toInt = (gi (ttb σ) 1).toInt) ∧ ((gi (ttb u) 3).toInt = (gi (ttb σ) 3).toInt))) 0 0 (dL g).2.2.2.1 := by
  refine met_W RX0 (by decide) rfl (Nat.le_of_ble_eq_true rfl) ?_
  intro p e s m args below meth c C hr hlocks h ls hl
  have hx := C.1.1
  have hb := C.1.2.1
  have hml := C.1.2.2.1
  have hown := C.1.2.2.2.1
  have hts := C.1.2.2.2.2
  have hl : lv_has ls 2 [(0, .ref (g.2.2.1 99)), (1, .int p1)] := hl
  have hlpq : (gi (ttb σ) 1).toInt = (gi (ttb σ) 1).toInt := rfl
  have hldq : (gi (ttb σ) 3).toInt = (gi (ttb σ) 3).toInt := rfl
  have zlm1 : (-1 : Int32).toInt = -1 := rfl
  have zl0 : (0 : Int32).toInt = 0 := rfl
  have zl1 : (1 : Int32).toInt = 1 := rfl
  refine lv_aload_n hx hb dX0_padded_0 rfl (lv_at hl 0 rfl) ?_
  refine lv_iload_n hx hb dX0_padded_1 rfl (lv_at hl 1 rfl) ?_
  refine lv_i2l (v := p1.toInt64) hx hb dX0_padded_2 rfl ?_
  refine lv_lconst (v := 0) hx hb dX0_padded_3 (by decide) ?_
  refine lv_ldc2 hx hb hown (hts _ q1134) dX0_padded_4 ?_
  refine s_callz (As := [.long p1.toInt64, .long (0 : Int64), .long (99999 : Int64)]) (rest := [.ref (g.2.2.1 99)]) 3 C.1 (k_X0_isIn l p1.toInt64 (0 : Int64) (99999 : Int64)) (lw_S q994 q995 q144 q996) rfl rfl (by decide +kernel) ⟨Nat.le_of_ble_eq_true rfl, Nat.le_of_ble_eq_true rfl⟩ rfl hl.1 rfl (Nat.le_of_ble_eq_true rfl) ⟨Nat.le_of_ble_eq_true rfl, Nat.le_of_ble_eq_true rfl⟩ dX0_padded_7 h.2.2.1 (fun r7 H locs er7 br7 hz1 hk1 hS1 => ?_)
  have h := h.same hk1 hS1
  clear hz1 hk1 hS1
  have j18 : ∀ (t0_18 : Int32) (H : Heap) (locs : List Loc) (ls : Array Slot) (ej18 : (if r7 = (0 : Int32) then ((1 : Int32)) else ((0 : Int32))) = t0_18) (bt0_18 : t0_18 = 0 ∨ t0_18 = 1) (h : wH (dL g) σ s H locs) (hl : lv_has ls 2 [(0, .ref (g.2.2.1 99)), (1, .int p1)]), W p l e ({ frames := 1, cells := 0, slots := 0, locals := 25 } : Room) s m args below meth c H locs 0 0 (MQ below (wQi (dL g) (f_X0_padded σ p1).1 (f_X0_padded σ p1).2 (fun u r => ((gi (ttb u) 1).toInt = (gi (ttb σ) 1).toInt) ∧ ((gi (ttb u) 3).toInt = (gi (ttb σ) 3).toInt))) args s 0 0 (dL g).2.2.2.1) (F0 m 18 ls [.int t0_18, .ref (g.2.2.1 99)]) := by
    intro t0_18 H locs ls ej18 bt0_18 h hl
    have et0_18 := ej18.symm
    refine L_p7 C h dX0_padded_18 (fun σ18 H locs eσ18 h => ?_)
    have hNEW : (0 ≤ (gi (ttb σ18) 1).toInt ∧ (gi (ttb σ18) 1).toInt ≤ 6) ∧ (0 ≤ (gi (ttb σ18) 3).toInt ∧ (gi (ttb σ18) 3).toInt ≤ 16 ∧ (gi (ttb σ18) 3).toInt ≤ (g.1.2.1 50 : Int)) ∧ ((gi (ttb σ18) 1).toInt = (gi (ttb σ) 1).toInt) ∧ ((gi (ttb σ18) 3).toInt = (gi (ttb σ) 3).toInt) := ⟨(by rw [eσ18] <;> exact hlp), (by rw [eσ18] <;> exact hld), (by rw [eσ18] <;> exact hlpq), (by rw [eσ18] <;> exact hldq)⟩
    obtain ⟨hlp, hld, hlpq, hldq⟩ := hNEW
    have q7_18 : (gi (own σ18) 7).toInt = t0_18.toInt := by rw [eσ18]; rfl
    refine lv_aload_n hx hb dX0_padded_21 rfl (lv_at hl 0 rfl) ?_
    refine L_g7 C h dX0_padded_22 ?_
    refine lv_if_le (tgt := 32) hx hb dX0_padded_25 (by decide) (fun c25 => ?_) (fun c25 => ?_)
    · have i25 := c_le c25
      refine lv_iload_n hx hb dX0_padded_32 rfl (lv_at hl 1 rfl) ?_
      refine lv_aload_n hx hb dX0_padded_33 rfl (lv_at hl 0 rfl) ?_
      refine L_at (rest := [.int p1]) C h ⟨Nat.le_of_ble_eq_true rfl, Nat.le_of_ble_eq_true rfl⟩ hl.1 (Nat.le_of_ble_eq_true rfl) ⟨Nat.le_of_ble_eq_true rfl, Nat.le_of_ble_eq_true rfl⟩ dX0_padded_34 (fun H locs h => ?_)
      refine L_tcalli (As := []) (rest := [.int p1]) 0 C h (k_X5_bill l g.1 (ttb σ18) (by first | assumption | omega)) (lw_V q997 q998 q999 q151 q1000) rfl rfl (by decide +kernel) ⟨Nat.le_of_ble_eq_true rfl, Nat.le_of_ble_eq_true rfl⟩ rfl hl.1 rfl (Nat.le_of_ble_eq_true rfl) ⟨Nat.le_of_ble_eq_true rfl, Nat.le_of_ble_eq_true rfl⟩ dX0_padded_37 (fun r37 σ37 H locs eσ37 er37 hE37 h => ?_)
      have h : wH (dL g) σ18 s H locs := by rw [eσ37] at h; exact h
      clear hE37
      clear eσ37
      refine lv_isub hx hb dX0_padded_40 ?_
      have he : f_X0_padded σ p1 = (σ18, (p1 - r37)) := (by have er7 := er7.symm; subst er7; have et0_18 := et0_18.symm; subst et0_18; have eσ18 := eσ18.symm; subst eσ18; have er37 := er37.symm; subst er37; exact ((if_pos c25).trans rfl))
      exact w_reti (wXL g) C h hr hlocks (congrArg Prod.fst he) (congrArg Prod.snd he) ⟨hlpq, hldq⟩ dX0_padded_41
    · have i25 := c_nle c25
      refine lv_iconst (v := -1) hx hb dX0_padded_28 (by decide) ?_
      refine lv_goto (tgt := 41) hx hb dX0_padded_29 (by decide) ?_
      have he : f_X0_padded σ p1 = (σ18, (-1 : Int32)) := (by have er7 := er7.symm; subst er7; have et0_18 := et0_18.symm; subst et0_18; have eσ18 := eσ18.symm; subst eσ18; exact ((if_neg c25).trans rfl))
      exact w_reti (wXL g) C h hr hlocks (congrArg Prod.fst he) (congrArg Prod.snd he) ⟨hlpq, hldq⟩ dX0_padded_41
  refine lv_if_eq (tgt := 17) hx hb dX0_padded_10 (by decide) (fun c10 => ?_) (fun c10 => ?_)
  · have i10 := c_eq c10
    refine lv_iconst (v := 1) hx hb dX0_padded_17 (by decide) ?_
    exact j18 _ _ _ _ (by exact ((if_pos c10).trans rfl)) (Or.inr rfl) h hl
  · have i10 := c_ne c10
    have okr7 := lIsIn_ok er7 c10
    refine lv_iconst (v := 0) hx hb dX0_padded_13 (by decide) ?_
    refine lv_goto (tgt := 18) hx hb dX0_padded_14 (by decide) ?_
    exact j18 _ _ _ _ (by exact ((if_neg c10).trans rfl)) (Or.inl rfl) h hl
def f_X0_turn (σ : MS × MS) : (MS × MS) × Int32 := (let r12 := (f_X5_turn (ttb σ) (gi (ttb σ) 5)); let z15 := (f_X0_answer σ r12); let σ15 := z15.1; let r15 := z15.2; (σ15, r15))
set_option maxHeartbeats 4000000 in
set_option maxRecDepth 100000 in
theorem k_X0_turn (l : Launch) (g : GL) (σ : MS × MS) (hlp : 0 ≤ (gi (ttb σ) 1).toInt ∧ (gi (ttb σ) 1).toInt ≤ 6) (hld : 0 ≤ (gi (ttb σ) 3).toInt ∧ (gi (ttb σ) 3).toInt ≤ 16 ∧ (gi (ttb σ) 3).toInt ≤ (g.1.2.1 50 : Int)) : Met l yX0_turn (ws_ yX0_turn cX0_turn 1 (some .int)) ({ frames := 4, cells := 0, slots := 0, locals := 90 } : Room) (wPc (dL g) (g.2.2.1 99) σ []) (wQi (dL g) (f_X0_turn σ).1 (f_X0_turn σ).2 (fun u r => ((gi (ttb u) 1).toInt = (gi (ttb σ) 1).toInt) ∧ ((gi (ttb u) 3).toInt = (gi (ttb σ) 3).toInt))) 0 0 (dL g).2.2.2.1 := by
  refine met_W RX0 (by decide) rfl (Nat.le_of_ble_eq_true rfl) ?_
  intro p e s m args below meth c C hr hlocks h ls hl
  have hx := C.1.1
  have hb := C.1.2.1
  have hml := C.1.2.2.1
  have hown := C.1.2.2.2.1
  have hts := C.1.2.2.2.2
  have hl : lv_has ls 1 [(0, .ref (g.2.2.1 99))] := hl
  have hlpq : (gi (ttb σ) 1).toInt = (gi (ttb σ) 1).toInt := rfl
  have hldq : (gi (ttb σ) 3).toInt = (gi (ttb σ) 3).toInt := rfl
  refine lv_aload_n hx hb dX0_turn_0 rfl (lv_at hl 0 rfl) ?_
  refine lv_aload_n hx hb dX0_turn_1 rfl (lv_at hl 0 rfl) ?_
  refine L_at (rest := [.ref (g.2.2.1 99)]) C h ⟨Nat.le_of_ble_eq_true rfl, Nat.le_of_ble_eq_true rfl⟩ hl.1 (Nat.le_of_ble_eq_true rfl) ⟨Nat.le_of_ble_eq_true rfl, Nat.le_of_ble_eq_true rfl⟩ dX0_turn_2 (fun H locs h => ?_)
  refine lv_aload_n hx hb dX0_turn_5 rfl (lv_at hl 0 rfl) ?_
  refine L_at (rest := [.ref (g.1.2.1 99), .ref (g.2.2.1 99)]) C h ⟨Nat.le_of_ble_eq_true rfl, Nat.le_of_ble_eq_true rfl⟩ hl.1 (Nat.le_of_ble_eq_true rfl) ⟨Nat.le_of_ble_eq_true rfl, Nat.le_of_ble_eq_true rfl⟩ dX0_turn_6 (fun H locs h => ?_)
  refine L_t5 C h dX0_turn_9 ?_
  refine L_tcalli (As := [.int (gi (ttb σ) 5)]) (rest := [.ref (g.2.2.1 99)]) 1 C h (k_X5_turn l g.1 (ttb σ) (gi (ttb σ) 5) (by first | assumption | omega)) (lw_V q1154 q1155 q1156 q151 q1157) rfl rfl (by decide +kernel) ⟨Nat.le_of_ble_eq_true rfl, Nat.le_of_ble_eq_true rfl⟩ rfl hl.1 rfl (Nat.le_of_ble_eq_true rfl) ⟨Nat.le_of_ble_eq_true rfl, Nat.le_of_ble_eq_true rfl⟩ dX0_turn_12 (fun r12 σ12 H locs eσ12 er12 hE12 h => ?_)
  have h : wH (dL g) σ s H locs := by rw [eσ12] at h; exact h
  clear hE12
  clear eσ12
  refine w_calli (ci := 0) (q0 := 6) (As := [.int r12]) (rest := []) 1 (wXL g) C h (k_X0_answer l g σ r12) (lw_V q1033 q1035 qs43 q144 q1036) rfl rfl rfl rfl (by decide +kernel) ⟨Nat.le_of_ble_eq_true rfl, Nat.le_of_ble_eq_true rfl⟩ rfl hl.1 rfl (Nat.le_of_ble_eq_true rfl) ⟨Nat.le_of_ble_eq_true rfl, Nat.le_of_ble_eq_true rfl⟩ dX0_turn_15 (fun r15 σ15 H locs eσ15 er15 hE15 h => ?_)
  clear hE15
  have hNEW : (0 ≤ (gi (ttb σ15) 1).toInt ∧ (gi (ttb σ15) 1).toInt ≤ 6) ∧ (0 ≤ (gi (ttb σ15) 3).toInt ∧ (gi (ttb σ15) 3).toInt ≤ 16 ∧ (gi (ttb σ15) 3).toInt ≤ (g.1.2.1 50 : Int)) ∧ ((gi (ttb σ15) 1).toInt = (gi (ttb σ) 1).toInt) ∧ ((gi (ttb σ15) 3).toInt = (gi (ttb σ) 3).toInt) := ⟨(by rw [eσ15, lanswer_s] <;> exact hlp), (by rw [eσ15, lanswer_s] <;> exact hld), (by rw [eσ15, lanswer_s] <;> exact hlpq), (by rw [eσ15, lanswer_s] <;> exact hldq)⟩
  obtain ⟨hlp, hld, hlpq, hldq⟩ := hNEW
  have he : f_X0_turn σ = (σ15, r15) := (by have er12 := er12.symm; subst er12; have eσ15 := eσ15.symm; subst eσ15; have er15 := er15.symm; subst er15; exact rfl)
  exact w_reti (wXL g) C h hr hlocks (congrArg Prod.fst he) (congrArg Prod.snd he) ⟨hlpq, hldq⟩ dX0_turn_18
def f_X0_turnBy (σ : MS × MS) (p1 : Int32) : (MS × MS) × Int32 := (let r2 := (f_X0_isLaw p1); (let z13_ : Int32 := (if r2 = (0 : Int32) then ((1 : Int32)) else ((0 : Int32))); let t0_13 := z13_; (let σ13 := lsi σ 7 t0_13; if (gi (own σ13) 7) ≤ (0 : Int32) then ((let r33 := (f_X5_turn (ttb σ13) p1); let z36 := (f_X0_answer σ13 r33); let σ36 := z36.1; let r36 := z36.2; (σ36, r36))) else ((σ13, (-1 : Int32))))))
set_option maxHeartbeats 4000000 in
set_option maxRecDepth 100000 in
theorem k_X0_turnBy (l : Launch) (g : GL) (σ : MS × MS) (p1 : Int32) (hlp : 0 ≤ (gi (ttb σ) 1).toInt ∧ (gi (ttb σ) 1).toInt ≤ 6) (hld : 0 ≤ (gi (ttb σ) 3).toInt ∧ (gi (ttb σ) 3).toInt ≤ 16 ∧ (gi (ttb σ) 3).toInt ≤ (g.1.2.1 50 : Int)) : Met l yX0_turnBy (ws_ yX0_turnBy cX0_turnBy 2 (some .int)) ({ frames := 4, cells := 0, slots := 0, locals := 90 } : Room) (wPc (dL g) (g.2.2.1 99) σ [.int p1]) (wQi (dL g) (f_X0_turnBy σ p1).1 (f_X0_turnBy σ p1).2 (fun u r => ((gi (ttb u) 1).toInt = (gi (ttb σ) 1).toInt) ∧ ((gi (ttb u) 3).toInt = (gi (ttb σ) 3).toInt))) 0 0 (dL g).2.2.2.1 := by
  refine met_W RX0 (by decide) rfl (Nat.le_of_ble_eq_true rfl) ?_
  intro p e s m args below meth c C hr hlocks h ls hl
  have hx := C.1.1
  have hb := C.1.2.1
  have hml := C.1.2.2.1
  have hown := C.1.2.2.2.1
  have hts := C.1.2.2.2.2
  have hl : lv_has ls 2 [(0, .ref (g.2.2.1 99)), (1, .int p1)] := hl
  have hlpq : (gi (ttb σ) 1).toInt = (gi (ttb σ) 1).toInt := rfl
  have hldq : (gi (ttb σ) 3).toInt = (gi (ttb σ) 3).toInt := rfl
  have zlm1 : (-1 : Int32).toInt = -1 := rfl
  have zl0 : (0 : Int32).toInt = 0 := rfl
  have zl1 : (1 : Int32).toInt = 1 := rfl
  refine lv_aload_n hx hb dX0_turnBy_0 rfl (lv_at hl 0 rfl) ?_
  refine lv_iload_n hx hb dX0_turnBy_1 rfl (lv_at hl 1 rfl) ?_
  refine s_callz (As := [.int p1]) (rest := [.ref (g.2.2.1 99)]) 1 C.1 (k_X0_isLaw l p1) (lw_S q1117 q1118 q144 q1119) rfl rfl (by decide +kernel) ⟨Nat.le_of_ble_eq_true rfl, Nat.le_of_ble_eq_true rfl⟩ rfl hl.1 rfl (Nat.le_of_ble_eq_true rfl) ⟨Nat.le_of_ble_eq_true rfl, Nat.le_of_ble_eq_true rfl⟩ dX0_turnBy_2 h.2.2.1 (fun r2 H locs er2 br2 hz1 hk1 hS1 => ?_)
  have h := h.same hk1 hS1
  clear hz1 hk1 hS1
  have j13 : ∀ (t0_13 : Int32) (H : Heap) (locs : List Loc) (ls : Array Slot) (ej13 : (if r2 = (0 : Int32) then ((1 : Int32)) else ((0 : Int32))) = t0_13) (bt0_13 : t0_13 = 0 ∨ t0_13 = 1) (h : wH (dL g) σ s H locs) (hl : lv_has ls 2 [(0, .ref (g.2.2.1 99)), (1, .int p1)]), W p l e ({ frames := 4, cells := 0, slots := 0, locals := 90 } : Room) s m args below meth c H locs 0 0 (MQ below (wQi (dL g) (f_X0_turnBy σ p1).1 (f_X0_turnBy σ p1).2 (fun u r => ((gi (ttb u) 1).toInt = (gi (ttb σ) 1).toInt) ∧ ((gi (ttb u) 3).toInt = (gi (ttb σ) 3).toInt))) args s 0 0 (dL g).2.2.2.1) (F0 m 13 ls [.int t0_13, .ref (g.2.2.1 99)]) := by
    intro t0_13 H locs ls ej13 bt0_13 h hl
    have et0_13 := ej13.symm
    refine L_p7 C h dX0_turnBy_13 (fun σ13 H locs eσ13 h => ?_)
    have hNEW : (0 ≤ (gi (ttb σ13) 1).toInt ∧ (gi (ttb σ13) 1).toInt ≤ 6) ∧ (0 ≤ (gi (ttb σ13) 3).toInt ∧ (gi (ttb σ13) 3).toInt ≤ 16 ∧ (gi (ttb σ13) 3).toInt ≤ (g.1.2.1 50 : Int)) ∧ ((gi (ttb σ13) 1).toInt = (gi (ttb σ) 1).toInt) ∧ ((gi (ttb σ13) 3).toInt = (gi (ttb σ) 3).toInt) := ⟨(by rw [eσ13] <;> exact hlp), (by rw [eσ13] <;> exact hld), (by rw [eσ13] <;> exact hlpq), (by rw [eσ13] <;> exact hldq)⟩
    obtain ⟨hlp, hld, hlpq, hldq⟩ := hNEW
    have q7_13 : (gi (own σ13) 7).toInt = t0_13.toInt := by rw [eσ13]; rfl
    refine lv_aload_n hx hb dX0_turnBy_16 rfl (lv_at hl 0 rfl) ?_
    refine L_g7 C h dX0_turnBy_17 ?_
    refine lv_if_le (tgt := 27) hx hb dX0_turnBy_20 (by decide) (fun c20 => ?_) (fun c20 => ?_)
    · have i20 := c_le c20
      refine lv_aload_n hx hb dX0_turnBy_27 rfl (lv_at hl 0 rfl) ?_
      refine lv_aload_n hx hb dX0_turnBy_28 rfl (lv_at hl 0 rfl) ?_
      refine L_at (rest := [.ref (g.2.2.1 99)]) C h ⟨Nat.le_of_ble_eq_true rfl, Nat.le_of_ble_eq_true rfl⟩ hl.1 (Nat.le_of_ble_eq_true rfl) ⟨Nat.le_of_ble_eq_true rfl, Nat.le_of_ble_eq_true rfl⟩ dX0_turnBy_29 (fun H locs h => ?_)
      refine lv_iload_n hx hb dX0_turnBy_32 rfl (lv_at hl 1 rfl) ?_
      refine L_tcalli (As := [.int p1]) (rest := [.ref (g.2.2.1 99)]) 1 C h (k_X5_turn l g.1 (ttb σ13) p1 (by first | assumption | omega)) (lw_V q1154 q1155 q1156 q151 q1157) rfl rfl (by decide +kernel) ⟨Nat.le_of_ble_eq_true rfl, Nat.le_of_ble_eq_true rfl⟩ rfl hl.1 rfl (Nat.le_of_ble_eq_true rfl) ⟨Nat.le_of_ble_eq_true rfl, Nat.le_of_ble_eq_true rfl⟩ dX0_turnBy_33 (fun r33 σ33 H locs eσ33 er33 hE33 h => ?_)
      have h : wH (dL g) σ13 s H locs := by rw [eσ33] at h; exact h
      clear hE33
      clear eσ33
      refine w_calli (ci := 0) (q0 := 6) (As := [.int r33]) (rest := []) 1 (wXL g) C h (k_X0_answer l g σ13 r33) (lw_V q1033 q1035 qs43 q144 q1036) rfl rfl rfl rfl (by decide +kernel) ⟨Nat.le_of_ble_eq_true rfl, Nat.le_of_ble_eq_true rfl⟩ rfl hl.1 rfl (Nat.le_of_ble_eq_true rfl) ⟨Nat.le_of_ble_eq_true rfl, Nat.le_of_ble_eq_true rfl⟩ dX0_turnBy_36 (fun r36 σ36 H locs eσ36 er36 hE36 h => ?_)
      clear hE36
      have hNEW : (0 ≤ (gi (ttb σ36) 1).toInt ∧ (gi (ttb σ36) 1).toInt ≤ 6) ∧ (0 ≤ (gi (ttb σ36) 3).toInt ∧ (gi (ttb σ36) 3).toInt ≤ 16 ∧ (gi (ttb σ36) 3).toInt ≤ (g.1.2.1 50 : Int)) ∧ ((gi (ttb σ36) 1).toInt = (gi (ttb σ) 1).toInt) ∧ ((gi (ttb σ36) 3).toInt = (gi (ttb σ) 3).toInt) := ⟨(by rw [eσ36, lanswer_s] <;> exact hlp), (by rw [eσ36, lanswer_s] <;> exact hld), (by rw [eσ36, lanswer_s] <;> exact hlpq), (by rw [eσ36, lanswer_s] <;> exact hldq)⟩
      clear hlp hld hlpq hldq
      obtain ⟨hlp, hld, hlpq, hldq⟩ := hNEW
      have he : f_X0_turnBy σ p1 = (σ36, r36) := (by have er2 := er2.symm; subst er2; have et0_13 := et0_13.symm; subst et0_13; have eσ13 := eσ13.symm; subst eσ13; have er33 := er33.symm; subst er33; have eσ36 := eσ36.symm; subst eσ36; have er36 := er36.symm; subst er36; exact ((if_pos c20).trans rfl))
      exact w_reti (wXL g) C h hr hlocks (congrArg Prod.fst he) (congrArg Prod.snd he) ⟨hlpq, hldq⟩ dX0_turnBy_39
    · have i20 := c_nle c20
      refine lv_iconst (v := -1) hx hb dX0_turnBy_23 (by decide) ?_
      refine lv_goto (tgt := 39) hx hb dX0_turnBy_24 (by decide) ?_
      have he : f_X0_turnBy σ p1 = (σ13, (-1 : Int32)) := (by have er2 := er2.symm; subst er2; have et0_13 := et0_13.symm; subst et0_13; have eσ13 := eσ13.symm; subst eσ13; exact ((if_neg c20).trans rfl))
      exact w_reti (wXL g) C h hr hlocks (congrArg Prod.fst he) (congrArg Prod.snd he) ⟨hlpq, hldq⟩ dX0_turnBy_39
  refine lv_if_eq (tgt := 12) hx hb dX0_turnBy_5 (by decide) (fun c5 => ?_) (fun c5 => ?_)
  · have i5 := c_eq c5
    refine lv_iconst (v := 1) hx hb dX0_turnBy_12 (by decide) ?_
    exact j13 _ _ _ _ (by exact ((if_pos c5).trans rfl)) (Or.inr rfl) h hl
  · have i5 := c_ne c5
    refine lv_iconst (v := 0) hx hb dX0_turnBy_8 (by decide) ?_
    refine lv_goto (tgt := 13) hx hb dX0_turnBy_9 (by decide) ?_
    exact j13 _ _ _ _ (by exact ((if_neg c5).trans rfl)) (Or.inl rfl) h hl
def f_X0_strike (σ : MS × MS) : (MS × MS) × Int32 := (let z17_ : Int32 := (if (gi (ttb σ) 3) = (0 : Int32) then ((6 : Int32)) else ((0 : Int32))); let t0_17 := z17_; (let σ17 := lsi σ 7 t0_17; if (gi (own σ17) 7) ≤ (0 : Int32) then ((let σ39 := tsi σ17 3 ((gi (ttb σ17) 3) - (1 : Int32)); (σ39, (ga (ttb σ39) 9 (gi (ttb σ39) 3))))) else ((σ17, (-1 : Int32)))))
set_option maxHeartbeats 4000000 in
set_option maxRecDepth 100000 in
theorem k_X0_strike (l : Launch) (g : GL) (σ : MS × MS) (hlp : 0 ≤ (gi (ttb σ) 1).toInt ∧ (gi (ttb σ) 1).toInt ≤ 6) (hld : 0 ≤ (gi (ttb σ) 3).toInt ∧ (gi (ttb σ) 3).toInt ≤ 16 ∧ (gi (ttb σ) 3).toInt ≤ (g.1.2.1 50 : Int)) : Met l yX0_strike (ws_ yX0_strike cX0_strike 1 (some .int)) ({ frames := 1, cells := 0, slots := 0, locals := 20 } : Room) (wPc (dL g) (g.2.2.1 99) σ []) (wQi (dL g) (f_X0_strike σ).1 (f_X0_strike σ).2 (fun u r => ((gi (ttb u) 1).toInt = (gi (ttb σ) 1).toInt))) 0 0 (dL g).2.2.2.1 := by
  refine met_W RX0 (by decide) rfl (Nat.le_of_ble_eq_true rfl) ?_
  intro p e s m args below meth c C hr hlocks h ls hl
  have hx := C.1.1
  have hb := C.1.2.1
  have hml := C.1.2.2.1
  have hown := C.1.2.2.2.1
  have hts := C.1.2.2.2.2
  have hl : lv_has ls 1 [(0, .ref (g.2.2.1 99))] := hl
  have hlpq : (gi (ttb σ) 1).toInt = (gi (ttb σ) 1).toInt := rfl
  have hldq : (gi (ttb σ) 3).toInt = (gi (ttb σ) 3).toInt := rfl
  have zlm1 : (-1 : Int32).toInt = -1 := rfl
  have zl0 : (0 : Int32).toInt = 0 := rfl
  have zl1 : (1 : Int32).toInt = 1 := rfl
  have zl6 : (6 : Int32).toInt = 6 := rfl
  refine lv_aload_n hx hb dX0_strike_0 rfl (lv_at hl 0 rfl) ?_
  refine lv_aload_n hx hb dX0_strike_1 rfl (lv_at hl 0 rfl) ?_
  refine L_at (rest := [.ref (g.2.2.1 99)]) C h ⟨Nat.le_of_ble_eq_true rfl, Nat.le_of_ble_eq_true rfl⟩ hl.1 (Nat.le_of_ble_eq_true rfl) ⟨Nat.le_of_ble_eq_true rfl, Nat.le_of_ble_eq_true rfl⟩ dX0_strike_2 (fun H locs h => ?_)
  refine L_t3 C h dX0_strike_5 ?_
  have j17 : ∀ (t0_17 : Int32) (H : Heap) (locs : List Loc) (ls : Array Slot) (ej17 : (if (gi (ttb σ) 3) = (0 : Int32) then ((6 : Int32)) else ((0 : Int32))) = t0_17) (hI17 : (0 < t0_17.toInt) ∨ (1 ≤ (gi (ttb σ) 3).toInt)) (h : wH (dL g) σ s H locs) (hl : lv_has ls 1 [(0, .ref (g.2.2.1 99))]), W p l e ({ frames := 1, cells := 0, slots := 0, locals := 20 } : Room) s m args below meth c H locs 0 0 (MQ below (wQi (dL g) (f_X0_strike σ).1 (f_X0_strike σ).2 (fun u r => ((gi (ttb u) 1).toInt = (gi (ttb σ) 1).toInt))) args s 0 0 (dL g).2.2.2.1) (F0 m 17 ls [.int t0_17, .ref (g.2.2.1 99)]) := by
    intro t0_17 H locs ls ej17 hI17 h hl
    have et0_17 := ej17.symm
    refine L_p7 C h dX0_strike_17 (fun σ17 H locs eσ17 h => ?_)
    have hNEW : (0 ≤ (gi (ttb σ17) 1).toInt ∧ (gi (ttb σ17) 1).toInt ≤ 6) ∧ (0 ≤ (gi (ttb σ17) 3).toInt ∧ (gi (ttb σ17) 3).toInt ≤ 16 ∧ (gi (ttb σ17) 3).toInt ≤ (g.1.2.1 50 : Int)) ∧ ((gi (ttb σ17) 1).toInt = (gi (ttb σ) 1).toInt) ∧ ((gi (ttb σ17) 3).toInt = (gi (ttb σ) 3).toInt) := ⟨(by rw [eσ17] <;> exact hlp), (by rw [eσ17] <;> exact hld), (by rw [eσ17] <;> exact hlpq), (by rw [eσ17] <;> exact hldq)⟩
    obtain ⟨hlp, hld, hlpq, hldq⟩ := hNEW
    have q7_17 : (gi (own σ17) 7).toInt = t0_17.toInt := by rw [eσ17]; rfl
    refine lv_aload_n hx hb dX0_strike_20 rfl (lv_at hl 0 rfl) ?_
    refine L_g7 C h dX0_strike_21 ?_
    refine lv_if_le (tgt := 29) hx hb dX0_strike_24 (by decide) (fun c24 => ?_) (fun c24 => ?_)
    · have i24 := c_le c24
      refine lv_aload_n hx hb dX0_strike_29 rfl (lv_at hl 0 rfl) ?_
      refine L_at (rest := []) C h ⟨Nat.le_of_ble_eq_true rfl, Nat.le_of_ble_eq_true rfl⟩ hl.1 (Nat.le_of_ble_eq_true rfl) ⟨Nat.le_of_ble_eq_true rfl, Nat.le_of_ble_eq_true rfl⟩ dX0_strike_30 (fun H locs h => ?_)
      refine lv_dup hx hb dX0_strike_33 rfl ?_
      refine L_t3 C h dX0_strike_34 ?_
      refine lv_iconst (v := 1) hx hb dX0_strike_37 (by decide) ?_
      refine lv_isub hx hb dX0_strike_38 ?_
      refine L_u3 C h dX0_strike_39 (fun σ39 H locs eσ39 h => ?_)
      have hNEW : (0 ≤ (gi (ttb σ39) 1).toInt ∧ (gi (ttb σ39) 1).toInt ≤ 6) ∧ (0 ≤ (gi (ttb σ39) 3).toInt ∧ (gi (ttb σ39) 3).toInt ≤ 16 ∧ (gi (ttb σ39) 3).toInt ≤ (g.1.2.1 50 : Int)) ∧ ((gi (ttb σ39) 1).toInt = (gi (ttb σ) 1).toInt) := ⟨(by rw [eσ39] <;> exact hlp), (by rw [eσ39]; show 0 ≤ ((gi (ttb σ17) 3) - (1 : Int32)).toInt ∧ ((gi (ttb σ17) 3) - (1 : Int32)).toInt ≤ 16 ∧ ((gi (ttb σ17) 3) - (1 : Int32)).toInt ≤ (g.1.2.1 50 : Int); rw [i_sub rfl zl1 (by omega)]; omega), (by rw [eσ39] <;> exact hlpq)⟩
      clear hlp hld hlpq
      obtain ⟨hlp, hld, hlpq⟩ := hNEW
      have q39 : (gi (ttb σ39) 3).toInt = (gi (ttb σ17) 3).toInt - 1 := by rw [eσ39]; exact i_sub rfl zl1 (by omega)
      refine lv_aload_n hx hb dX0_strike_42 rfl (lv_at hl 0 rfl) ?_
      refine L_at (rest := []) C h ⟨Nat.le_of_ble_eq_true rfl, Nat.le_of_ble_eq_true rfl⟩ hl.1 (Nat.le_of_ble_eq_true rfl) ⟨Nat.le_of_ble_eq_true rfl, Nat.le_of_ble_eq_true rfl⟩ dX0_strike_43 (fun H locs h => ?_)
      refine L_t9 C h dX0_strike_46 ?_
      refine lv_aload_n hx hb dX0_strike_49 rfl (lv_at hl 0 rfl) ?_
      refine L_at (rest := [.ref (g.1.2.1 9)]) C h ⟨Nat.le_of_ble_eq_true rfl, Nat.le_of_ble_eq_true rfl⟩ hl.1 (Nat.le_of_ble_eq_true rfl) ⟨Nat.le_of_ble_eq_true rfl, Nat.le_of_ble_eq_true rfl⟩ dX0_strike_50 (fun H locs h => ?_)
      refine L_t3 C h dX0_strike_53 ?_
      refine L_l29 C h (ix_of (rfl : (gi (ttb σ39) 3).toInt = (gi (ttb σ39) 3).toInt) (by omega)) dX0_strike_56 ?_
      have he : f_X0_strike σ = (σ39, (ga (ttb σ39) 9 (gi (ttb σ39) 3))) := (by have et0_17 := et0_17.symm; subst et0_17; have eσ17 := eσ17.symm; subst eσ17; have eσ39 := eσ39.symm; subst eσ39; exact ((if_pos c24).trans rfl))
      exact w_reti (wXL g) C h hr hlocks (congrArg Prod.fst he) (congrArg Prod.snd he) hlpq dX0_strike_57
    · have i24 := c_nle c24
      refine lv_iconst (v := -1) hx hb dX0_strike_27 (by decide) ?_
      have he : f_X0_strike σ = (σ17, (-1 : Int32)) := (by have et0_17 := et0_17.symm; subst et0_17; have eσ17 := eσ17.symm; subst eσ17; exact ((if_neg c24).trans rfl))
      exact w_reti (wXL g) C h hr hlocks (congrArg Prod.fst he) (congrArg Prod.snd he) hlpq dX0_strike_28
  refine lv_if_ne (tgt := 16) hx hb dX0_strike_8 (by decide) (fun c8 => ?_) (fun c8 => ?_)
  · have i8 := c_ne c8
    refine lv_iconst (v := 0) hx hb dX0_strike_16 (by decide) ?_
    exact j17 _ _ _ _ (by exact ((if_neg c8).trans rfl)) (by first | assumption | omega) h hl
  · have i8 := c_eq c8
    refine lv_bipush (v := 6) hx hb dX0_strike_11 (by decide) ?_
    refine lv_goto (tgt := 17) hx hb dX0_strike_13 (by decide) ?_
    exact j17 _ _ _ _ (by exact ((if_pos c8).trans rfl)) (by first | assumption | omega) h hl
def f_X0_pay (σ : MS × MS) (p1 : Int32) : (MS × MS) × Int32 := (let r3 := (f_X0_isPerson σ p1); (let jj30 := (fun (t0_30 : Int32) (σJ30 : (MS × MS)) => (let σ30 := lsi σJ30 7 t0_30; if (gi (own σ30) 7) ≤ (0 : Int32) then ((σ30, (ga (ttb σ30) 11 p1))) else ((σ30, (-1 : Int32))))); if r3 = (0 : Int32) then (jj30 (1 : Int32) σ) else ((let z18 := (f_X5_pays (ttb σ) p1); let σ18 := tput σ z18.1; let r18 := z18.2; if r18 = (0 : Int32) then (jj30 (7 : Int32) σ18) else (jj30 (0 : Int32) σ18)))))
set_option maxHeartbeats 4000000 in
set_option maxRecDepth 100000 in
theorem k_X0_pay (l : Launch) (g : GL) (σ : MS × MS) (p1 : Int32) (hlp : 0 ≤ (gi (ttb σ) 1).toInt ∧ (gi (ttb σ) 1).toInt ≤ 6) (hld : 0 ≤ (gi (ttb σ) 3).toInt ∧ (gi (ttb σ) 3).toInt ≤ 16 ∧ (gi (ttb σ) 3).toInt ≤ (g.1.2.1 50 : Int)) : Met l yX0_pay (ws_ yX0_pay cX0_pay 2 (some .int)) ({ frames := 5, cells := 0, slots := 0, locals := 113 } : Room) (wPc (dL g) (g.2.2.1 99) σ [.int p1]) (wQi (dL g) (f_X0_pay σ p1).1 (f_X0_pay σ p1).2 (fun u r => ((gi (ttb u) 1).toInt = (gi (ttb σ) 1).toInt) ∧ ((gi (ttb u) 3).toInt = (gi (ttb σ) 3).toInt))) 0 0 (dL g).2.2.2.1 := by
  refine met_W RX0 (by decide) rfl (Nat.le_of_ble_eq_true rfl) ?_
  intro p e s m args below meth c C hr hlocks h ls hl
  have hx := C.1.1
  have hb := C.1.2.1
  have hml := C.1.2.2.1
  have hown := C.1.2.2.2.1
  have hts := C.1.2.2.2.2
  have hl : lv_has ls 2 [(0, .ref (g.2.2.1 99)), (1, .int p1)] := hl
  have hlpq : (gi (ttb σ) 1).toInt = (gi (ttb σ) 1).toInt := rfl
  have hldq : (gi (ttb σ) 3).toInt = (gi (ttb σ) 3).toInt := rfl
  have zlm1 : (-1 : Int32).toInt = -1 := rfl
  have zl0 : (0 : Int32).toInt = 0 := rfl
  have zl1 : (1 : Int32).toInt = 1 := rfl
  have zl7 : (7 : Int32).toInt = 7 := rfl
  refine lv_aload_n hx hb dX0_pay_0 rfl (lv_at hl 0 rfl) ?_
  refine lv_aload_n hx hb dX0_pay_1 rfl (lv_at hl 0 rfl) ?_
  refine lv_iload_n hx hb dX0_pay_2 rfl (lv_at hl 1 rfl) ?_
  refine w_callz (ci := 0) (q0 := 6) (As := [.int p1]) (rest := [.ref (g.2.2.1 99)]) 1 (wXL g) C h (k_X0_isPerson l g σ p1 (by first | assumption | omega)) (lw_V q1024 q1026 qs41 q144 q1027) rfl rfl rfl rfl (by decide +kernel) ⟨Nat.le_of_ble_eq_true rfl, Nat.le_of_ble_eq_true rfl⟩ rfl hl.1 rfl (Nat.le_of_ble_eq_true rfl) ⟨Nat.le_of_ble_eq_true rfl, Nat.le_of_ble_eq_true rfl⟩ dX0_pay_3 (fun r3 σ3 H locs eσ3 er3 br3 hE3 h => ?_)
  rw [eσ3] at h
  clear hE3
  clear eσ3
  have j30 : ∀ (t0_30 : Int32) (σJ30 : (MS × MS)) (H : Heap) (locs : List Loc) (ls : Array Slot) (ej30 : f_X0_pay σ p1 = (let σ30 := lsi σJ30 7 t0_30; if (gi (own σ30) 7) ≤ (0 : Int32) then ((σ30, (ga (ttb σ30) 11 p1))) else ((σ30, (-1 : Int32))))) (hI30 : (0 < t0_30.toInt) ∨ (0 ≤ p1.toInt ∧ p1.toInt < (gi (ttb σJ30) 1).toInt)) (hlp : 0 ≤ (gi (ttb σJ30) 1).toInt ∧ (gi (ttb σJ30) 1).toInt ≤ 6) (hld : 0 ≤ (gi (ttb σJ30) 3).toInt ∧ (gi (ttb σJ30) 3).toInt ≤ 16 ∧ (gi (ttb σJ30) 3).toInt ≤ (g.1.2.1 50 : Int)) (hlpq : (gi (ttb σJ30) 1).toInt = (gi (ttb σ) 1).toInt) (hldq : (gi (ttb σJ30) 3).toInt = (gi (ttb σ) 3).toInt) (h : wH (dL g) σJ30 s H locs) (hl : lv_has ls 2 [(0, .ref (g.2.2.1 99)), (1, .int p1)]), W p l e ({ frames := 5, cells := 0, slots := 0, locals := 113 } : Room) s m args below meth c H locs 0 0 (MQ below (wQi (dL g) (f_X0_pay σ p1).1 (f_X0_pay σ p1).2 (fun u r => ((gi (ttb u) 1).toInt = (gi (ttb σ) 1).toInt) ∧ ((gi (ttb u) 3).toInt = (gi (ttb σ) 3).toInt))) args s 0 0 (dL g).2.2.2.1) (F0 m 30 ls [.int t0_30, .ref (g.2.2.1 99)]) := by
    intro t0_30 σJ30 H locs ls ej30 hI30 hlp hld hlpq hldq h hl
    refine L_p7 C h dX0_pay_30 (fun σ30 H locs eσ30 h => ?_)
    have hNEW : (0 ≤ (gi (ttb σ30) 1).toInt ∧ (gi (ttb σ30) 1).toInt ≤ 6) ∧ (0 ≤ (gi (ttb σ30) 3).toInt ∧ (gi (ttb σ30) 3).toInt ≤ 16 ∧ (gi (ttb σ30) 3).toInt ≤ (g.1.2.1 50 : Int)) ∧ ((gi (ttb σ30) 1).toInt = (gi (ttb σ) 1).toInt) ∧ ((gi (ttb σ30) 3).toInt = (gi (ttb σ) 3).toInt) := ⟨(by rw [eσ30] <;> exact hlp), (by rw [eσ30] <;> exact hld), (by rw [eσ30] <;> exact hlpq), (by rw [eσ30] <;> exact hldq)⟩
    obtain ⟨hlp, hld, hlpq, hldq⟩ := hNEW
    have q7_30 : (gi (own σ30) 7).toInt = t0_30.toInt := by rw [eσ30]; rfl
    refine lv_aload_n hx hb dX0_pay_33 rfl (lv_at hl 0 rfl) ?_
    refine L_g7 C h dX0_pay_34 ?_
    refine lv_if_le (tgt := 44) hx hb dX0_pay_37 (by decide) (fun c37 => ?_) (fun c37 => ?_)
    · have i37 := c_le c37
      refine lv_aload_n hx hb dX0_pay_44 rfl (lv_at hl 0 rfl) ?_
      refine L_at (rest := []) C h ⟨Nat.le_of_ble_eq_true rfl, Nat.le_of_ble_eq_true rfl⟩ hl.1 (Nat.le_of_ble_eq_true rfl) ⟨Nat.le_of_ble_eq_true rfl, Nat.le_of_ble_eq_true rfl⟩ dX0_pay_45 (fun H locs h => ?_)
      refine L_t11 C h dX0_pay_48 ?_
      refine lv_iload_n hx hb dX0_pay_51 rfl (lv_at hl 1 rfl) ?_
      refine L_l211 C h (ix_of (rfl : p1.toInt = p1.toInt) (by omega)) dX0_pay_52 ?_
      have he : f_X0_pay σ p1 = (σ30, (ga (ttb σ30) 11 p1)) := (by have eσ30 := eσ30.symm; subst eσ30; exact (ej30.trans ((if_pos c37).trans rfl)))
      exact w_reti (wXL g) C h hr hlocks (congrArg Prod.fst he) (congrArg Prod.snd he) ⟨hlpq, hldq⟩ dX0_pay_53
    · have i37 := c_nle c37
      refine lv_iconst (v := -1) hx hb dX0_pay_40 (by decide) ?_
      refine lv_goto (tgt := 53) hx hb dX0_pay_41 (by decide) ?_
      have he : f_X0_pay σ p1 = (σ30, (-1 : Int32)) := (by have eσ30 := eσ30.symm; subst eσ30; exact (ej30.trans ((if_neg c37).trans rfl)))
      exact w_reti (wXL g) C h hr hlocks (congrArg Prod.fst he) (congrArg Prod.snd he) ⟨hlpq, hldq⟩ dX0_pay_53
  refine lv_if_ne (tgt := 13) hx hb dX0_pay_6 (by decide) (fun c6 => ?_) (fun c6 => ?_)
  · have i6 := c_ne c6
    have okr3 := lIsPerson_ok hlp er3 c6
    refine lv_aload_n hx hb dX0_pay_13 rfl (lv_at hl 0 rfl) ?_
    refine L_at (rest := [.ref (g.2.2.1 99)]) C h ⟨Nat.le_of_ble_eq_true rfl, Nat.le_of_ble_eq_true rfl⟩ hl.1 (Nat.le_of_ble_eq_true rfl) ⟨Nat.le_of_ble_eq_true rfl, Nat.le_of_ble_eq_true rfl⟩ dX0_pay_14 (fun H locs h => ?_)
    refine lv_iload_n hx hb dX0_pay_17 rfl (lv_at hl 1 rfl) ?_
    refine L_tcallz (As := [.int p1]) (rest := [.ref (g.2.2.1 99)]) 1 C h (k_X5_pays l g.1 (ttb σ) p1 (by first | assumption | omega) (by first | assumption | omega) (by first | assumption | omega)) (lw_V q1139 q1140 q1141 q151 q1142) rfl rfl (by decide +kernel) ⟨Nat.le_of_ble_eq_true rfl, Nat.le_of_ble_eq_true rfl⟩ rfl hl.1 rfl (Nat.le_of_ble_eq_true rfl) ⟨Nat.le_of_ble_eq_true rfl, Nat.le_of_ble_eq_true rfl⟩ dX0_pay_18 (fun r18 σ18 H locs eσ18 er18 br18 hE18 h => ?_)
    have hE18 : ((gi (ttb σ18) 1).toInt = (gi (ttb σ) 1).toInt) ∧ ((gi (ttb σ18) 3).toInt = (gi (ttb σ) 3).toInt) ∧ (Fr [6, 7] [11, 12, 13] (fun _ => False) (fun _ => False) (ttb σ) (ttb σ18)) := hE18
    obtain ⟨htpq_18, htdq_18, hXF_18⟩ := hE18
    have hNEW : (0 ≤ (gi (ttb σ18) 1).toInt ∧ (gi (ttb σ18) 1).toInt ≤ 6) ∧ (0 ≤ (gi (ttb σ18) 3).toInt ∧ (gi (ttb σ18) 3).toInt ≤ 16 ∧ (gi (ttb σ18) 3).toInt ≤ (g.1.2.1 50 : Int)) ∧ ((gi (ttb σ18) 1).toInt = (gi (ttb σ) 1).toInt) ∧ ((gi (ttb σ18) 3).toInt = (gi (ttb σ) 3).toInt) := ⟨(by first | assumption | omega), (by first | assumption | omega), (by first | assumption | omega), (by first | assumption | omega)⟩
    obtain ⟨hlp, hld, hlpq, hldq⟩ := hNEW
    refine lv_if_eq (tgt := 28) hx hb dX0_pay_21 (by decide) (fun c21 => ?_) (fun c21 => ?_)
    · have i21 := c_eq c21
      refine lv_bipush (v := 7) hx hb dX0_pay_28 (by decide) ?_
      exact j30 _ _ _ _ _ (by have er3 := er3.symm; subst er3; have eσ18 := eσ18.symm; subst eσ18; have er18 := er18.symm; subst er18; exact ((if_neg c6).trans ((if_pos c21).trans rfl))) (by first | assumption | omega) hlp hld hlpq hldq h hl
    · have i21 := c_ne c21
      refine lv_iconst (v := 0) hx hb dX0_pay_24 (by decide) ?_
      refine lv_goto (tgt := 30) hx hb dX0_pay_25 (by decide) ?_
      exact j30 _ _ _ _ _ (by have er3 := er3.symm; subst er3; have eσ18 := eσ18.symm; subst eσ18; have er18 := er18.symm; subst er18; exact ((if_neg c6).trans ((if_neg c21).trans rfl))) (by first | assumption | omega) hlp hld hlpq hldq h hl
  · have i6 := c_eq c6
    refine lv_iconst (v := 1) hx hb dX0_pay_9 (by decide) ?_
    refine lv_goto (tgt := 30) hx hb dX0_pay_10 (by decide) ?_
    exact j30 _ _ _ _ _ (by have er3 := er3.symm; subst er3; exact ((if_pos c6).trans rfl)) (by first | assumption | omega) hlp hld hlpq hldq h hl
