/-! walks of methods by contract, printed by gen/mkwalk.py -/
set_option maxRecDepth 100000
def f_J11_bitCount (p0 : Int32) : Int32 := (let v9 := (p0 - (((p0.toUInt32 >>> ((1 : Int32).toUInt32 &&& Int32.toUInt32 31)).toInt32) &&& (1431655765 : Int32))); let v23 := ((v9 &&& (858993459 : Int32)) + (((v9.toUInt32 >>> ((2 : Int32).toUInt32 &&& Int32.toUInt32 31)).toInt32) &&& (858993459 : Int32))); let v33 := ((v23 + ((v23.toUInt32 >>> ((4 : Int32).toUInt32 &&& Int32.toUInt32 31)).toInt32)) &&& (252645135 : Int32)); let v40 := (v33 + ((v33.toUInt32 >>> ((8 : Int32).toUInt32 &&& Int32.toUInt32 31)).toInt32)); let v47 := (v40 + ((v40.toUInt32 >>> ((16 : Int32).toUInt32 &&& Int32.toUInt32 31)).toInt32)); (v47 &&& (63 : Int32)))
set_option maxHeartbeats 4000000 in
set_option maxRecDepth 100000 in
theorem k_J11_bitCount (l : Launch) (p0 : Int32) : Met l yJ11_bitCount (ws_ yJ11_bitCount cJ11_bitCount 1 (some .int)) ({ frames := 0, cells := 0, slots := 0, locals := 0 } : Room) (sPc [.int p0]) (sQi (f_J11_bitCount p0)) 0 0 (fun _ => False) := by
  refine met_S RJ11 (by decide) rfl rfl (Nat.le_of_ble_eq_true rfl) ?_
  intro p e s m args below meth c C hr hlocks _ _ _ ls hl
  have hx := C.1
  have hb := C.2.1
  have hml := C.2.2.1
  have hown := C.2.2.2.1
  have hts := C.2.2.2.2
  have h : va_S (fun _ => False) s.heap s.heap [] := va_S.rf
  have hl : lv_has ls 1 [(0, .int p0)] := hl
  refine lv_iload_n hx hb dJ11_bitCount_0 rfl (lv_at hl 0 rfl) ?_
  refine lv_iload_n hx hb dJ11_bitCount_1 rfl (lv_at hl 0 rfl) ?_
  refine lv_iconst (v := 1) hx hb dJ11_bitCount_2 (by decide) ?_
  refine lv_iushr (v := ((p0.toUInt32 >>> ((1 : Int32).toUInt32 &&& Int32.toUInt32 31)).toInt32)) hx hb dJ11_bitCount_3 rfl ?_
  refine lv_ldcw hx hb hown (hts _ q1012) dJ11_bitCount_4 ?_
  refine lv_iand hx hb dJ11_bitCount_7 ?_
  refine lv_isub hx hb dJ11_bitCount_8 ?_
  refine lv_topi (fun v9 ev9 => ?_)
  refine lv_istore_n (lv' := [(0, .int v9)]) hx hb dJ11_bitCount_9 rfl hl (by decide) rfl (fun ls hl => ?_)
  refine lv_iload_n hx hb dJ11_bitCount_10 rfl (lv_at hl 0 rfl) ?_
  refine lv_ldcw hx hb hown (hts _ q1013) dJ11_bitCount_11 ?_
  refine lv_iand hx hb dJ11_bitCount_14 ?_
  refine lv_iload_n hx hb dJ11_bitCount_15 rfl (lv_at hl 0 rfl) ?_
  refine lv_iconst (v := 2) hx hb dJ11_bitCount_16 (by decide) ?_
  refine lv_iushr (v := ((v9.toUInt32 >>> ((2 : Int32).toUInt32 &&& Int32.toUInt32 31)).toInt32)) hx hb dJ11_bitCount_17 rfl ?_
  refine lv_ldcw hx hb hown (hts _ q1013) dJ11_bitCount_18 ?_
  refine lv_iand hx hb dJ11_bitCount_21 ?_
  refine lv_iadd hx hb dJ11_bitCount_22 ?_
  refine lv_topi (fun v23 ev23 => ?_)
  refine lv_istore_n (lv' := [(0, .int v23)]) hx hb dJ11_bitCount_23 rfl hl (by decide) rfl (fun ls hl => ?_)
  refine lv_iload_n hx hb dJ11_bitCount_24 rfl (lv_at hl 0 rfl) ?_
  refine lv_iload_n hx hb dJ11_bitCount_25 rfl (lv_at hl 0 rfl) ?_
  refine lv_iconst (v := 4) hx hb dJ11_bitCount_26 (by decide) ?_
  refine lv_iushr (v := ((v23.toUInt32 >>> ((4 : Int32).toUInt32 &&& Int32.toUInt32 31)).toInt32)) hx hb dJ11_bitCount_27 rfl ?_
  refine lv_iadd hx hb dJ11_bitCount_28 ?_
  refine lv_ldcw hx hb hown (hts _ q1014) dJ11_bitCount_29 ?_
  refine lv_iand hx hb dJ11_bitCount_32 ?_
  refine lv_topi (fun v33 ev33 => ?_)
  refine lv_istore_n (lv' := [(0, .int v33)]) hx hb dJ11_bitCount_33 rfl hl (by decide) rfl (fun ls hl => ?_)
  refine lv_iload_n hx hb dJ11_bitCount_34 rfl (lv_at hl 0 rfl) ?_
  refine lv_iload_n hx hb dJ11_bitCount_35 rfl (lv_at hl 0 rfl) ?_
  refine lv_bipush (v := 8) hx hb dJ11_bitCount_36 (by decide) ?_
  refine lv_iushr (v := ((v33.toUInt32 >>> ((8 : Int32).toUInt32 &&& Int32.toUInt32 31)).toInt32)) hx hb dJ11_bitCount_38 rfl ?_
  refine lv_iadd hx hb dJ11_bitCount_39 ?_
  refine lv_topi (fun v40 ev40 => ?_)
  refine lv_istore_n (lv' := [(0, .int v40)]) hx hb dJ11_bitCount_40 rfl hl (by decide) rfl (fun ls hl => ?_)
  refine lv_iload_n hx hb dJ11_bitCount_41 rfl (lv_at hl 0 rfl) ?_
  refine lv_iload_n hx hb dJ11_bitCount_42 rfl (lv_at hl 0 rfl) ?_
  refine lv_bipush (v := 16) hx hb dJ11_bitCount_43 (by decide) ?_
  refine lv_iushr (v := ((v40.toUInt32 >>> ((16 : Int32).toUInt32 &&& Int32.toUInt32 31)).toInt32)) hx hb dJ11_bitCount_45 rfl ?_
  refine lv_iadd hx hb dJ11_bitCount_46 ?_
  refine lv_topi (fun v47 ev47 => ?_)
  refine lv_istore_n (lv' := [(0, .int v47)]) hx hb dJ11_bitCount_47 rfl hl (by decide) rfl (fun ls hl => ?_)
  refine lv_iload_n hx hb dJ11_bitCount_48 rfl (lv_at hl 0 rfl) ?_
  refine lv_bipush (v := 63) hx hb dJ11_bitCount_49 (by decide) ?_
  refine lv_iand hx hb dJ11_bitCount_51 ?_
  have he : f_J11_bitCount p0 = (v47 &&& (63 : Int32)) := (by have ev9 := ev9.symm; subst ev9; have ev23 := ev23.symm; subst ev23; have ev33 := ev33.symm; subst ev33; have ev40 := ev40.symm; subst ev40; have ev47 := ev47.symm; subst ev47; exact rfl)
  exact s_reti C hr hlocks h he dJ11_bitCount_52
theorem bc_k : ∀ n, n < 64 → f_J11_bitCount (nI n) = 0 → n = 0 := by decide +kernel
theorem bc_ne {x p : Int32} (h : 0 ≤ x.toInt ∧ x.toInt ≤ 63) (hp : 0 ≤ p.toInt ∧ p.toInt ≤ 31) (c : ¬ (x >>> (p &&& 31)) &&& 1 = 0) : ¬ f_J11_bitCount x = 0 := by
  obtain ⟨j, hj, rfl⟩ := small_nI (n := 63) h
  obtain ⟨k, hk, rfl⟩ := small_nI (n := 31) hp
  intro q
  have := bc_k j (by omega) q
  subst this
  exact c (sk_k k (by omega))
theorem ev_rng {x : Int32} (h : 0 ≤ x.toInt ∧ x.toInt ≤ 6) : 0 ≤ (((1 : Int32) <<< (x &&& 31)) - 1).toInt ∧ (((1 : Int32) <<< (x &&& 31)) - 1).toInt ≤ 63 := by
  obtain ⟨j, hj, rfl⟩ := small_nI (n := 6) h
  exact ev_k j (by omega)
def f_X5_bill_L4 (σ : MS) : Nat → Int32 → Int32 → Int32 × Int32
  | 0, x1_4, x2_4 => (x1_4, x2_4)
  | n + 1, x1_4, x2_4 => if (gi σ 3) ≤ x2_4 then ((x1_4, x2_4)) else ((let v20 := (x1_4 + (ga σ 9 x2_4)); f_X5_bill_L4 σ n v20 (x2_4 + (1 : Int32))))
def f_X5_bill (σ : MS) : Int32 := (let zL4 := f_X5_bill_L4 σ (17) (0 : Int32) (0 : Int32); let x1_4e := zL4.1; let x2_4e := zL4.2; x1_4e)
set_option maxHeartbeats 4000000 in
set_option maxRecDepth 100000 in
theorem k_X5_bill (l : Launch) (g : GT) (σ : MS) (htd : 0 ≤ (gi σ 3).toInt ∧ (gi σ 3).toInt ≤ 16 ∧ (gi σ 3).toInt ≤ (g.2.1 50 : Int)) : Met l yX5_bill (ws_ yX5_bill cX5_bill 3 (some .int)) ({ frames := 0, cells := 0, slots := 0, locals := 0 } : Room) (wPc (dT g) (g.2.1 99) σ []) (wQi (dT g) σ (f_X5_bill σ) (fun u r => True)) 0 0 (dT g).2.2.2.1 := by
  refine met_W RX5 (by decide) rfl (Nat.le_of_ble_eq_true rfl) ?_
  intro p e s m args below meth c C hr hlocks h ls hl
  have hx := C.1.1
  have hb := C.1.2.1
  have hml := C.1.2.2.1
  have hown := C.1.2.2.2.1
  have hts := C.1.2.2.2.2
  have hl : lv_has ls 3 [(0, .ref (g.2.1 99))] := hl
  have zl0 : (0 : Int32).toInt = 0 := rfl
  have zl1 : (1 : Int32).toInt = 1 := rfl
  refine lv_iconst (v := 0) hx hb dX5_bill_0 (by decide) ?_
  refine lv_istore_n (lv' := [(1, .int (0 : Int32)), (0, .ref (g.2.1 99))]) hx hb dX5_bill_1 rfl hl (by decide) rfl (fun ls hl => ?_)
  refine lv_iconst (v := 0) hx hb dX5_bill_2 (by decide) ?_
  refine lv_istore_n (lv' := [(2, .int (0 : Int32)), (1, .int (0 : Int32)), (0, .ref (g.2.1 99))]) hx hb dX5_bill_3 rfl hl (by decide) rfl (fun ls hl => ?_)
  have hL4 : ∀ (n : Nat) (x1_4 : Int32) (x2_4 : Int32) (H : Heap) (locs : List Loc) (ls : Array Slot), (0 ≤ x2_4.toInt ∧ x2_4.toInt ≤ (gi σ 3).toInt) → ((gi σ 3).toInt - x2_4.toInt).toNat < n → wH (dT g) σ s H locs → lv_has ls 3 [(0, .ref (g.2.1 99)), (1, .int x1_4), (2, .int x2_4)] → (∀ (x1_4' : Int32) (x2_4' : Int32) (H : Heap) (locs : List Loc) (ls : Array Slot), f_X5_bill_L4 σ n x1_4 x2_4 = (x1_4', x2_4') → (0 ≤ x2_4'.toInt ∧ x2_4'.toInt ≤ (gi σ 3).toInt) → wH (dT g) σ s H locs → lv_has ls 3 [(1, .int x1_4')] → W p l e ({ frames := 0, cells := 0, slots := 0, locals := 0 } : Room) s m args below meth c H locs 0 0 (MQ below (wQi (dT g) σ (f_X5_bill σ) (fun u r => True)) args s 0 0 (dT g).2.2.2.1) (F0 m 27 ls [])) → W p l e ({ frames := 0, cells := 0, slots := 0, locals := 0 } : Room) s m args below meth c H locs 0 0 (MQ below (wQi (dT g) σ (f_X5_bill σ) (fun u r => True)) args s 0 0 (dT g).2.2.2.1) (F0 m 4 ls []) := by
    intro n
    induction n with
    | zero =>
      intro x1_4 x2_4 H locs ls _ hm; exact absurd hm (Nat.not_lt_zero _)
    | succ n ih =>
      intro x1_4 x2_4 H locs ls hI4 hm h hl kk
      refine lv_iload_n hx hb dX5_bill_4 rfl (lv_at hl 2 rfl) ?_
      refine lv_aload_n hx hb dX5_bill_5 rfl (lv_at hl 0 rfl) ?_
      refine T_g3 C h dX5_bill_6 ?_
      refine lv_icmp_ge (tgt := 27) hx hb dX5_bill_9 (by decide) (fun c9 => ?_) (fun c9 => ?_)
      · have i9 := c_le c9
        exact kk x1_4 x2_4 _ _ _ (show f_X5_bill_L4 σ (n + 1) x1_4 x2_4 = (x1_4, x2_4) from (by exact ((if_pos c9).trans rfl)))  (by first | assumption | omega) h (lv_sub hl [1] rfl)
      · have i9 := c_nle c9
        refine lv_iload_n hx hb dX5_bill_12 rfl (lv_at hl 1 rfl) ?_
        refine lv_aload_n hx hb dX5_bill_13 rfl (lv_at hl 0 rfl) ?_
        refine T_g9 C h dX5_bill_14 ?_
        refine lv_iload_n hx hb dX5_bill_17 rfl (lv_at hl 2 rfl) ?_
        refine T_l9 C h (ix_of (rfl : x2_4.toInt = x2_4.toInt) (by omega)) dX5_bill_18 ?_
        refine lv_iadd hx hb dX5_bill_19 ?_
        refine lv_topi (fun v20 ev20 => ?_)
        refine lv_istore_n (lv' := [(1, .int v20), (0, .ref (g.2.1 99)), (2, .int x2_4)]) hx hb dX5_bill_20 rfl hl (by decide) rfl (fun ls hl => ?_)
        refine lv_iinc (v := (x2_4 + (1 : Int32))) (lv' := [(2, .int (x2_4 + (1 : Int32))), (1, .int v20), (0, .ref (g.2.1 99))]) hx hb dX5_bill_21 hl (k := 2) rfl rfl (by decide) rfl (fun ls hl => ?_)
        refine lv_goto (tgt := 4) hx hb dX5_bill_24 (by decide) ?_
        have tt2 : (x2_4 + (1 : Int32)).toInt = (x2_4.toInt + (1)) := (i_add (rfl : x2_4.toInt = x2_4.toInt) zl1 (by omega))
        exact ih v20 (x2_4 + (1 : Int32)) _ _ _  (by first | assumption | omega) (by omega) h (lv_sub hl [2, 1, 0] rfl) (fun x1_4' x2_4' H locs ls en hI h hl => kk x1_4' x2_4' H locs ls ((show f_X5_bill_L4 σ (n + 1) x1_4 x2_4 = f_X5_bill_L4 σ n v20 (x2_4 + (1 : Int32)) from (by have ev20 := ev20.symm; subst ev20; exact ((if_neg c9).trans rfl))).trans en) hI h hl)
  refine hL4 (17) (0 : Int32) (0 : Int32) _ _ _  (by first | assumption | omega) (by omega) h (lv_sub hl [2, 1, 0] rfl) (fun x1_4e x2_4e H locs ls eL4 hI4 h hl => ?_)
  have ex1_4e : x1_4e = (f_X5_bill_L4 σ (17) (0 : Int32) (0 : Int32)).1 := by rw [eL4]
  have ex2_4e : x2_4e = (f_X5_bill_L4 σ (17) (0 : Int32) (0 : Int32)).2 := by rw [eL4]
  refine lv_iload_n hx hb dX5_bill_27 rfl (lv_at hl 0 rfl) ?_
  have he : f_X5_bill σ = x1_4e := (by have ex1_4e := ex1_4e.symm; subst ex1_4e; have ex2_4e := ex2_4e.symm; subst ex2_4e; exact rfl)
  exact w_reti (wXT g) C h hr hlocks rfl he trivial dX5_bill_28
def f_X5_had_L4 (σ : MS) (y1_4 : Int32) : Nat → Int32 → Int32 → Int32 × Int32
  | 0, x2_4, x3_4 => (x2_4, x3_4)
  | n + 1, x2_4, x3_4 => if (gi σ 3) ≤ x3_4 then ((x2_4, x3_4)) else ((let z33_ : Int32 := (if (ga σ 10 x3_4) = y1_4 then ((ga σ 9 x3_4)) else ((0 : Int32))); let t0_33 := z33_; (let v34 := (x2_4 + t0_33); f_X5_had_L4 σ y1_4 n v34 (x3_4 + (1 : Int32)))))
def f_X5_had (σ : MS) (p1 : Int32) : Int32 := (let zL4 := f_X5_had_L4 σ p1 (17) (0 : Int32) (0 : Int32); let x2_4e := zL4.1; let x3_4e := zL4.2; x2_4e)
set_option maxHeartbeats 4000000 in
set_option maxRecDepth 100000 in
theorem k_X5_had (l : Launch) (g : GT) (σ : MS) (p1 : Int32) (htd : 0 ≤ (gi σ 3).toInt ∧ (gi σ 3).toInt ≤ 16 ∧ (gi σ 3).toInt ≤ (g.2.1 50 : Int)) : Met l yX5_had (ws_ yX5_had cX5_had 4 (some .int)) ({ frames := 0, cells := 0, slots := 0, locals := 0 } : Room) (wPc (dT g) (g.2.1 99) σ [.int p1]) (wQi (dT g) σ (f_X5_had σ p1) (fun u r => True)) 0 0 (dT g).2.2.2.1 := by
  refine met_W RX5 (by decide) rfl (Nat.le_of_ble_eq_true rfl) ?_
  intro p e s m args below meth c C hr hlocks h ls hl
  have hx := C.1.1
  have hb := C.1.2.1
  have hml := C.1.2.2.1
  have hown := C.1.2.2.2.1
  have hts := C.1.2.2.2.2
  have hl : lv_has ls 4 [(0, .ref (g.2.1 99)), (1, .int p1)] := hl
  have zl0 : (0 : Int32).toInt = 0 := rfl
  have zl1 : (1 : Int32).toInt = 1 := rfl
  refine lv_iconst (v := 0) hx hb dX5_had_0 (by decide) ?_
  refine lv_istore_n (lv' := [(2, .int (0 : Int32)), (0, .ref (g.2.1 99)), (1, .int p1)]) hx hb dX5_had_1 rfl hl (by decide) rfl (fun ls hl => ?_)
  refine lv_iconst (v := 0) hx hb dX5_had_2 (by decide) ?_
  refine lv_istore_n (lv' := [(3, .int (0 : Int32)), (2, .int (0 : Int32)), (0, .ref (g.2.1 99)), (1, .int p1)]) hx hb dX5_had_3 rfl hl (by decide) rfl (fun ls hl => ?_)
  have hL4 : ∀ (n : Nat) (x2_4 : Int32) (x3_4 : Int32) (H : Heap) (locs : List Loc) (ls : Array Slot), (0 ≤ x3_4.toInt ∧ x3_4.toInt ≤ (gi σ 3).toInt) → ((gi σ 3).toInt - x3_4.toInt).toNat < n → wH (dT g) σ s H locs → lv_has ls 4 [(0, .ref (g.2.1 99)), (1, .int p1), (2, .int x2_4), (3, .int x3_4)] → (∀ (x2_4' : Int32) (x3_4' : Int32) (H : Heap) (locs : List Loc) (ls : Array Slot), f_X5_had_L4 σ p1 n x2_4 x3_4 = (x2_4', x3_4') → (0 ≤ x3_4'.toInt ∧ x3_4'.toInt ≤ (gi σ 3).toInt) → wH (dT g) σ s H locs → lv_has ls 4 [(2, .int x2_4')] → W p l e ({ frames := 0, cells := 0, slots := 0, locals := 0 } : Room) s m args below meth c H locs 0 0 (MQ below (wQi (dT g) σ (f_X5_had σ p1) (fun u r => True)) args s 0 0 (dT g).2.2.2.1) (F0 m 41 ls [])) → W p l e ({ frames := 0, cells := 0, slots := 0, locals := 0 } : Room) s m args below meth c H locs 0 0 (MQ below (wQi (dT g) σ (f_X5_had σ p1) (fun u r => True)) args s 0 0 (dT g).2.2.2.1) (F0 m 4 ls []) := by
    intro n
    induction n with
    | zero =>
      intro x2_4 x3_4 H locs ls _ hm; exact absurd hm (Nat.not_lt_zero _)
    | succ n ih =>
      intro x2_4 x3_4 H locs ls hI4 hm h hl kk
      refine lv_iload_n hx hb dX5_had_4 rfl (lv_at hl 3 rfl) ?_
      refine lv_aload_n hx hb dX5_had_5 rfl (lv_at hl 0 rfl) ?_
      refine T_g3 C h dX5_had_6 ?_
      refine lv_icmp_ge (tgt := 41) hx hb dX5_had_9 (by decide) (fun c9 => ?_) (fun c9 => ?_)
      · have i9 := c_le c9
        exact kk x2_4 x3_4 _ _ _ (show f_X5_had_L4 σ p1 (n + 1) x2_4 x3_4 = (x2_4, x3_4) from (by exact ((if_pos c9).trans rfl)))  (by first | assumption | omega) h (lv_sub hl [2] rfl)
      · have i9 := c_nle c9
        refine lv_iload_n hx hb dX5_had_12 rfl (lv_at hl 2 rfl) ?_
        refine lv_aload_n hx hb dX5_had_13 rfl (lv_at hl 0 rfl) ?_
        refine T_g10 C h dX5_had_14 ?_
        refine lv_iload_n hx hb dX5_had_17 rfl (lv_at hl 3 rfl) ?_
        refine T_l10 C h (ix_of (rfl : x3_4.toInt = x3_4.toInt) (by omega)) dX5_had_18 ?_
        refine lv_iload_n hx hb dX5_had_19 rfl (lv_at hl 1 rfl) ?_
        have j33 : ∀ (t0_33 : Int32) (H : Heap) (locs : List Loc) (ls : Array Slot) (ej33 : (if (ga σ 10 x3_4) = p1 then ((ga σ 9 x3_4)) else ((0 : Int32))) = t0_33) (h : wH (dT g) σ s H locs) (hl : lv_has ls 4 [(0, .ref (g.2.1 99)), (1, .int p1), (3, .int x3_4)]), W p l e ({ frames := 0, cells := 0, slots := 0, locals := 0 } : Room) s m args below meth c H locs 0 0 (MQ below (wQi (dT g) σ (f_X5_had σ p1) (fun u r => True)) args s 0 0 (dT g).2.2.2.1) (F0 m 33 ls [.int t0_33, .int x2_4]) := by
          intro t0_33 H locs ls ej33 h hl
          have et0_33 := ej33.symm
          refine lv_iadd hx hb dX5_had_33 ?_
          refine lv_topi (fun v34 ev34 => ?_)
          refine lv_istore_n (lv' := [(2, .int v34), (0, .ref (g.2.1 99)), (1, .int p1), (3, .int x3_4)]) hx hb dX5_had_34 rfl hl (by decide) rfl (fun ls hl => ?_)
          refine lv_iinc (v := (x3_4 + (1 : Int32))) (lv' := [(3, .int (x3_4 + (1 : Int32))), (2, .int v34), (0, .ref (g.2.1 99)), (1, .int p1)]) hx hb dX5_had_35 hl (k := 3) rfl rfl (by decide) rfl (fun ls hl => ?_)
          refine lv_goto (tgt := 4) hx hb dX5_had_38 (by decide) ?_
          have tt3 : (x3_4 + (1 : Int32)).toInt = (x3_4.toInt + (1)) := (i_add (rfl : x3_4.toInt = x3_4.toInt) zl1 (by omega))
          exact ih v34 (x3_4 + (1 : Int32)) _ _ _  (by first | assumption | omega) (by omega) h (lv_sub hl [2, 3, 1, 0] rfl) (fun x2_4' x3_4' H locs ls en hI h hl => kk x2_4' x3_4' H locs ls ((show f_X5_had_L4 σ p1 (n + 1) x2_4 x3_4 = f_X5_had_L4 σ p1 n v34 (x3_4 + (1 : Int32)) from (by have et0_33 := et0_33.symm; subst et0_33; have ev34 := ev34.symm; subst ev34; exact ((if_neg c9).trans rfl))).trans en) hI h hl)
        refine lv_icmp_ne (tgt := 32) hx hb dX5_had_20 (by decide) (fun c20 => ?_) (fun c20 => ?_)
        · have i20 := c_ne c20
          refine lv_iconst (v := 0) hx hb dX5_had_32 (by decide) ?_
          exact j33 _ _ _ _ (by exact ((if_neg c20).trans rfl)) h (lv_sub hl [0, 1, 3] rfl)
        · have i20 := c_eq c20
          refine lv_aload_n hx hb dX5_had_23 rfl (lv_at hl 0 rfl) ?_
          refine T_g9 C h dX5_had_24 ?_
          refine lv_iload_n hx hb dX5_had_27 rfl (lv_at hl 3 rfl) ?_
          refine T_l9 C h (ix_of (rfl : x3_4.toInt = x3_4.toInt) (by omega)) dX5_had_28 ?_
          refine lv_goto (tgt := 33) hx hb dX5_had_29 (by decide) ?_
          exact j33 _ _ _ _ (by exact ((if_pos c20).trans rfl)) h (lv_sub hl [0, 1, 3] rfl)
  refine hL4 (17) (0 : Int32) (0 : Int32) _ _ _  (by first | assumption | omega) (by omega) h (lv_sub hl [2, 3, 1, 0] rfl) (fun x2_4e x3_4e H locs ls eL4 hI4 h hl => ?_)
  have ex2_4e : x2_4e = (f_X5_had_L4 σ p1 (17) (0 : Int32) (0 : Int32)).1 := by rw [eL4]
  have ex3_4e : x3_4e = (f_X5_had_L4 σ p1 (17) (0 : Int32) (0 : Int32)).2 := by rw [eL4]
  refine lv_iload_n hx hb dX5_had_41 rfl (lv_at hl 0 rfl) ?_
  have he : f_X5_had σ p1 = x2_4e := (by have ex2_4e := ex2_4e.symm; subst ex2_4e; have ex3_4e := ex3_4e.symm; subst ex3_4e; exact rfl)
  exact w_reti (wXT g) C h hr hlocks rfl he trivial dX5_had_42
def f_X5_part (p0 : Int32) (p1 : Int32) (p2 : Int32) : Int32 := if ((p1 >>> (p2 &&& (31 : Int32))) &&& (1 : Int32)) = (0 : Int32) then ((0 : Int32)) else ((let r11 := (f_J11_bitCount p1); let r22 := (f_J11_bitCount (p1 &&& (((1 : Int32) <<< (p2 &&& (31 : Int32))) - (1 : Int32)))); if (p0 - ((p0 / r11) * r11)) ≤ r22 then (((p0 / r11) + (0 : Int32))) else (((p0 / r11) + (1 : Int32)))))
set_option maxHeartbeats 4000000 in
set_option maxRecDepth 100000 in
theorem k_X5_part (l : Launch) (p0 : Int32) (p1 : Int32) (p2 : Int32) (hset : 0 ≤ p1.toInt ∧ p1.toInt ≤ 63) (hpp : 0 ≤ p2.toInt ∧ p2.toInt ≤ 5) : Met l yX5_part (ws_ yX5_part cX5_part 5 (some .int)) ({ frames := 1, cells := 0, slots := 0, locals := 20 } : Room) (sPc [.int p0, .int p1, .int p2]) (sQi (f_X5_part p0 p1 p2)) 0 0 (fun _ => False) := by
  refine met_S RX5 (by decide) rfl rfl (Nat.le_of_ble_eq_true rfl) ?_
  intro p e s m args below meth c C hr hlocks _ _ _ ls hl
  have hx := C.1
  have hb := C.2.1
  have hml := C.2.2.1
  have hown := C.2.2.2.1
  have hts := C.2.2.2.2
  have h : va_S (fun _ => False) s.heap s.heap [] := va_S.rf
  have hl : lv_has ls 5 [(0, .int p0), (1, .int p1), (2, .int p2)] := hl
  have zl0 : (0 : Int32).toInt = 0 := rfl
  have zl1 : (1 : Int32).toInt = 1 := rfl
  refine lv_iload_n hx hb dX5_part_0 rfl (lv_at hl 1 rfl) ?_
  refine lv_iload_n hx hb dX5_part_1 rfl (lv_at hl 2 rfl) ?_
  refine lv_ishr hx hb dX5_part_2 ?_
  refine lv_iconst (v := 1) hx hb dX5_part_3 (by decide) ?_
  refine lv_iand hx hb dX5_part_4 ?_
  refine lv_if_ne (tgt := 10) hx hb dX5_part_5 (by decide) (fun c5 => ?_) (fun c5 => ?_)
  · have i5 := c_ne c5
    refine lv_iload_n hx hb dX5_part_10 rfl (lv_at hl 1 rfl) ?_
    refine s_calli (As := [.int p1]) (rest := []) 1 C (k_J11_bitCount l p1) (lw_S q1056 q1010 q170 q1011) rfl rfl (by decide +kernel) ⟨Nat.le_of_ble_eq_true rfl, Nat.le_of_ble_eq_true rfl⟩ rfl hl.1 rfl (Nat.le_of_ble_eq_true rfl) ⟨Nat.le_of_ble_eq_true rfl, Nat.le_of_ble_eq_true rfl⟩ dX5_part_11 h (fun r11 H locs er11 hz1 hk1 hS1 => ?_)
    have h := hS1
    clear hz1 hk1 hS1
    refine lv_istore_n (lv' := [(3, .int r11), (0, .int p0), (1, .int p1), (2, .int p2)]) hx hb dX5_part_14 rfl hl (by decide) rfl (fun ls hl => ?_)
    refine lv_iload_n hx hb dX5_part_15 rfl (lv_at hl 2 rfl) ?_
    refine lv_iconst (v := 1) hx hb dX5_part_16 (by decide) ?_
    refine lv_iload_n hx hb dX5_part_17 rfl (lv_at hl 3 rfl) ?_
    refine lv_ishl hx hb dX5_part_18 ?_
    refine lv_iconst (v := 1) hx hb dX5_part_19 (by decide) ?_
    refine lv_isub hx hb dX5_part_20 ?_
    refine lv_iand hx hb dX5_part_21 ?_
    refine s_calli (As := [.int (p1 &&& (((1 : Int32) <<< (p2 &&& (31 : Int32))) - (1 : Int32)))]) (rest := []) 1 C (k_J11_bitCount l (p1 &&& (((1 : Int32) <<< (p2 &&& (31 : Int32))) - (1 : Int32)))) (lw_S q1056 q1010 q170 q1011) rfl rfl (by decide +kernel) ⟨Nat.le_of_ble_eq_true rfl, Nat.le_of_ble_eq_true rfl⟩ rfl hl.1 rfl (Nat.le_of_ble_eq_true rfl) ⟨Nat.le_of_ble_eq_true rfl, Nat.le_of_ble_eq_true rfl⟩ dX5_part_22 h (fun r22 H locs er22 hz1 hk1 hS1 => ?_)
    have h := hS1
    clear hz1 hk1 hS1
    refine lv_istore (lv' := [(4, .int r22), (3, .int r11), (0, .int p0), (1, .int p1), (2, .int p2)]) hx hb dX5_part_25 hl (by decide) rfl (fun ls hl => ?_)
    refine lv_iload_n hx hb dX5_part_27 rfl (lv_at hl 2 rfl) ?_
    refine lv_iload_n hx hb dX5_part_28 rfl (lv_at hl 1 rfl) ?_
    refine lv_idiv hx hb dX5_part_29 (by rw [er11]; exact bc_ne hset (by omega) c5) ?_
    refine lv_iload hx hb dX5_part_30 (lv_at hl 0 rfl) ?_
    refine lv_iload_n hx hb dX5_part_32 rfl (lv_at hl 2 rfl) ?_
    refine lv_iload_n hx hb dX5_part_33 rfl (lv_at hl 1 rfl) ?_
    refine lv_irem hx hb dX5_part_34 (by rw [er11]; exact bc_ne hset (by omega) c5) ?_
    refine lv_icmp_ge (tgt := 42) hx hb dX5_part_35 (by decide) (fun c35 => ?_) (fun c35 => ?_)
    · have i35 := c_le c35
      refine lv_iconst (v := 0) hx hb dX5_part_42 (by decide) ?_
      refine lv_iadd hx hb dX5_part_43 ?_
      have he : f_X5_part p0 p1 p2 = ((p0 / r11) + (0 : Int32)) := (by have er11 := er11.symm; subst er11; have er22 := er22.symm; subst er22; exact ((if_neg c5).trans ((if_pos c35).trans rfl)))
      exact s_reti C hr hlocks h he dX5_part_44
    · have i35 := c_nle c35
      refine lv_iconst (v := 1) hx hb dX5_part_38 (by decide) ?_
      refine lv_goto (tgt := 43) hx hb dX5_part_39 (by decide) ?_
      refine lv_iadd hx hb dX5_part_43 ?_
      have he : f_X5_part p0 p1 p2 = ((p0 / r11) + (1 : Int32)) := (by have er11 := er11.symm; subst er11; have er22 := er22.symm; subst er22; exact ((if_neg c5).trans ((if_neg c35).trans rfl)))
      exact s_reti C hr hlocks h he dX5_part_44
  · have i5 := c_eq c5
    refine lv_iconst (v := 0) hx hb dX5_part_8 (by decide) ?_
    have he : f_X5_part p0 p1 p2 = (0 : Int32) := (by exact ((if_pos c5).trans rfl))
    exact s_reti C hr hlocks h he dX5_part_9
def f_X5_guests_L4 (σ : MS) : Nat → Int32 → Int32 → Int32 × Int32
  | 0, x1_4, x2_4 => (x1_4, x2_4)
  | n + 1, x1_4, x2_4 => if (gi σ 1) ≤ x2_4 then ((x1_4, x2_4)) else ((let z32_ : Int32 := (if (ga σ 26 x2_4) = (0 : Int32) then ((0 : Int32)) else (((1 : Int32) <<< (x2_4 &&& (31 : Int32))))); let t0_32 := z32_; (let v33 := (x1_4 ||| t0_32); f_X5_guests_L4 σ n v33 (x2_4 + (1 : Int32)))))
def f_X5_guests (σ : MS) : Int32 := (let zL4 := f_X5_guests_L4 σ (7) (0 : Int32) (0 : Int32); let x1_4e := zL4.1; let x2_4e := zL4.2; x1_4e)
set_option maxHeartbeats 4000000 in
set_option maxRecDepth 100000 in
theorem k_X5_guests (l : Launch) (g : GT) (σ : MS) (htp : 0 ≤ (gi σ 1).toInt ∧ (gi σ 1).toInt ≤ 6) : Met l yX5_guests (ws_ yX5_guests cX5_guests 3 (some .int)) ({ frames := 0, cells := 0, slots := 0, locals := 0 } : Room) (wPc (dT g) (g.2.1 99) σ []) (wQi (dT g) σ (f_X5_guests σ) (fun u r => (0 ≤ r.toInt ∧ r.toInt ≤ 63))) 0 0 (dT g).2.2.2.1 := by
  refine met_W RX5 (by decide) rfl (Nat.le_of_ble_eq_true rfl) ?_
  intro p e s m args below meth c C hr hlocks h ls hl
  have hx := C.1.1
  have hb := C.1.2.1
  have hml := C.1.2.2.1
  have hown := C.1.2.2.2.1
  have hts := C.1.2.2.2.2
  have hl : lv_has ls 3 [(0, .ref (g.2.1 99))] := hl
  have zl0 : (0 : Int32).toInt = 0 := rfl
  have zl1 : (1 : Int32).toInt = 1 := rfl
  refine lv_iconst (v := 0) hx hb dX5_guests_0 (by decide) ?_
  refine lv_istore_n (lv' := [(1, .int (0 : Int32)), (0, .ref (g.2.1 99))]) hx hb dX5_guests_1 rfl hl (by decide) rfl (fun ls hl => ?_)
  refine lv_iconst (v := 0) hx hb dX5_guests_2 (by decide) ?_
  refine lv_istore_n (lv' := [(2, .int (0 : Int32)), (1, .int (0 : Int32)), (0, .ref (g.2.1 99))]) hx hb dX5_guests_3 rfl hl (by decide) rfl (fun ls hl => ?_)
  have hL4 : ∀ (n : Nat) (x1_4 : Int32) (x2_4 : Int32) (H : Heap) (locs : List Loc) (ls : Array Slot), (0 ≤ x2_4.toInt ∧ x2_4.toInt ≤ (gi σ 1).toInt ∧ 0 ≤ x1_4.toInt ∧ x1_4.toInt ≤ 63) → ((gi σ 1).toInt - x2_4.toInt).toNat < n → wH (dT g) σ s H locs → lv_has ls 3 [(0, .ref (g.2.1 99)), (1, .int x1_4), (2, .int x2_4)] → (∀ (x1_4' : Int32) (x2_4' : Int32) (H : Heap) (locs : List Loc) (ls : Array Slot), f_X5_guests_L4 σ n x1_4 x2_4 = (x1_4', x2_4') → (0 ≤ x2_4'.toInt ∧ x2_4'.toInt ≤ (gi σ 1).toInt ∧ 0 ≤ x1_4'.toInt ∧ x1_4'.toInt ≤ 63) → wH (dT g) σ s H locs → lv_has ls 3 [(1, .int x1_4')] → W p l e ({ frames := 0, cells := 0, slots := 0, locals := 0 } : Room) s m args below meth c H locs 0 0 (MQ below (wQi (dT g) σ (f_X5_guests σ) (fun u r => (0 ≤ r.toInt ∧ r.toInt ≤ 63))) args s 0 0 (dT g).2.2.2.1) (F0 m 40 ls [])) → W p l e ({ frames := 0, cells := 0, slots := 0, locals := 0 } : Room) s m args below meth c H locs 0 0 (MQ below (wQi (dT g) σ (f_X5_guests σ) (fun u r => (0 ≤ r.toInt ∧ r.toInt ≤ 63))) args s 0 0 (dT g).2.2.2.1) (F0 m 4 ls []) := by
    intro n
    induction n with
    | zero =>
      intro x1_4 x2_4 H locs ls _ hm; exact absurd hm (Nat.not_lt_zero _)
    | succ n ih =>
      intro x1_4 x2_4 H locs ls hI4 hm h hl kk
      refine lv_iload_n hx hb dX5_guests_4 rfl (lv_at hl 2 rfl) ?_
      refine lv_aload_n hx hb dX5_guests_5 rfl (lv_at hl 0 rfl) ?_
      refine T_g1 C h dX5_guests_6 ?_
      refine lv_icmp_ge (tgt := 40) hx hb dX5_guests_9 (by decide) (fun c9 => ?_) (fun c9 => ?_)
      · have i9 := c_le c9
        exact kk x1_4 x2_4 _ _ _ (show f_X5_guests_L4 σ (n + 1) x1_4 x2_4 = (x1_4, x2_4) from (by exact ((if_pos c9).trans rfl)))  (by first | assumption | omega) h (lv_sub hl [1] rfl)
      · have i9 := c_nle c9
        refine lv_iload_n hx hb dX5_guests_12 rfl (lv_at hl 1 rfl) ?_
        refine lv_aload_n hx hb dX5_guests_13 rfl (lv_at hl 0 rfl) ?_
        refine T_g0 C h dX5_guests_14 ?_
        refine lv_iload_n hx hb dX5_guests_17 rfl (lv_at hl 2 rfl) ?_
        refine T_pers C h (by omega) dX5_guests_18 ?_
        refine T_f6 C h (by omega) dX5_guests_19 ?_
        have j32 : ∀ (t0_32 : Int32) (H : Heap) (locs : List Loc) (ls : Array Slot) (ej32 : (if (ga σ 26 x2_4) = (0 : Int32) then ((0 : Int32)) else (((1 : Int32) <<< (x2_4 &&& (31 : Int32))))) = t0_32) (hI32 : 0 ≤ t0_32.toInt ∧ t0_32.toInt ≤ 63) (h : wH (dT g) σ s H locs) (hl : lv_has ls 3 [(0, .ref (g.2.1 99)), (2, .int x2_4)]), W p l e ({ frames := 0, cells := 0, slots := 0, locals := 0 } : Room) s m args below meth c H locs 0 0 (MQ below (wQi (dT g) σ (f_X5_guests σ) (fun u r => (0 ≤ r.toInt ∧ r.toInt ≤ 63))) args s 0 0 (dT g).2.2.2.1) (F0 m 32 ls [.int t0_32, .int x1_4]) := by
          intro t0_32 H locs ls ej32 hI32 h hl
          have et0_32 := ej32.symm
          refine lv_ior hx hb dX5_guests_32 ?_
          refine lv_topi (fun v33 ev33 => ?_)
          refine lv_istore_n (lv' := [(1, .int v33), (0, .ref (g.2.1 99)), (2, .int x2_4)]) hx hb dX5_guests_33 rfl hl (by decide) rfl (fun ls hl => ?_)
          have w33 : 0 ≤ v33.toInt ∧ v33.toInt ≤ 63 := by rw [ev33]; exact or63 (by omega) hI32
          refine lv_iinc (v := (x2_4 + (1 : Int32))) (lv' := [(2, .int (x2_4 + (1 : Int32))), (1, .int v33), (0, .ref (g.2.1 99))]) hx hb dX5_guests_34 hl (k := 2) rfl rfl (by decide) rfl (fun ls hl => ?_)
          refine lv_goto (tgt := 4) hx hb dX5_guests_37 (by decide) ?_
          have tt2 : (x2_4 + (1 : Int32)).toInt = (x2_4.toInt + (1)) := (i_add (rfl : x2_4.toInt = x2_4.toInt) zl1 (by omega))
          exact ih v33 (x2_4 + (1 : Int32)) _ _ _  (by first | assumption | omega) (by omega) h (lv_sub hl [2, 1, 0] rfl) (fun x1_4' x2_4' H locs ls en hI h hl => kk x1_4' x2_4' H locs ls ((show f_X5_guests_L4 σ (n + 1) x1_4 x2_4 = f_X5_guests_L4 σ n v33 (x2_4 + (1 : Int32)) from (by have et0_32 := et0_32.symm; subst et0_32; have ev33 := ev33.symm; subst ev33; exact ((if_neg c9).trans rfl))).trans en) hI h hl)
        refine lv_if_eq (tgt := 31) hx hb dX5_guests_22 (by decide) (fun c22 => ?_) (fun c22 => ?_)
        · have i22 := c_eq c22
          refine lv_iconst (v := 0) hx hb dX5_guests_31 (by decide) ?_
          have s32 := shl5_rng (b := x2_4) (by omega)
          exact j32 _ _ _ _ (by exact ((if_pos c22).trans rfl)) (by first | assumption | omega) h (lv_sub hl [0, 2] rfl)
        · have i22 := c_ne c22
          refine lv_iconst (v := 1) hx hb dX5_guests_25 (by decide) ?_
          refine lv_iload_n hx hb dX5_guests_26 rfl (lv_at hl 2 rfl) ?_
          refine lv_ishl hx hb dX5_guests_27 ?_
          refine lv_goto (tgt := 32) hx hb dX5_guests_28 (by decide) ?_
          have tjt0_32 : ((1 : Int32) <<< (x2_4 &&& (31 : Int32))).toInt = ((1 : Int32) <<< (x2_4 &&& (31 : Int32))).toInt := (rfl : ((1 : Int32) <<< (x2_4 &&& (31 : Int32))).toInt = ((1 : Int32) <<< (x2_4 &&& (31 : Int32))).toInt)
          have s32 := shl5_rng (b := x2_4) (by omega)
          exact j32 _ _ _ _ (by exact ((if_neg c22).trans rfl)) (by first | assumption | omega) h (lv_sub hl [0, 2] rfl)
  refine hL4 (7) (0 : Int32) (0 : Int32) _ _ _  (by first | assumption | omega) (by omega) h (lv_sub hl [2, 1, 0] rfl) (fun x1_4e x2_4e H locs ls eL4 hI4 h hl => ?_)
  have ex1_4e : x1_4e = (f_X5_guests_L4 σ (7) (0 : Int32) (0 : Int32)).1 := by rw [eL4]
  have ex2_4e : x2_4e = (f_X5_guests_L4 σ (7) (0 : Int32) (0 : Int32)).2 := by rw [eL4]
  refine lv_iload_n hx hb dX5_guests_40 rfl (lv_at hl 0 rfl) ?_
  have he : f_X5_guests σ = x1_4e := (by have ex1_4e := ex1_4e.symm; subst ex1_4e; have ex2_4e := ex2_4e.symm; subst ex2_4e; exact rfl)
  exact w_reti (wXT g) C h hr hlocks rfl he (by first | assumption | omega | (unfold Hd; omega)) dX5_guests_41
def f_X5_heads (σ : MS) : Int32 := (let v8 := (((1 : Int32) <<< ((gi σ 1) &&& (31 : Int32))) - (1 : Int32)); let r10 := (f_X5_guests σ); if r10 = v8 then (v8) else ((let r23 := (f_X5_guests σ); (v8 &&& (r23 ^^^ (-1 : Int32))))))
set_option maxHeartbeats 4000000 in
set_option maxRecDepth 100000 in
theorem k_X5_heads (l : Launch) (g : GT) (σ : MS) (htp : 0 ≤ (gi σ 1).toInt ∧ (gi σ 1).toInt ≤ 6) : Met l yX5_heads (ws_ yX5_heads cX5_heads 2 (some .int)) ({ frames := 1, cells := 0, slots := 0, locals := 22 } : Room) (wPc (dT g) (g.2.1 99) σ []) (wQi (dT g) σ (f_X5_heads σ) (fun u r => (0 ≤ r.toInt ∧ r.toInt ≤ 63))) 0 0 (dT g).2.2.2.1 := by
  refine met_W RX5 (by decide) rfl (Nat.le_of_ble_eq_true rfl) ?_
  intro p e s m args below meth c C hr hlocks h ls hl
  have hx := C.1.1
  have hb := C.1.2.1
  have hml := C.1.2.2.1
  have hown := C.1.2.2.2.1
  have hts := C.1.2.2.2.2
  have hl : lv_has ls 2 [(0, .ref (g.2.1 99))] := hl
  have zlm1 : (-1 : Int32).toInt = -1 := rfl
  have zl1 : (1 : Int32).toInt = 1 := rfl
  refine lv_iconst (v := 1) hx hb dX5_heads_0 (by decide) ?_
  refine lv_aload_n hx hb dX5_heads_1 rfl (lv_at hl 0 rfl) ?_
  refine T_g1 C h dX5_heads_2 ?_
  refine lv_ishl hx hb dX5_heads_5 ?_
  refine lv_iconst (v := 1) hx hb dX5_heads_6 (by decide) ?_
  refine lv_isub hx hb dX5_heads_7 ?_
  refine lv_topi (fun v8 ev8 => ?_)
  refine lv_istore_n (lv' := [(1, .int v8), (0, .ref (g.2.1 99))]) hx hb dX5_heads_8 rfl hl (by decide) rfl (fun ls hl => ?_)
  have ev8r : 0 ≤ v8.toInt ∧ v8.toInt ≤ 63 := by rw [ev8]; exact ev_rng htp
  refine lv_aload_n hx hb dX5_heads_9 rfl (lv_at hl 1 rfl) ?_
  refine w_calli (ci := 5) (q0 := 0) (As := []) (rest := []) 0 (wXT g) C h (k_X5_guests l g σ (by first | assumption | omega)) (lw_V q1005 q1006 q1007 q151 q1008) rfl rfl rfl rfl (by decide +kernel) ⟨Nat.le_of_ble_eq_true rfl, Nat.le_of_ble_eq_true rfl⟩ rfl hl.1 rfl (Nat.le_of_ble_eq_true rfl) ⟨Nat.le_of_ble_eq_true rfl, Nat.le_of_ble_eq_true rfl⟩ dX5_heads_10 (fun r10 σ10 H locs eσ10 er10 hE10 h => ?_)
  rw [eσ10] at h
  have hE10 : (0 ≤ r10.toInt ∧ r10.toInt ≤ 63) := hE10
  have hrg_10 := hE10
  clear eσ10
  refine lv_iload_n hx hb dX5_heads_13 rfl (lv_at hl 0 rfl) ?_
  refine lv_icmp_ne (tgt := 21) hx hb dX5_heads_14 (by decide) (fun c14 => ?_) (fun c14 => ?_)
  · have i14 := c_ne c14
    refine lv_iload_n hx hb dX5_heads_21 rfl (lv_at hl 0 rfl) ?_
    refine lv_aload_n hx hb dX5_heads_22 rfl (lv_at hl 1 rfl) ?_
    refine w_calli (ci := 5) (q0 := 0) (As := []) (rest := [.int v8]) 0 (wXT g) C h (k_X5_guests l g σ (by first | assumption | omega)) (lw_V q1005 q1006 q1007 q151 q1008) rfl rfl rfl rfl (by decide +kernel) ⟨Nat.le_of_ble_eq_true rfl, Nat.le_of_ble_eq_true rfl⟩ rfl hl.1 rfl (Nat.le_of_ble_eq_true rfl) ⟨Nat.le_of_ble_eq_true rfl, Nat.le_of_ble_eq_true rfl⟩ dX5_heads_23 (fun r23 σ23 H locs eσ23 er23 hE23 h => ?_)
    rw [eσ23] at h
    have hE23 : (0 ≤ r23.toInt ∧ r23.toInt ≤ 63) := hE23
    have hrg_23 := hE23
    clear eσ23
    refine lv_iconst (v := -1) hx hb dX5_heads_26 (by decide) ?_
    refine lv_ixor hx hb dX5_heads_27 ?_
    refine lv_iand hx hb dX5_heads_28 ?_
    have he : f_X5_heads σ = (v8 &&& (r23 ^^^ (-1 : Int32))) := (by have ev8 := ev8.symm; subst ev8; have er10 := er10.symm; subst er10; have er23 := er23.symm; subst er23; exact ((if_neg c14).trans rfl))
    exact w_reti (wXT g) C h hr hlocks rfl he (by first | exact ev8r | exact and63 ev8r) dX5_heads_29
  · have i14 := c_eq c14
    refine lv_iload_n hx hb dX5_heads_17 rfl (lv_at hl 0 rfl) ?_
    refine lv_goto (tgt := 29) hx hb dX5_heads_18 (by decide) ?_
    have he : f_X5_heads σ = v8 := (by have ev8 := ev8.symm; subst ev8; have er10 := er10.symm; subst er10; exact ((if_pos c14).trans rfl))
    exact w_reti (wXT g) C h hr hlocks rfl he (by first | exact ev8r | exact and63 ev8r) dX5_heads_29
def f_X5_eaten (σ : MS) (p1 : Int32) : Int32 := (let r2 := (f_X5_had σ p1); let r7 := (f_X5_had σ (-1 : Int32)); let r19 := (f_X5_part r7 (((1 : Int32) <<< ((gi σ 1) &&& (31 : Int32))) - (1 : Int32)) p1); (r2 + r19))
set_option maxHeartbeats 4000000 in
set_option maxRecDepth 100000 in
theorem k_X5_eaten (l : Launch) (g : GT) (σ : MS) (p1 : Int32) (htp : 0 ≤ (gi σ 1).toInt ∧ (gi σ 1).toInt ≤ 6) (htd : 0 ≤ (gi σ 3).toInt ∧ (gi σ 3).toInt ≤ 16 ∧ (gi σ 3).toInt ≤ (g.2.1 50 : Int)) (h1r : 0 ≤ p1.toInt ∧ p1.toInt ≤ 5) : Met l yX5_eaten (ws_ yX5_eaten cX5_eaten 2 (some .int)) ({ frames := 2, cells := 0, slots := 0, locals := 44 } : Room) (wPc (dT g) (g.2.1 99) σ [.int p1]) (wQi (dT g) σ (f_X5_eaten σ p1) (fun u r => True)) 0 0 (dT g).2.2.2.1 := by
  refine met_W RX5 (by decide) rfl (Nat.le_of_ble_eq_true rfl) ?_
  intro p e s m args below meth c C hr hlocks h ls hl
  have hx := C.1.1
  have hb := C.1.2.1
  have hml := C.1.2.2.1
  have hown := C.1.2.2.2.1
  have hts := C.1.2.2.2.2
  have hl : lv_has ls 2 [(0, .ref (g.2.1 99)), (1, .int p1)] := hl
  have zlm1 : (-1 : Int32).toInt = -1 := rfl
  have zl1 : (1 : Int32).toInt = 1 := rfl
  refine lv_aload_n hx hb dX5_eaten_0 rfl (lv_at hl 0 rfl) ?_
  refine lv_iload_n hx hb dX5_eaten_1 rfl (lv_at hl 1 rfl) ?_
  refine w_calli (ci := 5) (q0 := 0) (As := [.int p1]) (rest := []) 1 (wXT g) C h (k_X5_had l g σ p1 (by first | assumption | omega)) (lw_V q1049 q1050 q1051 q151 q1052) rfl rfl rfl rfl (by decide +kernel) ⟨Nat.le_of_ble_eq_true rfl, Nat.le_of_ble_eq_true rfl⟩ rfl hl.1 rfl (Nat.le_of_ble_eq_true rfl) ⟨Nat.le_of_ble_eq_true rfl, Nat.le_of_ble_eq_true rfl⟩ dX5_eaten_2 (fun r2 σ2 H locs eσ2 er2 hE2 h => ?_)
  rw [eσ2] at h
  clear hE2
  clear eσ2
  refine lv_aload_n hx hb dX5_eaten_5 rfl (lv_at hl 0 rfl) ?_
  refine lv_iconst (v := -1) hx hb dX5_eaten_6 (by decide) ?_
  refine w_calli (ci := 5) (q0 := 0) (As := [.int (-1 : Int32)]) (rest := [.int r2]) 1 (wXT g) C h (k_X5_had l g σ (-1 : Int32) (by first | assumption | omega)) (lw_V q1049 q1050 q1051 q151 q1052) rfl rfl rfl rfl (by decide +kernel) ⟨Nat.le_of_ble_eq_true rfl, Nat.le_of_ble_eq_true rfl⟩ rfl hl.1 rfl (Nat.le_of_ble_eq_true rfl) ⟨Nat.le_of_ble_eq_true rfl, Nat.le_of_ble_eq_true rfl⟩ dX5_eaten_7 (fun r7 σ7 H locs eσ7 er7 hE7 h => ?_)
  rw [eσ7] at h
  clear hE7
  clear eσ7
  refine lv_iconst (v := 1) hx hb dX5_eaten_10 (by decide) ?_
  refine lv_aload_n hx hb dX5_eaten_11 rfl (lv_at hl 0 rfl) ?_
  refine T_g1 C h dX5_eaten_12 ?_
  refine lv_ishl hx hb dX5_eaten_15 ?_
  refine lv_iconst (v := 1) hx hb dX5_eaten_16 (by decide) ?_
  refine lv_isub hx hb dX5_eaten_17 ?_
  refine lv_iload_n hx hb dX5_eaten_18 rfl (lv_at hl 1 rfl) ?_
  refine s_calli (As := [.int r7, .int (((1 : Int32) <<< ((gi σ 1) &&& (31 : Int32))) - (1 : Int32)), .int p1]) (rest := [.int r2]) 3 C.1 (k_X5_part l r7 (((1 : Int32) <<< ((gi σ 1) &&& (31 : Int32))) - (1 : Int32)) p1 (ev_rng htp) (by first | assumption | omega)) (lw_S q1053 q1054 q151 q1055) rfl rfl (by decide +kernel) ⟨Nat.le_of_ble_eq_true rfl, Nat.le_of_ble_eq_true rfl⟩ rfl hl.1 rfl (Nat.le_of_ble_eq_true rfl) ⟨Nat.le_of_ble_eq_true rfl, Nat.le_of_ble_eq_true rfl⟩ dX5_eaten_19 h.2.2.1 (fun r19 H locs er19 hz1 hk1 hS1 => ?_)
  have h := h.same hk1 hS1
  clear hz1 hk1 hS1
  refine lv_iadd hx hb dX5_eaten_22 ?_
  have he : f_X5_eaten σ p1 = (r2 + r19) := (by have er2 := er2.symm; subst er2; have er7 := er7.symm; subst er7; have er19 := er19.symm; subst er19; exact rfl)
  exact w_reti (wXT g) C h hr hlocks rfl he trivial dX5_eaten_23
def f_X5_units_L9 (σ : MS) (y1_9 : Int32) : Nat → Int32 → Int32 → Int32 × Int32
  | 0, x2_9, x3_9 => (x2_9, x3_9)
  | n + 1, x2_9, x3_9 => if (gi σ 1) ≤ x3_9 then ((x2_9, x3_9)) else ((let v26 := (ga σ 25 x3_9); if v26 < (0 : Int32) then (f_X5_units_L9 σ y1_9 n x2_9 (x3_9 + (1 : Int32))) else (if x3_9 ≤ v26 then (f_X5_units_L9 σ y1_9 n x2_9 (x3_9 + (1 : Int32))) else (if ((y1_9 >>> (x3_9 &&& (31 : Int32))) &&& (1 : Int32)) = (1 : Int32) then (if ((y1_9 >>> (v26 &&& (31 : Int32))) &&& (1 : Int32)) = (1 : Int32) then ((let v65 := (x2_9 &&& (((1 : Int32) <<< (x3_9 &&& (31 : Int32))) ^^^ (-1 : Int32))); f_X5_units_L9 σ y1_9 n v65 (x3_9 + (1 : Int32)))) else (f_X5_units_L9 σ y1_9 n x2_9 (x3_9 + (1 : Int32)))) else (f_X5_units_L9 σ y1_9 n x2_9 (x3_9 + (1 : Int32)))))))
def f_X5_units (σ : MS) : Int32 := (let r1 := (f_X5_heads σ); (let zL9 := f_X5_units_L9 σ r1 (7) r1 (0 : Int32); let x2_9e := zL9.1; let x3_9e := zL9.2; x2_9e))
set_option maxHeartbeats 4000000 in
set_option maxRecDepth 100000 in
theorem k_X5_units (l : Launch) (g : GT) (σ : MS) (htp : 0 ≤ (gi σ 1).toInt ∧ (gi σ 1).toInt ≤ 6) : Met l yX5_units (ws_ yX5_units cX5_units 5 (some .int)) ({ frames := 2, cells := 0, slots := 0, locals := 43 } : Room) (wPc (dT g) (g.2.1 99) σ []) (wQi (dT g) σ (f_X5_units σ) (fun u r => (0 ≤ r.toInt ∧ r.toInt ≤ 63))) 0 0 (dT g).2.2.2.1 := by
  refine met_W RX5 (by decide) rfl (Nat.le_of_ble_eq_true rfl) ?_
  intro p e s m args below meth c C hr hlocks h ls hl
  have hx := C.1.1
  have hb := C.1.2.1
  have hml := C.1.2.2.1
  have hown := C.1.2.2.2.1
  have hts := C.1.2.2.2.2
  have hl : lv_has ls 5 [(0, .ref (g.2.1 99))] := hl
  have zlm1 : (-1 : Int32).toInt = -1 := rfl
  have zl0 : (0 : Int32).toInt = 0 := rfl
  have zl1 : (1 : Int32).toInt = 1 := rfl
  refine lv_aload_n hx hb dX5_units_0 rfl (lv_at hl 0 rfl) ?_
  refine w_calli (ci := 5) (q0 := 0) (As := []) (rest := []) 0 (wXT g) C h (k_X5_heads l g σ (by first | assumption | omega)) (lw_V q1070 q1002 q1003 q151 q1004) rfl rfl rfl rfl (by decide +kernel) ⟨Nat.le_of_ble_eq_true rfl, Nat.le_of_ble_eq_true rfl⟩ rfl hl.1 rfl (Nat.le_of_ble_eq_true rfl) ⟨Nat.le_of_ble_eq_true rfl, Nat.le_of_ble_eq_true rfl⟩ dX5_units_1 (fun r1 σ1 H locs eσ1 er1 hE1 h => ?_)
  rw [eσ1] at h
  have hE1 : (0 ≤ r1.toInt ∧ r1.toInt ≤ 63) := hE1
  have hrg_1 := hE1
  clear eσ1
  refine lv_istore_n (lv' := [(1, .int r1), (0, .ref (g.2.1 99))]) hx hb dX5_units_4 rfl hl (by decide) rfl (fun ls hl => ?_)
  refine lv_iload_n hx hb dX5_units_5 rfl (lv_at hl 0 rfl) ?_
  refine lv_istore_n (lv' := [(2, .int r1), (1, .int r1), (0, .ref (g.2.1 99))]) hx hb dX5_units_6 rfl hl (by decide) rfl (fun ls hl => ?_)
  refine lv_iconst (v := 0) hx hb dX5_units_7 (by decide) ?_
  refine lv_istore_n (lv' := [(3, .int (0 : Int32)), (2, .int r1), (1, .int r1), (0, .ref (g.2.1 99))]) hx hb dX5_units_8 rfl hl (by decide) rfl (fun ls hl => ?_)
  have hL9 : ∀ (n : Nat) (x2_9 : Int32) (x3_9 : Int32) (H : Heap) (locs : List Loc) (ls : Array Slot), (0 ≤ x3_9.toInt ∧ x3_9.toInt ≤ (gi σ 1).toInt ∧ 0 ≤ x2_9.toInt ∧ x2_9.toInt ≤ 63) → ((gi σ 1).toInt - x3_9.toInt).toNat < n → wH (dT g) σ s H locs → lv_has ls 5 [(0, .ref (g.2.1 99)), (1, .int r1), (2, .int x2_9), (3, .int x3_9)] → (∀ (x2_9' : Int32) (x3_9' : Int32) (H : Heap) (locs : List Loc) (ls : Array Slot), f_X5_units_L9 σ r1 n x2_9 x3_9 = (x2_9', x3_9') → (0 ≤ x3_9'.toInt ∧ x3_9'.toInt ≤ (gi σ 1).toInt ∧ 0 ≤ x2_9'.toInt ∧ x2_9'.toInt ≤ 63) → wH (dT g) σ s H locs → lv_has ls 5 [(2, .int x2_9')] → W p l e ({ frames := 2, cells := 0, slots := 0, locals := 43 } : Room) s m args below meth c H locs 0 0 (MQ below (wQi (dT g) σ (f_X5_units σ) (fun u r => (0 ≤ r.toInt ∧ r.toInt ≤ 63))) args s 0 0 (dT g).2.2.2.1) (F0 m 72 ls [])) → W p l e ({ frames := 2, cells := 0, slots := 0, locals := 43 } : Room) s m args below meth c H locs 0 0 (MQ below (wQi (dT g) σ (f_X5_units σ) (fun u r => (0 ≤ r.toInt ∧ r.toInt ≤ 63))) args s 0 0 (dT g).2.2.2.1) (F0 m 9 ls []) := by
    intro n
    induction n with
    | zero =>
      intro x2_9 x3_9 H locs ls _ hm; exact absurd hm (Nat.not_lt_zero _)
    | succ n ih =>
      intro x2_9 x3_9 H locs ls hI9 hm h hl kk
      refine lv_iload_n hx hb dX5_units_9 rfl (lv_at hl 3 rfl) ?_
      refine lv_aload_n hx hb dX5_units_10 rfl (lv_at hl 0 rfl) ?_
      refine T_g1 C h dX5_units_11 ?_
      refine lv_icmp_ge (tgt := 72) hx hb dX5_units_14 (by decide) (fun c14 => ?_) (fun c14 => ?_)
      · have i14 := c_le c14
        exact kk x2_9 x3_9 _ _ _ (show f_X5_units_L9 σ r1 (n + 1) x2_9 x3_9 = (x2_9, x3_9) from (by exact ((if_pos c14).trans rfl)))  (by first | assumption | omega) h (lv_sub hl [2] rfl)
      · have i14 := c_nle c14
        refine lv_aload_n hx hb dX5_units_17 rfl (lv_at hl 0 rfl) ?_
        refine T_g0 C h dX5_units_18 ?_
        refine lv_iload_n hx hb dX5_units_21 rfl (lv_at hl 3 rfl) ?_
        refine T_pers C h (by omega) dX5_units_22 ?_
        refine T_f5 C h (by omega) dX5_units_23 ?_
        refine lv_topi (fun v26 ev26 => ?_)
        refine lv_istore (lv' := [(4, .int v26), (0, .ref (g.2.1 99)), (1, .int r1), (2, .int x2_9), (3, .int x3_9)]) hx hb dX5_units_26 hl (by decide) rfl (fun ls hl => ?_)
        refine lv_iload hx hb dX5_units_28 (lv_at hl 0 rfl) ?_
        refine lv_if_lt (tgt := 66) hx hb dX5_units_30 (by decide) (fun c30 => ?_) (fun c30 => ?_)
        · have i30 := c_lt c30
          refine lv_iinc (v := (x3_9 + (1 : Int32))) (lv' := [(3, .int (x3_9 + (1 : Int32))), (4, .int v26), (0, .ref (g.2.1 99)), (1, .int r1), (2, .int x2_9)]) hx hb dX5_units_66 hl (k := 4) rfl rfl (by decide) rfl (fun ls hl => ?_)
          refine lv_goto (tgt := 9) hx hb dX5_units_69 (by decide) ?_
          have tt3 : (x3_9 + (1 : Int32)).toInt = (x3_9.toInt + (1)) := (i_add (rfl : x3_9.toInt = x3_9.toInt) zl1 (by omega))
          exact ih x2_9 (x3_9 + (1 : Int32)) _ _ _  (by first | assumption | omega) (by omega) h (lv_sub hl [2, 3, 4, 0] rfl) (fun x2_9' x3_9' H locs ls en hI h hl => kk x2_9' x3_9' H locs ls ((show f_X5_units_L9 σ r1 (n + 1) x2_9 x3_9 = f_X5_units_L9 σ r1 n x2_9 (x3_9 + (1 : Int32)) from (by have ev26 := ev26.symm; subst ev26; exact ((if_neg c14).trans ((if_pos c30).trans rfl)))).trans en) hI h hl)
        · have i30 := c_nlt c30
          refine lv_iload hx hb dX5_units_33 (lv_at hl 0 rfl) ?_
          refine lv_iload_n hx hb dX5_units_35 rfl (lv_at hl 4 rfl) ?_
          refine lv_icmp_ge (tgt := 66) hx hb dX5_units_36 (by decide) (fun c36 => ?_) (fun c36 => ?_)
          · have i36 := c_le c36
            refine lv_iinc (v := (x3_9 + (1 : Int32))) (lv' := [(3, .int (x3_9 + (1 : Int32))), (4, .int v26), (0, .ref (g.2.1 99)), (1, .int r1), (2, .int x2_9)]) hx hb dX5_units_66 hl (k := 4) rfl rfl (by decide) rfl (fun ls hl => ?_)
            refine lv_goto (tgt := 9) hx hb dX5_units_69 (by decide) ?_
            have tt3 : (x3_9 + (1 : Int32)).toInt = (x3_9.toInt + (1)) := (i_add (rfl : x3_9.toInt = x3_9.toInt) zl1 (by omega))
            exact ih x2_9 (x3_9 + (1 : Int32)) _ _ _  (by first | assumption | omega) (by omega) h (lv_sub hl [2, 3, 4, 0] rfl) (fun x2_9' x3_9' H locs ls en hI h hl => kk x2_9' x3_9' H locs ls ((show f_X5_units_L9 σ r1 (n + 1) x2_9 x3_9 = f_X5_units_L9 σ r1 n x2_9 (x3_9 + (1 : Int32)) from (by have ev26 := ev26.symm; subst ev26; exact ((if_neg c14).trans ((if_neg c30).trans ((if_pos c36).trans rfl))))).trans en) hI h hl)
          · have i36 := c_nle c36
            refine lv_iload_n hx hb dX5_units_39 rfl (lv_at hl 2 rfl) ?_
            refine lv_iload_n hx hb dX5_units_40 rfl (lv_at hl 4 rfl) ?_
            refine lv_ishr hx hb dX5_units_41 ?_
            refine lv_iconst (v := 1) hx hb dX5_units_42 (by decide) ?_
            refine lv_iand hx hb dX5_units_43 ?_
            refine lv_iconst (v := 1) hx hb dX5_units_44 (by decide) ?_
            refine lv_icmp_ne (tgt := 66) hx hb dX5_units_45 (by decide) (fun c45 => ?_) (fun c45 => ?_)
            · have i45 := c_ne c45
              refine lv_iinc (v := (x3_9 + (1 : Int32))) (lv' := [(3, .int (x3_9 + (1 : Int32))), (4, .int v26), (0, .ref (g.2.1 99)), (1, .int r1), (2, .int x2_9)]) hx hb dX5_units_66 hl (k := 4) rfl rfl (by decide) rfl (fun ls hl => ?_)
              refine lv_goto (tgt := 9) hx hb dX5_units_69 (by decide) ?_
              have tt3 : (x3_9 + (1 : Int32)).toInt = (x3_9.toInt + (1)) := (i_add (rfl : x3_9.toInt = x3_9.toInt) zl1 (by omega))
              exact ih x2_9 (x3_9 + (1 : Int32)) _ _ _  (by first | assumption | omega) (by omega) h (lv_sub hl [2, 3, 4, 0] rfl) (fun x2_9' x3_9' H locs ls en hI h hl => kk x2_9' x3_9' H locs ls ((show f_X5_units_L9 σ r1 (n + 1) x2_9 x3_9 = f_X5_units_L9 σ r1 n x2_9 (x3_9 + (1 : Int32)) from (by have ev26 := ev26.symm; subst ev26; exact ((if_neg c14).trans ((if_neg c30).trans ((if_neg c36).trans ((if_neg c45).trans rfl)))))).trans en) hI h hl)
            · have i45 := c_eq c45
              refine lv_iload_n hx hb dX5_units_48 rfl (lv_at hl 2 rfl) ?_
              refine lv_iload hx hb dX5_units_49 (lv_at hl 0 rfl) ?_
              refine lv_ishr hx hb dX5_units_51 ?_
              refine lv_iconst (v := 1) hx hb dX5_units_52 (by decide) ?_
              refine lv_iand hx hb dX5_units_53 ?_
              refine lv_iconst (v := 1) hx hb dX5_units_54 (by decide) ?_
              refine lv_icmp_ne (tgt := 66) hx hb dX5_units_55 (by decide) (fun c55 => ?_) (fun c55 => ?_)
              · have i55 := c_ne c55
                refine lv_iinc (v := (x3_9 + (1 : Int32))) (lv' := [(3, .int (x3_9 + (1 : Int32))), (4, .int v26), (0, .ref (g.2.1 99)), (1, .int r1), (2, .int x2_9)]) hx hb dX5_units_66 hl (k := 4) rfl rfl (by decide) rfl (fun ls hl => ?_)
                refine lv_goto (tgt := 9) hx hb dX5_units_69 (by decide) ?_
                have tt3 : (x3_9 + (1 : Int32)).toInt = (x3_9.toInt + (1)) := (i_add (rfl : x3_9.toInt = x3_9.toInt) zl1 (by omega))
                exact ih x2_9 (x3_9 + (1 : Int32)) _ _ _  (by first | assumption | omega) (by omega) h (lv_sub hl [2, 3, 4, 0] rfl) (fun x2_9' x3_9' H locs ls en hI h hl => kk x2_9' x3_9' H locs ls ((show f_X5_units_L9 σ r1 (n + 1) x2_9 x3_9 = f_X5_units_L9 σ r1 n x2_9 (x3_9 + (1 : Int32)) from (by have ev26 := ev26.symm; subst ev26; exact ((if_neg c14).trans ((if_neg c30).trans ((if_neg c36).trans ((if_pos c45).trans ((if_neg c55).trans rfl))))))).trans en) hI h hl)
              · have i55 := c_eq c55
                refine lv_iload_n hx hb dX5_units_58 rfl (lv_at hl 3 rfl) ?_
                refine lv_iconst (v := 1) hx hb dX5_units_59 (by decide) ?_
                refine lv_iload_n hx hb dX5_units_60 rfl (lv_at hl 4 rfl) ?_
                refine lv_ishl hx hb dX5_units_61 ?_
                refine lv_iconst (v := -1) hx hb dX5_units_62 (by decide) ?_
                refine lv_ixor hx hb dX5_units_63 ?_
                refine lv_iand hx hb dX5_units_64 ?_
                refine lv_topi (fun v65 ev65 => ?_)
                refine lv_istore_n (lv' := [(2, .int v65), (4, .int v26), (0, .ref (g.2.1 99)), (1, .int r1), (3, .int x3_9)]) hx hb dX5_units_65 rfl hl (by decide) rfl (fun ls hl => ?_)
                have w65 : 0 ≤ v65.toInt ∧ v65.toInt ≤ 63 := by rw [ev65]; exact and63 (by omega)
                refine lv_iinc (v := (x3_9 + (1 : Int32))) (lv' := [(3, .int (x3_9 + (1 : Int32))), (2, .int v65), (4, .int v26), (0, .ref (g.2.1 99)), (1, .int r1)]) hx hb dX5_units_66 hl (k := 4) rfl rfl (by decide) rfl (fun ls hl => ?_)
                refine lv_goto (tgt := 9) hx hb dX5_units_69 (by decide) ?_
                have tt3 : (x3_9 + (1 : Int32)).toInt = (x3_9.toInt + (1)) := (i_add (rfl : x3_9.toInt = x3_9.toInt) zl1 (by omega))
                exact ih v65 (x3_9 + (1 : Int32)) _ _ _  (by first | assumption | omega) (by omega) h (lv_sub hl [3, 4, 1, 0] rfl) (fun x2_9' x3_9' H locs ls en hI h hl => kk x2_9' x3_9' H locs ls ((show f_X5_units_L9 σ r1 (n + 1) x2_9 x3_9 = f_X5_units_L9 σ r1 n v65 (x3_9 + (1 : Int32)) from (by have ev26 := ev26.symm; subst ev26; have ev65 := ev65.symm; subst ev65; exact ((if_neg c14).trans ((if_neg c30).trans ((if_neg c36).trans ((if_pos c45).trans ((if_pos c55).trans rfl))))))).trans en) hI h hl)
  refine hL9 (7) r1 (0 : Int32) _ _ _  (by first | assumption | omega) (by omega) h (lv_sub hl [3, 2, 1, 0] rfl) (fun x2_9e x3_9e H locs ls eL9 hI9 h hl => ?_)
  have ex2_9e : x2_9e = (f_X5_units_L9 σ r1 (7) r1 (0 : Int32)).1 := by rw [eL9]
  have ex3_9e : x3_9e = (f_X5_units_L9 σ r1 (7) r1 (0 : Int32)).2 := by rw [eL9]
  refine lv_iload_n hx hb dX5_units_72 rfl (lv_at hl 0 rfl) ?_
  have he : f_X5_units σ = x2_9e := (by have er1 := er1.symm; subst er1; have ex2_9e := ex2_9e.symm; subst ex2_9e; have ex3_9e := ex3_9e.symm; subst ex3_9e; exact rfl)
  exact w_reti (wXT g) C h hr hlocks rfl he (by first | assumption | omega | (unfold Hd; omega)) dX5_units_73
def f_X5_due_L53 (σ : MS) (y1_53 : Int32) : Nat → Int32 → Int32 → Int32 × Int32
  | 0, x3_53, x4_53 => (x3_53, x4_53)
  | n + 1, x3_53, x4_53 => if (gi σ 1) ≤ x4_53 then ((x3_53, x4_53)) else ((let r64 := (f_X5_heads σ); (let z85_ : Int32 := (if ((r64 >>> (x4_53 &&& (31 : Int32))) &&& (1 : Int32)) = (0 : Int32) then ((let r78 := (f_X5_eaten σ x4_53); r78)) else ((0 : Int32))); let t0_85 := z85_; (let v86 := (x3_53 + t0_85); f_X5_due_L53 σ y1_53 n v86 (x4_53 + (1 : Int32))))))
def f_X5_due (σ : MS) (p1 : Int32) (p2 : Int32) : Int32 := if p2 = (0 : Int32) then ((let r5 := (f_X5_bill σ); let r9 := (f_X5_heads σ); let r13 := (f_X5_part r5 r9 p1); r13)) else (if p2 = (2 : Int32) then ((let r23 := (f_X5_bill σ); let r27 := (f_X5_units σ); let r31 := (f_X5_part r23 r27 p1); r31)) else ((let r36 := (f_X5_heads σ); if ((r36 >>> (p1 &&& (31 : Int32))) &&& (1 : Int32)) = (0 : Int32) then ((0 : Int32)) else ((let zL53 := f_X5_due_L53 σ p1 (7) (0 : Int32) (0 : Int32); let x3_53e := zL53.1; let x4_53e := zL53.2; (let r95 := (f_X5_eaten σ p1); let r100 := (f_X5_heads σ); let r104 := (f_X5_part x3_53e r100 p1); (r95 + r104)))))))
set_option maxHeartbeats 4000000 in
set_option maxRecDepth 100000 in
theorem k_X5_due (l : Launch) (g : GT) (σ : MS) (p1 : Int32) (p2 : Int32) (htp : 0 ≤ (gi σ 1).toInt ∧ (gi σ 1).toInt ≤ 6) (htd : 0 ≤ (gi σ 3).toInt ∧ (gi σ 3).toInt ≤ 16 ∧ (gi σ 3).toInt ≤ (g.2.1 50 : Int)) (h1r : 0 ≤ p1.toInt ∧ p1.toInt ≤ 5) : Met l yX5_due (ws_ yX5_due cX5_due 5 (some .int)) ({ frames := 3, cells := 0, slots := 0, locals := 67 } : Room) (wPc (dT g) (g.2.1 99) σ [.int p1, .int p2]) (wQi (dT g) σ (f_X5_due σ p1 p2) (fun u r => True)) 0 0 (dT g).2.2.2.1 := by
  refine met_W RX5 (by decide) rfl (Nat.le_of_ble_eq_true rfl) ?_
  intro p e s m args below meth c C hr hlocks h ls hl
  have hx := C.1.1
  have hb := C.1.2.1
  have hml := C.1.2.2.1
  have hown := C.1.2.2.2.1
  have hts := C.1.2.2.2.2
  have hl : lv_has ls 5 [(0, .ref (g.2.1 99)), (1, .int p1), (2, .int p2)] := hl
  have zl0 : (0 : Int32).toInt = 0 := rfl
  have zl1 : (1 : Int32).toInt = 1 := rfl
  have zl2 : (2 : Int32).toInt = 2 := rfl
  refine lv_iload_n hx hb dX5_due_0 rfl (lv_at hl 2 rfl) ?_
  refine lv_if_ne (tgt := 17) hx hb dX5_due_1 (by decide) (fun c1 => ?_) (fun c1 => ?_)
  · have i1 := c_ne c1
    refine lv_iload_n hx hb dX5_due_17 rfl (lv_at hl 2 rfl) ?_
    refine lv_iconst (v := 2) hx hb dX5_due_18 (by decide) ?_
    refine lv_icmp_ne (tgt := 35) hx hb dX5_due_19 (by decide) (fun c19 => ?_) (fun c19 => ?_)
    · have i19 := c_ne c19
      refine lv_aload_n hx hb dX5_due_35 rfl (lv_at hl 0 rfl) ?_
      refine w_calli (ci := 5) (q0 := 0) (As := []) (rest := []) 0 (wXT g) C h (k_X5_heads l g σ (by first | assumption | omega)) (lw_V q1070 q1002 q1003 q151 q1004) rfl rfl rfl rfl (by decide +kernel) ⟨Nat.le_of_ble_eq_true rfl, Nat.le_of_ble_eq_true rfl⟩ rfl hl.1 rfl (Nat.le_of_ble_eq_true rfl) ⟨Nat.le_of_ble_eq_true rfl, Nat.le_of_ble_eq_true rfl⟩ dX5_due_36 (fun r36 σ36 H locs eσ36 er36 hE36 h => ?_)
      rw [eσ36] at h
      have hE36 : (0 ≤ r36.toInt ∧ r36.toInt ≤ 63) := hE36
      have hrg_36 := hE36
      clear eσ36
      refine lv_iload_n hx hb dX5_due_39 rfl (lv_at hl 1 rfl) ?_
      refine lv_ishr hx hb dX5_due_40 ?_
      refine lv_iconst (v := 1) hx hb dX5_due_41 (by decide) ?_
      refine lv_iand hx hb dX5_due_42 ?_
      refine lv_if_ne (tgt := 48) hx hb dX5_due_43 (by decide) (fun c43 => ?_) (fun c43 => ?_)
      · have i43 := c_ne c43
        refine lv_iconst (v := 0) hx hb dX5_due_48 (by decide) ?_
        refine lv_istore_n (lv' := [(3, .int (0 : Int32)), (0, .ref (g.2.1 99)), (1, .int p1), (2, .int p2)]) hx hb dX5_due_49 rfl hl (by decide) rfl (fun ls hl => ?_)
        refine lv_iconst (v := 0) hx hb dX5_due_50 (by decide) ?_
        refine lv_istore (lv' := [(4, .int (0 : Int32)), (3, .int (0 : Int32)), (0, .ref (g.2.1 99)), (1, .int p1), (2, .int p2)]) hx hb dX5_due_51 hl (by decide) rfl (fun ls hl => ?_)
        have hL53 : ∀ (n : Nat) (x3_53 : Int32) (x4_53 : Int32) (H : Heap) (locs : List Loc) (ls : Array Slot), (0 ≤ x4_53.toInt ∧ x4_53.toInt ≤ (gi σ 1).toInt) → ((gi σ 1).toInt - x4_53.toInt).toNat < n → wH (dT g) σ s H locs → lv_has ls 5 [(0, .ref (g.2.1 99)), (1, .int p1), (3, .int x3_53), (4, .int x4_53)] → (∀ (x3_53' : Int32) (x4_53' : Int32) (H : Heap) (locs : List Loc) (ls : Array Slot), f_X5_due_L53 σ p1 n x3_53 x4_53 = (x3_53', x4_53') → (0 ≤ x4_53'.toInt ∧ x4_53'.toInt ≤ (gi σ 1).toInt) → wH (dT g) σ s H locs → lv_has ls 5 [(0, .ref (g.2.1 99)), (1, .int p1), (3, .int x3_53')] → W p l e ({ frames := 3, cells := 0, slots := 0, locals := 67 } : Room) s m args below meth c H locs 0 0 (MQ below (wQi (dT g) σ (f_X5_due σ p1 p2) (fun u r => True)) args s 0 0 (dT g).2.2.2.1) (F0 m 93 ls [])) → W p l e ({ frames := 3, cells := 0, slots := 0, locals := 67 } : Room) s m args below meth c H locs 0 0 (MQ below (wQi (dT g) σ (f_X5_due σ p1 p2) (fun u r => True)) args s 0 0 (dT g).2.2.2.1) (F0 m 53 ls []) := by
          intro n
          induction n with
          | zero =>
            intro x3_53 x4_53 H locs ls _ hm; exact absurd hm (Nat.not_lt_zero _)
          | succ n ih =>
            intro x3_53 x4_53 H locs ls hI53 hm h hl kk
            refine lv_iload hx hb dX5_due_53 (lv_at hl 3 rfl) ?_
            refine lv_aload_n hx hb dX5_due_55 rfl (lv_at hl 0 rfl) ?_
            refine T_g1 C h dX5_due_56 ?_
            refine lv_icmp_ge (tgt := 93) hx hb dX5_due_59 (by decide) (fun c59 => ?_) (fun c59 => ?_)
            · have i59 := c_le c59
              exact kk x3_53 x4_53 _ _ _ (show f_X5_due_L53 σ p1 (n + 1) x3_53 x4_53 = (x3_53, x4_53) from (by exact ((if_pos c59).trans rfl)))  (by first | assumption | omega) h (lv_sub hl [0, 1, 2] rfl)
            · have i59 := c_nle c59
              refine lv_iload_n hx hb dX5_due_62 rfl (lv_at hl 2 rfl) ?_
              refine lv_aload_n hx hb dX5_due_63 rfl (lv_at hl 0 rfl) ?_
              refine w_calli (ci := 5) (q0 := 0) (As := []) (rest := [.int x3_53]) 0 (wXT g) C h (k_X5_heads l g σ (by first | assumption | omega)) (lw_V q1070 q1002 q1003 q151 q1004) rfl rfl rfl rfl (by decide +kernel) ⟨Nat.le_of_ble_eq_true rfl, Nat.le_of_ble_eq_true rfl⟩ rfl hl.1 rfl (Nat.le_of_ble_eq_true rfl) ⟨Nat.le_of_ble_eq_true rfl, Nat.le_of_ble_eq_true rfl⟩ dX5_due_64 (fun r64 σ64 H locs eσ64 er64 hE64 h => ?_)
              rw [eσ64] at h
              have hE64 : (0 ≤ r64.toInt ∧ r64.toInt ≤ 63) := hE64
              have hrg_64 := hE64
              clear eσ64
              refine lv_iload hx hb dX5_due_67 (lv_at hl 3 rfl) ?_
              refine lv_ishr hx hb dX5_due_69 ?_
              refine lv_iconst (v := 1) hx hb dX5_due_70 (by decide) ?_
              refine lv_iand hx hb dX5_due_71 ?_
              have j85 : ∀ (t0_85 : Int32) (H : Heap) (locs : List Loc) (ls : Array Slot) (ej85 : (if ((r64 >>> (x4_53 &&& (31 : Int32))) &&& (1 : Int32)) = (0 : Int32) then ((let r78 := (f_X5_eaten σ x4_53); r78)) else ((0 : Int32))) = t0_85) (h : wH (dT g) σ s H locs) (hl : lv_has ls 5 [(0, .ref (g.2.1 99)), (1, .int p1), (4, .int x4_53)]), W p l e ({ frames := 3, cells := 0, slots := 0, locals := 67 } : Room) s m args below meth c H locs 0 0 (MQ below (wQi (dT g) σ (f_X5_due σ p1 p2) (fun u r => True)) args s 0 0 (dT g).2.2.2.1) (F0 m 85 ls [.int t0_85, .int x3_53]) := by
                intro t0_85 H locs ls ej85 h hl
                have et0_85 := ej85.symm
                refine lv_iadd hx hb dX5_due_85 ?_
                refine lv_topi (fun v86 ev86 => ?_)
                refine lv_istore_n (lv' := [(3, .int v86), (0, .ref (g.2.1 99)), (1, .int p1), (4, .int x4_53)]) hx hb dX5_due_86 rfl hl (by decide) rfl (fun ls hl => ?_)
                refine lv_iinc (v := (x4_53 + (1 : Int32))) (lv' := [(4, .int (x4_53 + (1 : Int32))), (3, .int v86), (0, .ref (g.2.1 99)), (1, .int p1)]) hx hb dX5_due_87 hl (k := 3) rfl rfl (by decide) rfl (fun ls hl => ?_)
                refine lv_goto (tgt := 53) hx hb dX5_due_90 (by decide) ?_
                have tt4 : (x4_53 + (1 : Int32)).toInt = (x4_53.toInt + (1)) := (i_add (rfl : x4_53.toInt = x4_53.toInt) zl1 (by omega))
                exact ih v86 (x4_53 + (1 : Int32)) _ _ _  (by first | assumption | omega) (by omega) h (lv_sub hl [2, 3, 1, 0] rfl) (fun x3_53' x4_53' H locs ls en hI h hl => kk x3_53' x4_53' H locs ls ((show f_X5_due_L53 σ p1 (n + 1) x3_53 x4_53 = f_X5_due_L53 σ p1 n v86 (x4_53 + (1 : Int32)) from (by have er64 := er64.symm; subst er64; have et0_85 := et0_85.symm; subst et0_85; have ev86 := ev86.symm; subst ev86; exact ((if_neg c59).trans rfl))).trans en) hI h hl)
              refine lv_if_ne (tgt := 84) hx hb dX5_due_72 (by decide) (fun c72 => ?_) (fun c72 => ?_)
              · have i72 := c_ne c72
                refine lv_iconst (v := 0) hx hb dX5_due_84 (by decide) ?_
                exact j85 _ _ _ _ (by exact ((if_neg c72).trans rfl)) h (lv_sub hl [0, 1, 3] rfl)
              · have i72 := c_eq c72
                refine lv_aload_n hx hb dX5_due_75 rfl (lv_at hl 0 rfl) ?_
                refine lv_iload hx hb dX5_due_76 (lv_at hl 3 rfl) ?_
                refine w_calli (ci := 5) (q0 := 0) (As := [.int x4_53]) (rest := [.int x3_53]) 1 (wXT g) C h (k_X5_eaten l g σ x4_53 (by first | assumption | omega) (by first | assumption | omega) (by first | assumption | omega)) (lw_V q1075 q1046 q1047 q151 q1048) rfl rfl rfl rfl (by decide +kernel) ⟨Nat.le_of_ble_eq_true rfl, Nat.le_of_ble_eq_true rfl⟩ rfl hl.1 rfl (Nat.le_of_ble_eq_true rfl) ⟨Nat.le_of_ble_eq_true rfl, Nat.le_of_ble_eq_true rfl⟩ dX5_due_78 (fun r78 σ78 H locs eσ78 er78 hE78 h => ?_)
                rw [eσ78] at h
                clear hE78
                clear eσ78
                refine lv_goto (tgt := 85) hx hb dX5_due_81 (by decide) ?_
                exact j85 _ _ _ _ (by have er78 := er78.symm; subst er78; exact ((if_pos c72).trans rfl)) h (lv_sub hl [0, 1, 3] rfl)
        refine hL53 (7) (0 : Int32) (0 : Int32) _ _ _  (by first | assumption | omega) (by omega) h (lv_sub hl [2, 3, 1, 0] rfl) (fun x3_53e x4_53e H locs ls eL53 hI53 h hl => ?_)
        have ex3_53e : x3_53e = (f_X5_due_L53 σ p1 (7) (0 : Int32) (0 : Int32)).1 := by rw [eL53]
        have ex4_53e : x4_53e = (f_X5_due_L53 σ p1 (7) (0 : Int32) (0 : Int32)).2 := by rw [eL53]
        refine lv_aload_n hx hb dX5_due_93 rfl (lv_at hl 0 rfl) ?_
        refine lv_iload_n hx hb dX5_due_94 rfl (lv_at hl 1 rfl) ?_
        refine w_calli (ci := 5) (q0 := 0) (As := [.int p1]) (rest := []) 1 (wXT g) C h (k_X5_eaten l g σ p1 (by first | assumption | omega) (by first | assumption | omega) (by first | assumption | omega)) (lw_V q1075 q1046 q1047 q151 q1048) rfl rfl rfl rfl (by decide +kernel) ⟨Nat.le_of_ble_eq_true rfl, Nat.le_of_ble_eq_true rfl⟩ rfl hl.1 rfl (Nat.le_of_ble_eq_true rfl) ⟨Nat.le_of_ble_eq_true rfl, Nat.le_of_ble_eq_true rfl⟩ dX5_due_95 (fun r95 σ95 H locs eσ95 er95 hE95 h => ?_)
        rw [eσ95] at h
        clear hE95
        clear eσ95
        refine lv_iload_n hx hb dX5_due_98 rfl (lv_at hl 2 rfl) ?_
        refine lv_aload_n hx hb dX5_due_99 rfl (lv_at hl 0 rfl) ?_
        refine w_calli (ci := 5) (q0 := 0) (As := []) (rest := [.int x3_53e, .int r95]) 0 (wXT g) C h (k_X5_heads l g σ (by first | assumption | omega)) (lw_V q1070 q1002 q1003 q151 q1004) rfl rfl rfl rfl (by decide +kernel) ⟨Nat.le_of_ble_eq_true rfl, Nat.le_of_ble_eq_true rfl⟩ rfl hl.1 rfl (Nat.le_of_ble_eq_true rfl) ⟨Nat.le_of_ble_eq_true rfl, Nat.le_of_ble_eq_true rfl⟩ dX5_due_100 (fun r100 σ100 H locs eσ100 er100 hE100 h => ?_)
        rw [eσ100] at h
        have hE100 : (0 ≤ r100.toInt ∧ r100.toInt ≤ 63) := hE100
        have hrg_100 := hE100
        clear eσ100
        refine lv_iload_n hx hb dX5_due_103 rfl (lv_at hl 1 rfl) ?_
        refine s_calli (As := [.int x3_53e, .int r100, .int p1]) (rest := [.int r95]) 3 C.1 (k_X5_part l x3_53e r100 p1 (by first | assumption | omega) (by first | assumption | omega)) (lw_S q1053 q1054 q151 q1055) rfl rfl (by decide +kernel) ⟨Nat.le_of_ble_eq_true rfl, Nat.le_of_ble_eq_true rfl⟩ rfl hl.1 rfl (Nat.le_of_ble_eq_true rfl) ⟨Nat.le_of_ble_eq_true rfl, Nat.le_of_ble_eq_true rfl⟩ dX5_due_104 h.2.2.1 (fun r104 H locs er104 hz1 hk1 hS1 => ?_)
        have h := h.same hk1 hS1
        clear hz1 hk1 hS1
        refine lv_iadd hx hb dX5_due_107 ?_
        have he : f_X5_due σ p1 p2 = (r95 + r104) := (by have er36 := er36.symm; subst er36; have ex3_53e := ex3_53e.symm; subst ex3_53e; have ex4_53e := ex4_53e.symm; subst ex4_53e; have er95 := er95.symm; subst er95; have er100 := er100.symm; subst er100; have er104 := er104.symm; subst er104; exact ((if_neg c1).trans ((if_neg c19).trans ((if_neg c43).trans rfl))))
        exact w_reti (wXT g) C h hr hlocks rfl he trivial dX5_due_108
      · have i43 := c_eq c43
        refine lv_iconst (v := 0) hx hb dX5_due_46 (by decide) ?_
        have he : f_X5_due σ p1 p2 = (0 : Int32) := (by have er36 := er36.symm; subst er36; exact ((if_neg c1).trans ((if_neg c19).trans ((if_pos c43).trans rfl))))
        exact w_reti (wXT g) C h hr hlocks rfl he trivial dX5_due_47
    · have i19 := c_eq c19
      refine lv_aload_n hx hb dX5_due_22 rfl (lv_at hl 0 rfl) ?_
      refine w_calli (ci := 5) (q0 := 0) (As := []) (rest := []) 0 (wXT g) C h (k_X5_bill l g σ (by first | assumption | omega)) (lw_V q1069 q998 q999 q151 q1000) rfl rfl rfl rfl (by decide +kernel) ⟨Nat.le_of_ble_eq_true rfl, Nat.le_of_ble_eq_true rfl⟩ rfl hl.1 rfl (Nat.le_of_ble_eq_true rfl) ⟨Nat.le_of_ble_eq_true rfl, Nat.le_of_ble_eq_true rfl⟩ dX5_due_23 (fun r23 σ23 H locs eσ23 er23 hE23 h => ?_)
      rw [eσ23] at h
      clear hE23
      clear eσ23
      refine lv_aload_n hx hb dX5_due_26 rfl (lv_at hl 0 rfl) ?_
      refine w_calli (ci := 5) (q0 := 0) (As := []) (rest := [.int r23]) 0 (wXT g) C h (k_X5_units l g σ (by first | assumption | omega)) (lw_V q1071 q1072 q1073 q151 q1074) rfl rfl rfl rfl (by decide +kernel) ⟨Nat.le_of_ble_eq_true rfl, Nat.le_of_ble_eq_true rfl⟩ rfl hl.1 rfl (Nat.le_of_ble_eq_true rfl) ⟨Nat.le_of_ble_eq_true rfl, Nat.le_of_ble_eq_true rfl⟩ dX5_due_27 (fun r27 σ27 H locs eσ27 er27 hE27 h => ?_)
      rw [eσ27] at h
      have hE27 : (0 ≤ r27.toInt ∧ r27.toInt ≤ 63) := hE27
      have hrg_27 := hE27
      clear eσ27
      refine lv_iload_n hx hb dX5_due_30 rfl (lv_at hl 1 rfl) ?_
      refine s_calli (As := [.int r23, .int r27, .int p1]) (rest := []) 3 C.1 (k_X5_part l r23 r27 p1 (by first | assumption | omega) (by first | assumption | omega)) (lw_S q1053 q1054 q151 q1055) rfl rfl (by decide +kernel) ⟨Nat.le_of_ble_eq_true rfl, Nat.le_of_ble_eq_true rfl⟩ rfl hl.1 rfl (Nat.le_of_ble_eq_true rfl) ⟨Nat.le_of_ble_eq_true rfl, Nat.le_of_ble_eq_true rfl⟩ dX5_due_31 h.2.2.1 (fun r31 H locs er31 hz1 hk1 hS1 => ?_)
      have h := h.same hk1 hS1
      clear hz1 hk1 hS1
      have he : f_X5_due σ p1 p2 = r31 := (by have er23 := er23.symm; subst er23; have er27 := er27.symm; subst er27; have er31 := er31.symm; subst er31; exact ((if_neg c1).trans ((if_pos c19).trans rfl)))
      exact w_reti (wXT g) C h hr hlocks rfl he trivial dX5_due_34
  · have i1 := c_eq c1
    refine lv_aload_n hx hb dX5_due_4 rfl (lv_at hl 0 rfl) ?_
    refine w_calli (ci := 5) (q0 := 0) (As := []) (rest := []) 0 (wXT g) C h (k_X5_bill l g σ (by first | assumption | omega)) (lw_V q1069 q998 q999 q151 q1000) rfl rfl rfl rfl (by decide +kernel) ⟨Nat.le_of_ble_eq_true rfl, Nat.le_of_ble_eq_true rfl⟩ rfl hl.1 rfl (Nat.le_of_ble_eq_true rfl) ⟨Nat.le_of_ble_eq_true rfl, Nat.le_of_ble_eq_true rfl⟩ dX5_due_5 (fun r5 σ5 H locs eσ5 er5 hE5 h => ?_)
    rw [eσ5] at h
    clear hE5
    clear eσ5
    refine lv_aload_n hx hb dX5_due_8 rfl (lv_at hl 0 rfl) ?_
    refine w_calli (ci := 5) (q0 := 0) (As := []) (rest := [.int r5]) 0 (wXT g) C h (k_X5_heads l g σ (by first | assumption | omega)) (lw_V q1070 q1002 q1003 q151 q1004) rfl rfl rfl rfl (by decide +kernel) ⟨Nat.le_of_ble_eq_true rfl, Nat.le_of_ble_eq_true rfl⟩ rfl hl.1 rfl (Nat.le_of_ble_eq_true rfl) ⟨Nat.le_of_ble_eq_true rfl, Nat.le_of_ble_eq_true rfl⟩ dX5_due_9 (fun r9 σ9 H locs eσ9 er9 hE9 h => ?_)
    rw [eσ9] at h
    have hE9 : (0 ≤ r9.toInt ∧ r9.toInt ≤ 63) := hE9
    have hrg_9 := hE9
    clear eσ9
    refine lv_iload_n hx hb dX5_due_12 rfl (lv_at hl 1 rfl) ?_
    refine s_calli (As := [.int r5, .int r9, .int p1]) (rest := []) 3 C.1 (k_X5_part l r5 r9 p1 (by first | assumption | omega) (by first | assumption | omega)) (lw_S q1053 q1054 q151 q1055) rfl rfl (by decide +kernel) ⟨Nat.le_of_ble_eq_true rfl, Nat.le_of_ble_eq_true rfl⟩ rfl hl.1 rfl (Nat.le_of_ble_eq_true rfl) ⟨Nat.le_of_ble_eq_true rfl, Nat.le_of_ble_eq_true rfl⟩ dX5_due_13 h.2.2.1 (fun r13 H locs er13 hz1 hk1 hS1 => ?_)
    have h := h.same hk1 hS1
    clear hz1 hk1 hS1
    have he : f_X5_due σ p1 p2 = r13 := (by have er5 := er5.symm; subst er5; have er9 := er9.symm; subst er9; have er13 := er13.symm; subst er13; exact ((if_pos c1).trans rfl))
    exact w_reti (wXT g) C h hr hlocks rfl he trivial dX5_due_16
def f_X5_owes (σ : MS) (p1 : Int32) (p2 : Int32) : Int32 := (ga σ 12 (((6 : Int32) * p1) + p2))
set_option maxHeartbeats 4000000 in
set_option maxRecDepth 100000 in
theorem k_X5_owes (l : Launch) (g : GT) (σ : MS) (p1 : Int32) (p2 : Int32) (h1r : 0 ≤ p1.toInt ∧ p1.toInt ≤ 5) (h2r : 0 ≤ p2.toInt ∧ p2.toInt ≤ 5) : Met l yX5_owes (ws_ yX5_owes cX5_owes 3 (some .int)) ({ frames := 0, cells := 0, slots := 0, locals := 0 } : Room) (wPc (dT g) (g.2.1 99) σ [.int p1, .int p2]) (wQi (dT g) σ (f_X5_owes σ p1 p2) (fun u r => True)) 0 0 (dT g).2.2.2.1 := by
  refine met_W RX5 (by decide) rfl (Nat.le_of_ble_eq_true rfl) ?_
  intro p e s m args below meth c C hr hlocks h ls hl
  have hx := C.1.1
  have hb := C.1.2.1
  have hml := C.1.2.2.1
  have hown := C.1.2.2.2.1
  have hts := C.1.2.2.2.2
  have hl : lv_has ls 3 [(0, .ref (g.2.1 99)), (1, .int p1), (2, .int p2)] := hl
  have zl6 : (6 : Int32).toInt = 6 := rfl
  refine lv_aload_n hx hb dX5_owes_0 rfl (lv_at hl 0 rfl) ?_
  refine T_g12 C h dX5_owes_1 ?_
  refine lv_bipush (v := 6) hx hb dX5_owes_4 (by decide) ?_
  refine lv_iload_n hx hb dX5_owes_6 rfl (lv_at hl 1 rfl) ?_
  refine lv_imul hx hb dX5_owes_7 ?_
  refine lv_iload_n hx hb dX5_owes_8 rfl (lv_at hl 2 rfl) ?_
  refine lv_iadd hx hb dX5_owes_9 ?_
  refine T_l12 C h (ix_of (i_add (i_mul zl6 (rfl : p1.toInt = p1.toInt) (by omega)) (rfl : p2.toInt = p2.toInt) (by omega)) (by omega)) dX5_owes_10 ?_
  have he : f_X5_owes σ p1 p2 = (ga σ 12 (((6 : Int32) * p1) + p2)) := (by exact rfl)
  exact w_reti (wXT g) C h hr hlocks rfl he trivial dX5_owes_11
def f_X5_owe (σ : MS) (p1 : Int32) (p2 : Int32) (p3 : Int32) : MS := (let σ11 := sa σ 12 (((6 : Int32) * p1) + p2) p3; σ11)
set_option maxHeartbeats 4000000 in
set_option maxRecDepth 100000 in
theorem k_X5_owe (l : Launch) (g : GT) (σ : MS) (p1 : Int32) (p2 : Int32) (p3 : Int32) (htp : 0 ≤ (gi σ 1).toInt ∧ (gi σ 1).toInt ≤ 6) (htd : 0 ≤ (gi σ 3).toInt ∧ (gi σ 3).toInt ≤ 16 ∧ (gi σ 3).toInt ≤ (g.2.1 50 : Int)) (h1r : 0 ≤ p1.toInt ∧ p1.toInt ≤ 5) (h2r : 0 ≤ p2.toInt ∧ p2.toInt ≤ 5) : Met l yX5_owe (ws_ yX5_owe cX5_owe 4 none) ({ frames := 0, cells := 0, slots := 0, locals := 0 } : Room) (wPc (dT g) (g.2.1 99) σ [.int p1, .int p2, .int p3]) (wQv (dT g) (f_X5_owe σ p1 p2 p3) (fun u => ((gi u 1).toInt = (gi σ 1).toInt) ∧ ((gi u 3).toInt = (gi σ 3).toInt) ∧ (Fr [6, 7] [11, 12, 13] (fun _ => False) (fun _ => False) σ u))) 0 0 (dT g).2.2.2.1 := by
  refine met_W RX5 (by decide) rfl (Nat.le_of_ble_eq_true rfl) ?_
  intro p e s m args below meth c C hr hlocks h ls hl
  have hx := C.1.1
  have hb := C.1.2.1
  have hml := C.1.2.2.1
  have hown := C.1.2.2.2.1
  have hts := C.1.2.2.2.2
  have hl : lv_has ls 4 [(0, .ref (g.2.1 99)), (1, .int p1), (2, .int p2), (3, .int p3)] := hl
  have htpq : (gi σ 1).toInt = (gi σ 1).toInt := rfl
  have htdq : (gi σ 3).toInt = (gi σ 3).toInt := rfl
  have hXF : Fr [6, 7] [11, 12, 13] (fun _ => False) (fun _ => False) σ σ := Fr.rf
  have zl6 : (6 : Int32).toInt = 6 := rfl
  refine lv_aload_n hx hb dX5_owe_0 rfl (lv_at hl 0 rfl) ?_
  refine T_g12 C h dX5_owe_1 ?_
  refine lv_bipush (v := 6) hx hb dX5_owe_4 (by decide) ?_
  refine lv_iload_n hx hb dX5_owe_6 rfl (lv_at hl 1 rfl) ?_
  refine lv_imul hx hb dX5_owe_7 ?_
  refine lv_iload_n hx hb dX5_owe_8 rfl (lv_at hl 2 rfl) ?_
  refine lv_iadd hx hb dX5_owe_9 ?_
  refine lv_iload_n hx hb dX5_owe_10 rfl (lv_at hl 3 rfl) ?_
  refine T_s12 C h (ix_of (i_add (i_mul zl6 (rfl : p1.toInt = p1.toInt) (by omega)) (rfl : p2.toInt = p2.toInt) (by omega)) (by omega)) dX5_owe_11 (fun σ11 H locs eσ11 h => ?_)
  have hNEW : (0 ≤ (gi σ11 1).toInt ∧ (gi σ11 1).toInt ≤ 6) ∧ (0 ≤ (gi σ11 3).toInt ∧ (gi σ11 3).toInt ≤ 16 ∧ (gi σ11 3).toInt ≤ (g.2.1 50 : Int)) ∧ ((gi σ11 1).toInt = (gi σ 1).toInt) ∧ ((gi σ11 3).toInt = (gi σ 3).toInt) ∧ (Fr [6, 7] [11, 12, 13] (fun _ => False) (fun _ => False) σ σ11) := ⟨(by rw [eσ11] <;> exact htp), (by rw [eσ11] <;> exact htd), (by rw [eσ11] <;> exact htpq), (by rw [eσ11] <;> exact htdq), (by rw [eσ11]; exact (Fr_xa (by decide) (by decide) hXF))⟩
  obtain ⟨htp, htd, htpq, htdq, hXF⟩ := hNEW
  have he : f_X5_owe σ p1 p2 p3 = σ11 := (by have eσ11 := eσ11.symm; subst eσ11; exact rfl)
  exact w_retv (wXT g) C h hr hlocks he ⟨htpq, htdq, hXF⟩ dX5_owe_12
def f_X5_balance_L4 (σ : MS) (y1_4 : Int32) : Nat → Int32 → Int32 → Int32 × Int32
  | 0, x2_4, x3_4 => (x2_4, x3_4)
  | n + 1, x2_4, x3_4 => if (gi σ 1) ≤ x3_4 then ((x2_4, x3_4)) else ((let r16 := (f_X5_owes σ x3_4 y1_4); let r22 := (f_X5_owes σ y1_4 x3_4); let v27 := (x2_4 + (r16 - r22)); f_X5_balance_L4 σ y1_4 n v27 (x3_4 + (1 : Int32))))
def f_X5_balance (σ : MS) (p1 : Int32) : Int32 := (let zL4 := f_X5_balance_L4 σ p1 (7) (0 : Int32) (0 : Int32); let x2_4e := zL4.1; let x3_4e := zL4.2; x2_4e)
set_option maxHeartbeats 4000000 in
set_option maxRecDepth 100000 in
theorem k_X5_balance (l : Launch) (g : GT) (σ : MS) (p1 : Int32) (htp : 0 ≤ (gi σ 1).toInt ∧ (gi σ 1).toInt ≤ 6) (h1r : 0 ≤ p1.toInt ∧ p1.toInt ≤ 5) : Met l yX5_balance (ws_ yX5_balance cX5_balance 4 (some .int)) ({ frames := 1, cells := 0, slots := 0, locals := 22 } : Room) (wPc (dT g) (g.2.1 99) σ [.int p1]) (wQi (dT g) σ (f_X5_balance σ p1) (fun u r => True)) 0 0 (dT g).2.2.2.1 := by
  refine met_W RX5 (by decide) rfl (Nat.le_of_ble_eq_true rfl) ?_
  intro p e s m args below meth c C hr hlocks h ls hl
  have hx := C.1.1
  have hb := C.1.2.1
  have hml := C.1.2.2.1
  have hown := C.1.2.2.2.1
  have hts := C.1.2.2.2.2
  have hl : lv_has ls 4 [(0, .ref (g.2.1 99)), (1, .int p1)] := hl
  have zl0 : (0 : Int32).toInt = 0 := rfl
  have zl1 : (1 : Int32).toInt = 1 := rfl
  refine lv_iconst (v := 0) hx hb dX5_balance_0 (by decide) ?_
  refine lv_istore_n (lv' := [(2, .int (0 : Int32)), (0, .ref (g.2.1 99)), (1, .int p1)]) hx hb dX5_balance_1 rfl hl (by decide) rfl (fun ls hl => ?_)
  refine lv_iconst (v := 0) hx hb dX5_balance_2 (by decide) ?_
  refine lv_istore_n (lv' := [(3, .int (0 : Int32)), (2, .int (0 : Int32)), (0, .ref (g.2.1 99)), (1, .int p1)]) hx hb dX5_balance_3 rfl hl (by decide) rfl (fun ls hl => ?_)
  have hL4 : ∀ (n : Nat) (x2_4 : Int32) (x3_4 : Int32) (H : Heap) (locs : List Loc) (ls : Array Slot), (0 ≤ x3_4.toInt ∧ x3_4.toInt ≤ (gi σ 1).toInt) → ((gi σ 1).toInt - x3_4.toInt).toNat < n → wH (dT g) σ s H locs → lv_has ls 4 [(0, .ref (g.2.1 99)), (1, .int p1), (2, .int x2_4), (3, .int x3_4)] → (∀ (x2_4' : Int32) (x3_4' : Int32) (H : Heap) (locs : List Loc) (ls : Array Slot), f_X5_balance_L4 σ p1 n x2_4 x3_4 = (x2_4', x3_4') → (0 ≤ x3_4'.toInt ∧ x3_4'.toInt ≤ (gi σ 1).toInt) → wH (dT g) σ s H locs → lv_has ls 4 [(2, .int x2_4')] → W p l e ({ frames := 1, cells := 0, slots := 0, locals := 22 } : Room) s m args below meth c H locs 0 0 (MQ below (wQi (dT g) σ (f_X5_balance σ p1) (fun u r => True)) args s 0 0 (dT g).2.2.2.1) (F0 m 34 ls [])) → W p l e ({ frames := 1, cells := 0, slots := 0, locals := 22 } : Room) s m args below meth c H locs 0 0 (MQ below (wQi (dT g) σ (f_X5_balance σ p1) (fun u r => True)) args s 0 0 (dT g).2.2.2.1) (F0 m 4 ls []) := by
    intro n
    induction n with
    | zero =>
      intro x2_4 x3_4 H locs ls _ hm; exact absurd hm (Nat.not_lt_zero _)
    | succ n ih =>
      intro x2_4 x3_4 H locs ls hI4 hm h hl kk
      refine lv_iload_n hx hb dX5_balance_4 rfl (lv_at hl 3 rfl) ?_
      refine lv_aload_n hx hb dX5_balance_5 rfl (lv_at hl 0 rfl) ?_
      refine T_g1 C h dX5_balance_6 ?_
      refine lv_icmp_ge (tgt := 34) hx hb dX5_balance_9 (by decide) (fun c9 => ?_) (fun c9 => ?_)
      · have i9 := c_le c9
        exact kk x2_4 x3_4 _ _ _ (show f_X5_balance_L4 σ p1 (n + 1) x2_4 x3_4 = (x2_4, x3_4) from (by exact ((if_pos c9).trans rfl)))  (by first | assumption | omega) h (lv_sub hl [2] rfl)
      · have i9 := c_nle c9
        refine lv_iload_n hx hb dX5_balance_12 rfl (lv_at hl 2 rfl) ?_
        refine lv_aload_n hx hb dX5_balance_13 rfl (lv_at hl 0 rfl) ?_
        refine lv_iload_n hx hb dX5_balance_14 rfl (lv_at hl 3 rfl) ?_
        refine lv_iload_n hx hb dX5_balance_15 rfl (lv_at hl 1 rfl) ?_
        refine w_calli (ci := 5) (q0 := 0) (As := [.int x3_4, .int p1]) (rest := [.int x2_4]) 2 (wXT g) C h (k_X5_owes l g σ x3_4 p1 (by first | assumption | omega) (by first | assumption | omega)) (lw_V q1143 q1144 q1145 q151 q1146) rfl rfl rfl rfl (by decide +kernel) ⟨Nat.le_of_ble_eq_true rfl, Nat.le_of_ble_eq_true rfl⟩ rfl hl.1 rfl (Nat.le_of_ble_eq_true rfl) ⟨Nat.le_of_ble_eq_true rfl, Nat.le_of_ble_eq_true rfl⟩ dX5_balance_16 (fun r16 σ16 H locs eσ16 er16 hE16 h => ?_)
        rw [eσ16] at h
        clear hE16
        clear eσ16
        refine lv_aload_n hx hb dX5_balance_19 rfl (lv_at hl 0 rfl) ?_
        refine lv_iload_n hx hb dX5_balance_20 rfl (lv_at hl 1 rfl) ?_
        refine lv_iload_n hx hb dX5_balance_21 rfl (lv_at hl 3 rfl) ?_
        refine w_calli (ci := 5) (q0 := 0) (As := [.int p1, .int x3_4]) (rest := [.int r16, .int x2_4]) 2 (wXT g) C h (k_X5_owes l g σ p1 x3_4 (by first | assumption | omega) (by first | assumption | omega)) (lw_V q1143 q1144 q1145 q151 q1146) rfl rfl rfl rfl (by decide +kernel) ⟨Nat.le_of_ble_eq_true rfl, Nat.le_of_ble_eq_true rfl⟩ rfl hl.1 rfl (Nat.le_of_ble_eq_true rfl) ⟨Nat.le_of_ble_eq_true rfl, Nat.le_of_ble_eq_true rfl⟩ dX5_balance_22 (fun r22 σ22 H locs eσ22 er22 hE22 h => ?_)
        rw [eσ22] at h
        clear hE22
        clear eσ22
        refine lv_isub hx hb dX5_balance_25 ?_
        refine lv_iadd hx hb dX5_balance_26 ?_
        refine lv_topi (fun v27 ev27 => ?_)
        refine lv_istore_n (lv' := [(2, .int v27), (0, .ref (g.2.1 99)), (1, .int p1), (3, .int x3_4)]) hx hb dX5_balance_27 rfl hl (by decide) rfl (fun ls hl => ?_)
        refine lv_iinc (v := (x3_4 + (1 : Int32))) (lv' := [(3, .int (x3_4 + (1 : Int32))), (2, .int v27), (0, .ref (g.2.1 99)), (1, .int p1)]) hx hb dX5_balance_28 hl (k := 3) rfl rfl (by decide) rfl (fun ls hl => ?_)
        refine lv_goto (tgt := 4) hx hb dX5_balance_31 (by decide) ?_
        have tt3 : (x3_4 + (1 : Int32)).toInt = (x3_4.toInt + (1)) := (i_add (rfl : x3_4.toInt = x3_4.toInt) zl1 (by omega))
        exact ih v27 (x3_4 + (1 : Int32)) _ _ _  (by first | assumption | omega) (by omega) h (lv_sub hl [2, 3, 1, 0] rfl) (fun x2_4' x3_4' H locs ls en hI h hl => kk x2_4' x3_4' H locs ls ((show f_X5_balance_L4 σ p1 (n + 1) x2_4 x3_4 = f_X5_balance_L4 σ p1 n v27 (x3_4 + (1 : Int32)) from (by have er16 := er16.symm; subst er16; have er22 := er22.symm; subst er22; have ev27 := ev27.symm; subst ev27; exact ((if_neg c9).trans rfl))).trans en) hI h hl)
  refine hL4 (7) (0 : Int32) (0 : Int32) _ _ _  (by first | assumption | omega) (by omega) h (lv_sub hl [2, 3, 1, 0] rfl) (fun x2_4e x3_4e H locs ls eL4 hI4 h hl => ?_)
  have ex2_4e : x2_4e = (f_X5_balance_L4 σ p1 (7) (0 : Int32) (0 : Int32)).1 := by rw [eL4]
  have ex3_4e : x3_4e = (f_X5_balance_L4 σ p1 (7) (0 : Int32) (0 : Int32)).2 := by rw [eL4]
  refine lv_iload_n hx hb dX5_balance_34 rfl (lv_at hl 0 rfl) ?_
  have he : f_X5_balance σ p1 = x2_4e := (by have ex2_4e := ex2_4e.symm; subst ex2_4e; have ex3_4e := ex3_4e.symm; subst ex3_4e; exact rfl)
  exact w_reti (wXT g) C h hr hlocks rfl he trivial dX5_balance_35
def f_X5_pays_L46 (y1_46 : Int32) : Nat → Int32 → MS → Int32 × MS
  | 0, x2_46, σL46 => (x2_46, σL46)
  | n + 1, x2_46, σL46 => if (gi σL46 1) ≤ x2_46 then ((x2_46, σL46)) else (if x2_46 = y1_46 then (f_X5_pays_L46 y1_46 n (x2_46 + (1 : Int32)) σL46) else ((let r65 := (f_X5_owes σL46 x2_46 y1_46); let r74 := (f_X5_due σL46 x2_46 (gi σL46 4)); let σ78 := (f_X5_owe σL46 x2_46 y1_46 (r65 + r74)); f_X5_pays_L46 y1_46 n (x2_46 + (1 : Int32)) σ78)))
def f_X5_pays_L2 (σ : MS) (y1_2 : Int32) : Nat → Int32 → MS × Int32
  | 0, x2_2 => (m00, 0)
  | n + 1, x2_2 => if (gi σ 1) ≤ x2_2 then ((let zL46 := f_X5_pays_L46 y1_2 (7) (0 : Int32) σ; let x2_46e := zL46.1; let σL46e := zL46.2; (let σ96 := sa σL46e 11 y1_2 ((ga σL46e 11 y1_2) + (1 : Int32)); (σ96, (1 : Int32))))) else (if x2_2 = y1_2 then (f_X5_pays_L2 σ y1_2 n (x2_2 + (1 : Int32))) else ((let r18 := (f_X5_owes σ x2_2 y1_2); let r27 := (f_X5_due σ x2_2 (gi σ 4)); if (r18 + r27) ≤ (999999 : Int32) then (f_X5_pays_L2 σ y1_2 n (x2_2 + (1 : Int32))) else ((σ, (0 : Int32))))))
def f_X5_pays (σ : MS) (p1 : Int32) : MS × Int32 := f_X5_pays_L2 σ p1 (7) (0 : Int32)
set_option maxHeartbeats 4000000 in
set_option maxRecDepth 100000 in
theorem k_X5_pays (l : Launch) (g : GT) (σ : MS) (p1 : Int32) (htp : 0 ≤ (gi σ 1).toInt ∧ (gi σ 1).toInt ≤ 6) (htd : 0 ≤ (gi σ 3).toInt ∧ (gi σ 3).toInt ≤ 16 ∧ (gi σ 3).toInt ≤ (g.2.1 50 : Int)) (h1r : 0 ≤ p1.toInt ∧ p1.toInt ≤ 5) : Met l yX5_pays (ws_ yX5_pays cX5_pays 3 (some .boolean)) ({ frames := 4, cells := 0, slots := 0, locals := 91 } : Room) (wPc (dT g) (g.2.1 99) σ [.int p1]) (wQz (dT g) (f_X5_pays σ p1).1 (f_X5_pays σ p1).2 (fun u r => ((gi u 1).toInt = (gi σ 1).toInt) ∧ ((gi u 3).toInt = (gi σ 3).toInt) ∧ (Fr [6, 7] [11, 12, 13] (fun _ => False) (fun _ => False) σ u))) 0 0 (dT g).2.2.2.1 := by
  refine met_W RX5 (by decide) rfl (Nat.le_of_ble_eq_true rfl) ?_
  intro p e s m args below meth c C hr hlocks h ls hl
  have hx := C.1.1
  have hb := C.1.2.1
  have hml := C.1.2.2.1
  have hown := C.1.2.2.2.1
  have hts := C.1.2.2.2.2
  have hl : lv_has ls 3 [(0, .ref (g.2.1 99)), (1, .int p1)] := hl
  have htpq : (gi σ 1).toInt = (gi σ 1).toInt := rfl
  have htdq : (gi σ 3).toInt = (gi σ 3).toInt := rfl
  have hXF : Fr [6, 7] [11, 12, 13] (fun _ => False) (fun _ => False) σ σ := Fr.rf
  have zl0 : (0 : Int32).toInt = 0 := rfl
  have zl1 : (1 : Int32).toInt = 1 := rfl
  have zl999999 : (999999 : Int32).toInt = 999999 := rfl
  refine lv_iconst (v := 0) hx hb dX5_pays_0 (by decide) ?_
  refine lv_istore_n (lv' := [(2, .int (0 : Int32)), (0, .ref (g.2.1 99)), (1, .int p1)]) hx hb dX5_pays_1 rfl hl (by decide) rfl (fun ls hl => ?_)
  have hL2 : ∀ (n : Nat) (x2_2 : Int32) (H : Heap) (locs : List Loc) (ls : Array Slot), (0 ≤ x2_2.toInt ∧ x2_2.toInt ≤ (gi σ 1).toInt) → ((gi σ 1).toInt - x2_2.toInt).toNat < n → f_X5_pays σ p1 = f_X5_pays_L2 σ p1 n x2_2 → wH (dT g) σ s H locs → lv_has ls 3 [(0, .ref (g.2.1 99)), (1, .int p1), (2, .int x2_2)] → W p l e ({ frames := 4, cells := 0, slots := 0, locals := 91 } : Room) s m args below meth c H locs 0 0 (MQ below (wQz (dT g) (f_X5_pays σ p1).1 (f_X5_pays σ p1).2 (fun u r => ((gi u 1).toInt = (gi σ 1).toInt) ∧ ((gi u 3).toInt = (gi σ 3).toInt) ∧ (Fr [6, 7] [11, 12, 13] (fun _ => False) (fun _ => False) σ u))) args s 0 0 (dT g).2.2.2.1) (F0 m 2 ls []) := by
    intro n
    induction n with
    | zero =>
      intro x2_2 H locs ls _ hm; exact absurd hm (Nat.not_lt_zero _)
    | succ n ih =>
      intro x2_2 H locs ls hI2 hm hf2 h hl
      refine lv_iload_n hx hb dX5_pays_2 rfl (lv_at hl 2 rfl) ?_
      refine lv_aload_n hx hb dX5_pays_3 rfl (lv_at hl 0 rfl) ?_
      refine T_g1 C h dX5_pays_4 ?_
      refine lv_icmp_ge (tgt := 44) hx hb dX5_pays_7 (by decide) (fun c7 => ?_) (fun c7 => ?_)
      · have i7 := c_le c7
        refine lv_iconst (v := 0) hx hb dX5_pays_44 (by decide) ?_
        refine lv_istore_n (lv' := [(2, .int (0 : Int32)), (0, .ref (g.2.1 99)), (1, .int p1)]) hx hb dX5_pays_45 rfl hl (by decide) rfl (fun ls hl => ?_)
        have hL46 : ∀ (n : Nat) (x2_46 : Int32) (σL46 : MS) (H : Heap) (locs : List Loc) (ls : Array Slot), (0 ≤ (gi σL46 1).toInt ∧ (gi σL46 1).toInt ≤ 6) → (0 ≤ (gi σL46 3).toInt ∧ (gi σL46 3).toInt ≤ 16 ∧ (gi σL46 3).toInt ≤ (g.2.1 50 : Int)) → ((gi σL46 1).toInt = (gi σ 1).toInt) → ((gi σL46 3).toInt = (gi σ 3).toInt) → (Fr [6, 7] [11, 12, 13] (fun _ => False) (fun _ => False) σ σL46) → (0 ≤ x2_46.toInt ∧ x2_46.toInt ≤ (gi σL46 1).toInt) → ((gi σL46 1).toInt - x2_46.toInt).toNat < n → wH (dT g) σL46 s H locs → lv_has ls 3 [(0, .ref (g.2.1 99)), (1, .int p1), (2, .int x2_46)] → (∀ (x2_46' : Int32) (σL46' : MS) (H : Heap) (locs : List Loc) (ls : Array Slot), f_X5_pays_L46 p1 n x2_46 σL46 = (x2_46', σL46') → (0 ≤ (gi σL46' 1).toInt ∧ (gi σL46' 1).toInt ≤ 6) → (0 ≤ (gi σL46' 3).toInt ∧ (gi σL46' 3).toInt ≤ 16 ∧ (gi σL46' 3).toInt ≤ (g.2.1 50 : Int)) → ((gi σL46' 1).toInt = (gi σ 1).toInt) → ((gi σL46' 3).toInt = (gi σ 3).toInt) → (Fr [6, 7] [11, 12, 13] (fun _ => False) (fun _ => False) σ σL46') → (0 ≤ x2_46'.toInt ∧ x2_46'.toInt ≤ (gi σL46' 1).toInt) → wH (dT g) σL46' s H locs → lv_has ls 3 [(0, .ref (g.2.1 99)), (1, .int p1)] → W p l e ({ frames := 4, cells := 0, slots := 0, locals := 91 } : Room) s m args below meth c H locs 0 0 (MQ below (wQz (dT g) (f_X5_pays σ p1).1 (f_X5_pays σ p1).2 (fun u r => ((gi u 1).toInt = (gi σ 1).toInt) ∧ ((gi u 3).toInt = (gi σ 3).toInt) ∧ (Fr [6, 7] [11, 12, 13] (fun _ => False) (fun _ => False) σ u))) args s 0 0 (dT g).2.2.2.1) (F0 m 87 ls [])) → W p l e ({ frames := 4, cells := 0, slots := 0, locals := 91 } : Room) s m args below meth c H locs 0 0 (MQ below (wQz (dT g) (f_X5_pays σ p1).1 (f_X5_pays σ p1).2 (fun u r => ((gi u 1).toInt = (gi σ 1).toInt) ∧ ((gi u 3).toInt = (gi σ 3).toInt) ∧ (Fr [6, 7] [11, 12, 13] (fun _ => False) (fun _ => False) σ u))) args s 0 0 (dT g).2.2.2.1) (F0 m 46 ls []) := by
          intro n
          induction n with
          | zero =>
            intro x2_46 σL46 H locs ls htp htd htpq htdq hXF _ hm; exact absurd hm (Nat.not_lt_zero _)
          | succ n ih =>
            intro x2_46 σL46 H locs ls htp htd htpq htdq hXF hI46 hm h hl kk
            refine lv_iload_n hx hb dX5_pays_46 rfl (lv_at hl 2 rfl) ?_
            refine lv_aload_n hx hb dX5_pays_47 rfl (lv_at hl 0 rfl) ?_
            refine T_g1 C h dX5_pays_48 ?_
            refine lv_icmp_ge (tgt := 87) hx hb dX5_pays_51 (by decide) (fun c51 => ?_) (fun c51 => ?_)
            · have i51 := c_le c51
              exact kk x2_46 σL46 _ _ _ (show f_X5_pays_L46 p1 (n + 1) x2_46 σL46 = (x2_46, σL46) from (by exact ((if_pos c51).trans rfl))) htp htd htpq htdq hXF (by first | assumption | omega) h (lv_sub hl [0, 1] rfl)
            · have i51 := c_nle c51
              refine lv_iload_n hx hb dX5_pays_54 rfl (lv_at hl 2 rfl) ?_
              refine lv_iload_n hx hb dX5_pays_55 rfl (lv_at hl 1 rfl) ?_
              refine lv_icmp_eq (tgt := 81) hx hb dX5_pays_56 (by decide) (fun c56 => ?_) (fun c56 => ?_)
              · have i56 := c_eq c56
                refine lv_iinc (v := (x2_46 + (1 : Int32))) (lv' := [(2, .int (x2_46 + (1 : Int32))), (0, .ref (g.2.1 99)), (1, .int p1)]) hx hb dX5_pays_81 hl (k := 2) rfl rfl (by decide) rfl (fun ls hl => ?_)
                refine lv_goto (tgt := 46) hx hb dX5_pays_84 (by decide) ?_
                have tt2 : (x2_46 + (1 : Int32)).toInt = (x2_46.toInt + (1)) := (i_add (rfl : x2_46.toInt = x2_46.toInt) zl1 (by omega))
                exact ih (x2_46 + (1 : Int32)) σL46 _ _ _ htp htd htpq htdq hXF (by first | assumption | omega) (by omega) h (lv_sub hl [1, 2, 0] rfl) (fun x2_46' σL46' H locs ls en htp htd htpq htdq hXF hI h hl => kk x2_46' σL46' H locs ls ((show f_X5_pays_L46 p1 (n + 1) x2_46 σL46 = f_X5_pays_L46 p1 n (x2_46 + (1 : Int32)) σL46 from (by exact ((if_neg c51).trans ((if_pos c56).trans rfl)))).trans en) htp htd htpq htdq hXF hI h hl)
              · have i56 := c_ne c56
                refine lv_aload_n hx hb dX5_pays_59 rfl (lv_at hl 0 rfl) ?_
                refine lv_iload_n hx hb dX5_pays_60 rfl (lv_at hl 2 rfl) ?_
                refine lv_iload_n hx hb dX5_pays_61 rfl (lv_at hl 1 rfl) ?_
                refine lv_aload_n hx hb dX5_pays_62 rfl (lv_at hl 0 rfl) ?_
                refine lv_iload_n hx hb dX5_pays_63 rfl (lv_at hl 2 rfl) ?_
                refine lv_iload_n hx hb dX5_pays_64 rfl (lv_at hl 1 rfl) ?_
                refine w_calli (ci := 5) (q0 := 0) (As := [.int x2_46, .int p1]) (rest := [.int p1, .int x2_46, .ref (g.2.1 99)]) 2 (wXT g) C h (k_X5_owes l g σL46 x2_46 p1 (by first | assumption | omega) (by first | assumption | omega)) (lw_V q1143 q1144 q1145 q151 q1146) rfl rfl rfl rfl (by decide +kernel) ⟨Nat.le_of_ble_eq_true rfl, Nat.le_of_ble_eq_true rfl⟩ rfl hl.1 rfl (Nat.le_of_ble_eq_true rfl) ⟨Nat.le_of_ble_eq_true rfl, Nat.le_of_ble_eq_true rfl⟩ dX5_pays_65 (fun r65 σ65 H locs eσ65 er65 hE65 h => ?_)
                rw [eσ65] at h
                clear hE65
                clear eσ65
                refine lv_aload_n hx hb dX5_pays_68 rfl (lv_at hl 0 rfl) ?_
                refine lv_iload_n hx hb dX5_pays_69 rfl (lv_at hl 2 rfl) ?_
                refine lv_aload_n hx hb dX5_pays_70 rfl (lv_at hl 0 rfl) ?_
                refine T_g4 C h dX5_pays_71 ?_
                refine w_calli (ci := 5) (q0 := 0) (As := [.int x2_46, .int (gi σL46 4)]) (rest := [.int r65, .int p1, .int x2_46, .ref (g.2.1 99)]) 2 (wXT g) C h (k_X5_due l g σL46 x2_46 (gi σL46 4) (by first | assumption | omega) (by first | assumption | omega) (by first | assumption | omega)) (lw_V q1147 q1066 q1067 q151 q1068) rfl rfl rfl rfl (by decide +kernel) ⟨Nat.le_of_ble_eq_true rfl, Nat.le_of_ble_eq_true rfl⟩ rfl hl.1 rfl (Nat.le_of_ble_eq_true rfl) ⟨Nat.le_of_ble_eq_true rfl, Nat.le_of_ble_eq_true rfl⟩ dX5_pays_74 (fun r74 σ74 H locs eσ74 er74 hE74 h => ?_)
                rw [eσ74] at h
                clear hE74
                clear eσ74
                refine lv_iadd hx hb dX5_pays_77 ?_
                refine w_callv (ci := 5) (q0 := 0) (As := [.int x2_46, .int p1, .int (r65 + r74)]) (rest := []) 3 (wXT g) C h (k_X5_owe l g σL46 x2_46 p1 (r65 + r74) (by first | assumption | omega) (by first | assumption | omega) (by first | assumption | omega) (by first | assumption | omega)) (lw_V q1149 q846 q847 q151 q848) rfl rfl rfl rfl (by decide +kernel) ⟨Nat.le_of_ble_eq_true rfl, Nat.le_of_ble_eq_true rfl⟩ rfl hl.1 rfl (Nat.le_of_ble_eq_true rfl) ⟨Nat.le_of_ble_eq_true rfl, Nat.le_of_ble_eq_true rfl⟩ dX5_pays_78 (fun σ78 H locs eσ78 hE78 h => ?_)
                have hE78 : ((gi σ78 1).toInt = (gi σL46 1).toInt) ∧ ((gi σ78 3).toInt = (gi σL46 3).toInt) ∧ (Fr [6, 7] [11, 12, 13] (fun _ => False) (fun _ => False) σL46 σ78) := hE78
                obtain ⟨htpq_78, htdq_78, hXF_78⟩ := hE78
                have hNEW : (0 ≤ (gi σ78 1).toInt ∧ (gi σ78 1).toInt ≤ 6) ∧ (0 ≤ (gi σ78 3).toInt ∧ (gi σ78 3).toInt ≤ 16 ∧ (gi σ78 3).toInt ≤ (g.2.1 50 : Int)) ∧ ((gi σ78 1).toInt = (gi σ 1).toInt) ∧ ((gi σ78 3).toInt = (gi σ 3).toInt) ∧ (Fr [6, 7] [11, 12, 13] (fun _ => False) (fun _ => False) σ σ78) := ⟨(by first | assumption | omega), (by first | assumption | omega), (by first | assumption | omega), (by first | assumption | omega), (Fr.tr hXF hXF_78)⟩
                obtain ⟨htp, htd, htpq, htdq, hXF⟩ := hNEW
                refine lv_iinc (v := (x2_46 + (1 : Int32))) (lv' := [(2, .int (x2_46 + (1 : Int32))), (0, .ref (g.2.1 99)), (1, .int p1)]) hx hb dX5_pays_81 hl (k := 2) rfl rfl (by decide) rfl (fun ls hl => ?_)
                refine lv_goto (tgt := 46) hx hb dX5_pays_84 (by decide) ?_
                have tt2 : (x2_46 + (1 : Int32)).toInt = (x2_46.toInt + (1)) := (i_add (rfl : x2_46.toInt = x2_46.toInt) zl1 (by omega))
                exact ih (x2_46 + (1 : Int32)) σ78 _ _ _ htp htd htpq htdq hXF (by first | assumption | omega) (by omega) h (lv_sub hl [1, 2, 0] rfl) (fun x2_46' σL46' H locs ls en htp htd htpq htdq hXF hI h hl => kk x2_46' σL46' H locs ls ((show f_X5_pays_L46 p1 (n + 1) x2_46 σL46 = f_X5_pays_L46 p1 n (x2_46 + (1 : Int32)) σ78 from (by have er65 := er65.symm; subst er65; have er74 := er74.symm; subst er74; have eσ78 := eσ78.symm; subst eσ78; exact ((if_neg c51).trans ((if_neg c56).trans rfl)))).trans en) htp htd htpq htdq hXF hI h hl)
        refine hL46 (7) (0 : Int32) σ _ _ _ htp htd htpq htdq hXF (by first | assumption | omega) (by omega) h (lv_sub hl [1, 2, 0] rfl) (fun x2_46e σL46e H locs ls eL46 htp htd htpq htdq hXF hI46 h hl => ?_)
        have ex2_46e : x2_46e = (f_X5_pays_L46 p1 (7) (0 : Int32) σ).1 := by rw [eL46]
        have eσL46e : σL46e = (f_X5_pays_L46 p1 (7) (0 : Int32) σ).2 := by rw [eL46]
        refine lv_aload_n hx hb dX5_pays_87 rfl (lv_at hl 0 rfl) ?_
        refine T_g11 C h dX5_pays_88 ?_
        refine lv_iload_n hx hb dX5_pays_91 rfl (lv_at hl 1 rfl) ?_
        refine lv_dup2_11 hx hb dX5_pays_92 rfl rfl ?_
        refine T_l11 C h (ix_of (rfl : p1.toInt = p1.toInt) (by omega)) dX5_pays_93 ?_
        refine lv_iconst (v := 1) hx hb dX5_pays_94 (by decide) ?_
        refine lv_iadd hx hb dX5_pays_95 ?_
        refine T_s11 C h (ix_of (rfl : p1.toInt = p1.toInt) (by omega)) dX5_pays_96 (fun σ96 H locs eσ96 h => ?_)
        have hNEW : (0 ≤ (gi σ96 1).toInt ∧ (gi σ96 1).toInt ≤ 6) ∧ (0 ≤ (gi σ96 3).toInt ∧ (gi σ96 3).toInt ≤ 16 ∧ (gi σ96 3).toInt ≤ (g.2.1 50 : Int)) ∧ ((gi σ96 1).toInt = (gi σ 1).toInt) ∧ ((gi σ96 3).toInt = (gi σ 3).toInt) ∧ (Fr [6, 7] [11, 12, 13] (fun _ => False) (fun _ => False) σ σ96) := ⟨(by rw [eσ96] <;> exact htp), (by rw [eσ96] <;> exact htd), (by rw [eσ96] <;> exact htpq), (by rw [eσ96] <;> exact htdq), (by rw [eσ96]; exact (Fr_xa (by decide) (by decide) hXF))⟩
        obtain ⟨htp, htd, htpq, htdq, hXF⟩ := hNEW
        refine lv_iconst (v := 1) hx hb dX5_pays_97 (by decide) ?_
        have he : f_X5_pays σ p1 = (σ96, (1 : Int32)) := (by have ex2_46e := ex2_46e.symm; subst ex2_46e; have eσL46e := eσL46e.symm; subst eσL46e; have eσ96 := eσ96.symm; subst eσ96; exact (hf2.trans ((if_pos c7).trans rfl)))
        exact w_retz (wXT g) C h hr hlocks (congrArg Prod.fst he) (congrArg Prod.snd he) (Or.inr rfl) ⟨htpq, htdq, hXF⟩ dX5_pays_98
      · have i7 := c_nle c7
        refine lv_iload_n hx hb dX5_pays_10 rfl (lv_at hl 2 rfl) ?_
        refine lv_iload_n hx hb dX5_pays_11 rfl (lv_at hl 1 rfl) ?_
        refine lv_icmp_eq (tgt := 38) hx hb dX5_pays_12 (by decide) (fun c12 => ?_) (fun c12 => ?_)
        · have i12 := c_eq c12
          refine lv_iinc (v := (x2_2 + (1 : Int32))) (lv' := [(2, .int (x2_2 + (1 : Int32))), (0, .ref (g.2.1 99)), (1, .int p1)]) hx hb dX5_pays_38 hl (k := 2) rfl rfl (by decide) rfl (fun ls hl => ?_)
          refine lv_goto (tgt := 2) hx hb dX5_pays_41 (by decide) ?_
          have tt2 : (x2_2 + (1 : Int32)).toInt = (x2_2.toInt + (1)) := (i_add (rfl : x2_2.toInt = x2_2.toInt) zl1 (by omega))
          exact ih (x2_2 + (1 : Int32)) _ _ _  (by first | assumption | omega) (by omega) (by exact (hf2.trans ((if_neg c7).trans ((if_pos c12).trans rfl)))) h (lv_sub hl [1, 2, 0] rfl)
        · have i12 := c_ne c12
          refine lv_aload_n hx hb dX5_pays_15 rfl (lv_at hl 0 rfl) ?_
          refine lv_iload_n hx hb dX5_pays_16 rfl (lv_at hl 2 rfl) ?_
          refine lv_iload_n hx hb dX5_pays_17 rfl (lv_at hl 1 rfl) ?_
          refine w_calli (ci := 5) (q0 := 0) (As := [.int x2_2, .int p1]) (rest := []) 2 (wXT g) C h (k_X5_owes l g σ x2_2 p1 (by first | assumption | omega) (by first | assumption | omega)) (lw_V q1143 q1144 q1145 q151 q1146) rfl rfl rfl rfl (by decide +kernel) ⟨Nat.le_of_ble_eq_true rfl, Nat.le_of_ble_eq_true rfl⟩ rfl hl.1 rfl (Nat.le_of_ble_eq_true rfl) ⟨Nat.le_of_ble_eq_true rfl, Nat.le_of_ble_eq_true rfl⟩ dX5_pays_18 (fun r18 σ18 H locs eσ18 er18 hE18 h => ?_)
          rw [eσ18] at h
          clear hE18
          clear eσ18
          refine lv_aload_n hx hb dX5_pays_21 rfl (lv_at hl 0 rfl) ?_
          refine lv_iload_n hx hb dX5_pays_22 rfl (lv_at hl 2 rfl) ?_
          refine lv_aload_n hx hb dX5_pays_23 rfl (lv_at hl 0 rfl) ?_
          refine T_g4 C h dX5_pays_24 ?_
          refine w_calli (ci := 5) (q0 := 0) (As := [.int x2_2, .int (gi σ 4)]) (rest := [.int r18]) 2 (wXT g) C h (k_X5_due l g σ x2_2 (gi σ 4) (by first | assumption | omega) (by first | assumption | omega) (by first | assumption | omega)) (lw_V q1147 q1066 q1067 q151 q1068) rfl rfl rfl rfl (by decide +kernel) ⟨Nat.le_of_ble_eq_true rfl, Nat.le_of_ble_eq_true rfl⟩ rfl hl.1 rfl (Nat.le_of_ble_eq_true rfl) ⟨Nat.le_of_ble_eq_true rfl, Nat.le_of_ble_eq_true rfl⟩ dX5_pays_27 (fun r27 σ27 H locs eσ27 er27 hE27 h => ?_)
          rw [eσ27] at h
          clear hE27
          clear eσ27
          refine lv_iadd hx hb dX5_pays_30 ?_
          refine lv_ldc hx hb hown (hts _ q1148) dX5_pays_31 ?_
          refine lv_icmp_le (tgt := 38) hx hb dX5_pays_33 (by decide) (fun c33 => ?_) (fun c33 => ?_)
          · have i33 := c_le c33
            refine lv_iinc (v := (x2_2 + (1 : Int32))) (lv' := [(2, .int (x2_2 + (1 : Int32))), (0, .ref (g.2.1 99)), (1, .int p1)]) hx hb dX5_pays_38 hl (k := 2) rfl rfl (by decide) rfl (fun ls hl => ?_)
            refine lv_goto (tgt := 2) hx hb dX5_pays_41 (by decide) ?_
            have tt2 : (x2_2 + (1 : Int32)).toInt = (x2_2.toInt + (1)) := (i_add (rfl : x2_2.toInt = x2_2.toInt) zl1 (by omega))
            exact ih (x2_2 + (1 : Int32)) _ _ _  (by first | assumption | omega) (by omega) (by have er18 := er18.symm; subst er18; have er27 := er27.symm; subst er27; exact (hf2.trans ((if_neg c7).trans ((if_neg c12).trans ((if_pos c33).trans rfl))))) h (lv_sub hl [1, 2, 0] rfl)
          · have i33 := c_nle c33
            refine lv_iconst (v := 0) hx hb dX5_pays_36 (by decide) ?_
            have he : f_X5_pays σ p1 = (σ, (0 : Int32)) := (by have er18 := er18.symm; subst er18; have er27 := er27.symm; subst er27; exact (hf2.trans ((if_neg c7).trans ((if_neg c12).trans ((if_neg c33).trans rfl)))))
            exact w_retz (wXT g) C h hr hlocks (congrArg Prod.fst he) (congrArg Prod.snd he) (Or.inl rfl) ⟨htpq, htdq, hXF⟩ dX5_pays_37
  exact hL2 (7) (0 : Int32) _ _ _  (by first | assumption | omega) (by omega) (by exact rfl) h (lv_sub hl [1, 2, 0] rfl)
def f_X5_first (σ : MS) (p1 : Int32) (p2 : Int32) : Int32 := if p2 = (0 : Int32) then ((-(ga σ 11 p1))) else (if p2 = (1 : Int32) then ((let r21 := (f_X5_balance σ p1); (-r21))) else (if p2 = (2 : Int32) then ((ga σ 22 p1)) else ((ga σ 21 p1))))
set_option maxHeartbeats 4000000 in
set_option maxRecDepth 100000 in
theorem k_X5_first (l : Launch) (g : GT) (σ : MS) (p1 : Int32) (p2 : Int32) (htp : 0 ≤ (gi σ 1).toInt ∧ (gi σ 1).toInt ≤ 6) (h1p : 0 ≤ p1.toInt ∧ p1.toInt < (gi σ 1).toInt) : Met l yX5_first (ws_ yX5_first cX5_first 3 (some .int)) ({ frames := 2, cells := 0, slots := 0, locals := 45 } : Room) (wPc (dT g) (g.2.1 99) σ [.int p1, .int p2]) (wQi (dT g) σ (f_X5_first σ p1 p2) (fun u r => True)) 0 0 (dT g).2.2.2.1 := by
  refine met_W RX5 (by decide) rfl (Nat.le_of_ble_eq_true rfl) ?_
  intro p e s m args below meth c C hr hlocks h ls hl
  have hx := C.1.1
  have hb := C.1.2.1
  have hml := C.1.2.2.1
  have hown := C.1.2.2.2.1
  have hts := C.1.2.2.2.2
  have hl : lv_has ls 3 [(0, .ref (g.2.1 99)), (1, .int p1), (2, .int p2)] := hl
  have zl0 : (0 : Int32).toInt = 0 := rfl
  have zl1 : (1 : Int32).toInt = 1 := rfl
  have zl2 : (2 : Int32).toInt = 2 := rfl
  refine lv_iload_n hx hb dX5_first_0 rfl (lv_at hl 2 rfl) ?_
  refine lv_if_ne (tgt := 14) hx hb dX5_first_1 (by decide) (fun c1 => ?_) (fun c1 => ?_)
  · have i1 := c_ne c1
    refine lv_iload_n hx hb dX5_first_14 rfl (lv_at hl 2 rfl) ?_
    refine lv_iconst (v := 1) hx hb dX5_first_15 (by decide) ?_
    refine lv_icmp_ne (tgt := 28) hx hb dX5_first_16 (by decide) (fun c16 => ?_) (fun c16 => ?_)
    · have i16 := c_ne c16
      refine lv_iload_n hx hb dX5_first_28 rfl (lv_at hl 2 rfl) ?_
      refine lv_iconst (v := 2) hx hb dX5_first_29 (by decide) ?_
      refine lv_icmp_ne (tgt := 45) hx hb dX5_first_30 (by decide) (fun c30 => ?_) (fun c30 => ?_)
      · have i30 := c_ne c30
        refine lv_aload_n hx hb dX5_first_45 rfl (lv_at hl 0 rfl) ?_
        refine T_g0 C h dX5_first_46 ?_
        refine lv_iload_n hx hb dX5_first_49 rfl (lv_at hl 1 rfl) ?_
        refine T_pers C h (by omega) dX5_first_50 ?_
        refine T_f1 C h (by omega) dX5_first_51 ?_
        have he : f_X5_first σ p1 p2 = (ga σ 21 p1) := (by exact ((if_neg c1).trans ((if_neg c16).trans ((if_neg c30).trans rfl))))
        exact w_reti (wXT g) C h hr hlocks rfl he trivial dX5_first_54
      · have i30 := c_eq c30
        refine lv_aload_n hx hb dX5_first_33 rfl (lv_at hl 0 rfl) ?_
        refine T_g0 C h dX5_first_34 ?_
        refine lv_iload_n hx hb dX5_first_37 rfl (lv_at hl 1 rfl) ?_
        refine T_pers C h (by omega) dX5_first_38 ?_
        refine T_f2 C h (by omega) dX5_first_39 ?_
        refine lv_goto (tgt := 54) hx hb dX5_first_42 (by decide) ?_
        have he : f_X5_first σ p1 p2 = (ga σ 22 p1) := (by exact ((if_neg c1).trans ((if_neg c16).trans ((if_pos c30).trans rfl))))
        exact w_reti (wXT g) C h hr hlocks rfl he trivial dX5_first_54
    · have i16 := c_eq c16
      refine lv_aload_n hx hb dX5_first_19 rfl (lv_at hl 0 rfl) ?_
      refine lv_iload_n hx hb dX5_first_20 rfl (lv_at hl 1 rfl) ?_
      refine w_calli (ci := 5) (q0 := 0) (As := [.int p1]) (rest := []) 1 (wXT g) C h (k_X5_balance l g σ p1 (by first | assumption | omega) (by first | assumption | omega)) (lw_V q1162 q1163 q1164 q151 q1165) rfl rfl rfl rfl (by decide +kernel) ⟨Nat.le_of_ble_eq_true rfl, Nat.le_of_ble_eq_true rfl⟩ rfl hl.1 rfl (Nat.le_of_ble_eq_true rfl) ⟨Nat.le_of_ble_eq_true rfl, Nat.le_of_ble_eq_true rfl⟩ dX5_first_21 (fun r21 σ21 H locs eσ21 er21 hE21 h => ?_)
      rw [eσ21] at h
      clear hE21
      clear eσ21
      refine lv_ineg hx hb dX5_first_24 ?_
      refine lv_goto (tgt := 54) hx hb dX5_first_25 (by decide) ?_
      have he : f_X5_first σ p1 p2 = (-r21) := (by have er21 := er21.symm; subst er21; exact ((if_neg c1).trans ((if_pos c16).trans rfl)))
      exact w_reti (wXT g) C h hr hlocks rfl he trivial dX5_first_54
  · have i1 := c_eq c1
    refine lv_aload_n hx hb dX5_first_4 rfl (lv_at hl 0 rfl) ?_
    refine T_g11 C h dX5_first_5 ?_
    refine lv_iload_n hx hb dX5_first_8 rfl (lv_at hl 1 rfl) ?_
    refine T_l11 C h (ix_of (rfl : p1.toInt = p1.toInt) (by omega)) dX5_first_9 ?_
    refine lv_ineg hx hb dX5_first_10 ?_
    refine lv_goto (tgt := 54) hx hb dX5_first_11 (by decide) ?_
    have he : f_X5_first σ p1 p2 = (-(ga σ 11 p1)) := (by exact ((if_pos c1).trans rfl))
    exact w_reti (wXT g) C h hr hlocks rfl he trivial dX5_first_54
def f_X5_turn_L4 (σ : MS) (y1_4 : Int32) : Nat → Int32 → Int32 → Int32 × Int32
  | 0, x2_4, x3_4 => (x2_4, x3_4)
  | n + 1, x2_4, x3_4 => if (gi σ 1) ≤ x3_4 then ((x2_4, x3_4)) else ((let r13 := (f_X5_heads σ); if ((r13 >>> (x3_4 &&& (31 : Int32))) &&& (1 : Int32)) = (1 : Int32) then (if x2_4 < (0 : Int32) then (f_X5_turn_L4 σ y1_4 n x3_4 (x3_4 + (1 : Int32))) else ((let r31 := (f_X5_first σ x3_4 y1_4); let r37 := (f_X5_first σ x2_4 y1_4); if r31 ≤ r37 then (f_X5_turn_L4 σ y1_4 n x2_4 (x3_4 + (1 : Int32))) else (f_X5_turn_L4 σ y1_4 n x3_4 (x3_4 + (1 : Int32)))))) else (f_X5_turn_L4 σ y1_4 n x2_4 (x3_4 + (1 : Int32)))))
def f_X5_turn (σ : MS) (p1 : Int32) : Int32 := (let zL4 := f_X5_turn_L4 σ p1 (7) (-1 : Int32) (0 : Int32); let x2_4e := zL4.1; let x3_4e := zL4.2; x2_4e)
set_option maxHeartbeats 4000000 in
set_option maxRecDepth 100000 in
theorem k_X5_turn (l : Launch) (g : GT) (σ : MS) (p1 : Int32) (htp : 0 ≤ (gi σ 1).toInt ∧ (gi σ 1).toInt ≤ 6) : Met l yX5_turn (ws_ yX5_turn cX5_turn 4 (some .int)) ({ frames := 3, cells := 0, slots := 0, locals := 67 } : Room) (wPc (dT g) (g.2.1 99) σ [.int p1]) (wQi (dT g) σ (f_X5_turn σ p1) (fun u r => True)) 0 0 (dT g).2.2.2.1 := by
  refine met_W RX5 (by decide) rfl (Nat.le_of_ble_eq_true rfl) ?_
  intro p e s m args below meth c C hr hlocks h ls hl
  have hx := C.1.1
  have hb := C.1.2.1
  have hml := C.1.2.2.1
  have hown := C.1.2.2.2.1
  have hts := C.1.2.2.2.2
  have hl : lv_has ls 4 [(0, .ref (g.2.1 99)), (1, .int p1)] := hl
  have zlm1 : (-1 : Int32).toInt = -1 := rfl
  have zl0 : (0 : Int32).toInt = 0 := rfl
  have zl1 : (1 : Int32).toInt = 1 := rfl
  refine lv_iconst (v := -1) hx hb dX5_turn_0 (by decide) ?_
  refine lv_istore_n (lv' := [(2, .int (-1 : Int32)), (0, .ref (g.2.1 99)), (1, .int p1)]) hx hb dX5_turn_1 rfl hl (by decide) rfl (fun ls hl => ?_)
  refine lv_iconst (v := 0) hx hb dX5_turn_2 (by decide) ?_
  refine lv_istore_n (lv' := [(3, .int (0 : Int32)), (2, .int (-1 : Int32)), (0, .ref (g.2.1 99)), (1, .int p1)]) hx hb dX5_turn_3 rfl hl (by decide) rfl (fun ls hl => ?_)
  have hL4 : ∀ (n : Nat) (x2_4 : Int32) (x3_4 : Int32) (H : Heap) (locs : List Loc) (ls : Array Slot), (0 ≤ x3_4.toInt ∧ x3_4.toInt ≤ (gi σ 1).toInt ∧ -1 ≤ x2_4.toInt ∧ x2_4.toInt < x3_4.toInt) → ((gi σ 1).toInt - x3_4.toInt).toNat < n → wH (dT g) σ s H locs → lv_has ls 4 [(0, .ref (g.2.1 99)), (1, .int p1), (2, .int x2_4), (3, .int x3_4)] → (∀ (x2_4' : Int32) (x3_4' : Int32) (H : Heap) (locs : List Loc) (ls : Array Slot), f_X5_turn_L4 σ p1 n x2_4 x3_4 = (x2_4', x3_4') → (0 ≤ x3_4'.toInt ∧ x3_4'.toInt ≤ (gi σ 1).toInt ∧ -1 ≤ x2_4'.toInt ∧ x2_4'.toInt < x3_4'.toInt) → wH (dT g) σ s H locs → lv_has ls 4 [(2, .int x2_4')] → W p l e ({ frames := 3, cells := 0, slots := 0, locals := 67 } : Room) s m args below meth c H locs 0 0 (MQ below (wQi (dT g) σ (f_X5_turn σ p1) (fun u r => True)) args s 0 0 (dT g).2.2.2.1) (F0 m 51 ls [])) → W p l e ({ frames := 3, cells := 0, slots := 0, locals := 67 } : Room) s m args below meth c H locs 0 0 (MQ below (wQi (dT g) σ (f_X5_turn σ p1) (fun u r => True)) args s 0 0 (dT g).2.2.2.1) (F0 m 4 ls []) := by
    intro n
    induction n with
    | zero =>
      intro x2_4 x3_4 H locs ls _ hm; exact absurd hm (Nat.not_lt_zero _)
    | succ n ih =>
      intro x2_4 x3_4 H locs ls hI4 hm h hl kk
      refine lv_iload_n hx hb dX5_turn_4 rfl (lv_at hl 3 rfl) ?_
      refine lv_aload_n hx hb dX5_turn_5 rfl (lv_at hl 0 rfl) ?_
      refine T_g1 C h dX5_turn_6 ?_
      refine lv_icmp_ge (tgt := 51) hx hb dX5_turn_9 (by decide) (fun c9 => ?_) (fun c9 => ?_)
      · have i9 := c_le c9
        exact kk x2_4 x3_4 _ _ _ (show f_X5_turn_L4 σ p1 (n + 1) x2_4 x3_4 = (x2_4, x3_4) from (by exact ((if_pos c9).trans rfl)))  (by first | assumption | omega) h (lv_sub hl [2] rfl)
      · have i9 := c_nle c9
        refine lv_aload_n hx hb dX5_turn_12 rfl (lv_at hl 0 rfl) ?_
        refine w_calli (ci := 5) (q0 := 0) (As := []) (rest := []) 0 (wXT g) C h (k_X5_heads l g σ (by first | assumption | omega)) (lw_V q1070 q1002 q1003 q151 q1004) rfl rfl rfl rfl (by decide +kernel) ⟨Nat.le_of_ble_eq_true rfl, Nat.le_of_ble_eq_true rfl⟩ rfl hl.1 rfl (Nat.le_of_ble_eq_true rfl) ⟨Nat.le_of_ble_eq_true rfl, Nat.le_of_ble_eq_true rfl⟩ dX5_turn_13 (fun r13 σ13 H locs eσ13 er13 hE13 h => ?_)
        rw [eσ13] at h
        have hE13 : (0 ≤ r13.toInt ∧ r13.toInt ≤ 63) := hE13
        have hrg_13 := hE13
        clear eσ13
        refine lv_iload_n hx hb dX5_turn_16 rfl (lv_at hl 3 rfl) ?_
        refine lv_ishr hx hb dX5_turn_17 ?_
        refine lv_iconst (v := 1) hx hb dX5_turn_18 (by decide) ?_
        refine lv_iand hx hb dX5_turn_19 ?_
        refine lv_iconst (v := 1) hx hb dX5_turn_20 (by decide) ?_
        refine lv_icmp_ne (tgt := 45) hx hb dX5_turn_21 (by decide) (fun c21 => ?_) (fun c21 => ?_)
        · have i21 := c_ne c21
          refine lv_iinc (v := (x3_4 + (1 : Int32))) (lv' := [(3, .int (x3_4 + (1 : Int32))), (0, .ref (g.2.1 99)), (1, .int p1), (2, .int x2_4)]) hx hb dX5_turn_45 hl (k := 3) rfl rfl (by decide) rfl (fun ls hl => ?_)
          refine lv_goto (tgt := 4) hx hb dX5_turn_48 (by decide) ?_
          have tt3 : (x3_4 + (1 : Int32)).toInt = (x3_4.toInt + (1)) := (i_add (rfl : x3_4.toInt = x3_4.toInt) zl1 (by omega))
          exact ih x2_4 (x3_4 + (1 : Int32)) _ _ _  (by first | assumption | omega) (by omega) h (lv_sub hl [1, 2, 3, 0] rfl) (fun x2_4' x3_4' H locs ls en hI h hl => kk x2_4' x3_4' H locs ls ((show f_X5_turn_L4 σ p1 (n + 1) x2_4 x3_4 = f_X5_turn_L4 σ p1 n x2_4 (x3_4 + (1 : Int32)) from (by have er13 := er13.symm; subst er13; exact ((if_neg c9).trans ((if_neg c21).trans rfl)))).trans en) hI h hl)
        · have i21 := c_eq c21
          refine lv_iload_n hx hb dX5_turn_24 rfl (lv_at hl 2 rfl) ?_
          refine lv_if_lt (tgt := 43) hx hb dX5_turn_25 (by decide) (fun c25 => ?_) (fun c25 => ?_)
          · have i25 := c_lt c25
            refine lv_iload_n hx hb dX5_turn_43 rfl (lv_at hl 3 rfl) ?_
            refine lv_istore_n (lv' := [(2, .int x3_4), (0, .ref (g.2.1 99)), (1, .int p1), (3, .int x3_4)]) hx hb dX5_turn_44 rfl hl (by decide) rfl (fun ls hl => ?_)
            refine lv_iinc (v := (x3_4 + (1 : Int32))) (lv' := [(3, .int (x3_4 + (1 : Int32))), (2, .int x3_4), (0, .ref (g.2.1 99)), (1, .int p1)]) hx hb dX5_turn_45 hl (k := 3) rfl rfl (by decide) rfl (fun ls hl => ?_)
            refine lv_goto (tgt := 4) hx hb dX5_turn_48 (by decide) ?_
            have tt3 : (x3_4 + (1 : Int32)).toInt = (x3_4.toInt + (1)) := (i_add (rfl : x3_4.toInt = x3_4.toInt) zl1 (by omega))
            exact ih x3_4 (x3_4 + (1 : Int32)) _ _ _  (by first | assumption | omega) (by omega) h (lv_sub hl [2, 3, 1, 0] rfl) (fun x2_4' x3_4' H locs ls en hI h hl => kk x2_4' x3_4' H locs ls ((show f_X5_turn_L4 σ p1 (n + 1) x2_4 x3_4 = f_X5_turn_L4 σ p1 n x3_4 (x3_4 + (1 : Int32)) from (by have er13 := er13.symm; subst er13; exact ((if_neg c9).trans ((if_pos c21).trans ((if_pos c25).trans rfl))))).trans en) hI h hl)
          · have i25 := c_nlt c25
            refine lv_aload_n hx hb dX5_turn_28 rfl (lv_at hl 0 rfl) ?_
            refine lv_iload_n hx hb dX5_turn_29 rfl (lv_at hl 3 rfl) ?_
            refine lv_iload_n hx hb dX5_turn_30 rfl (lv_at hl 1 rfl) ?_
            refine w_calli (ci := 5) (q0 := 0) (As := [.int x3_4, .int p1]) (rest := []) 2 (wXT g) C h (k_X5_first l g σ x3_4 p1 (by first | assumption | omega) (by first | assumption | omega)) (lw_V q1158 q1160 qs46 q151 q1161) rfl rfl rfl rfl (by decide +kernel) ⟨Nat.le_of_ble_eq_true rfl, Nat.le_of_ble_eq_true rfl⟩ rfl hl.1 rfl (Nat.le_of_ble_eq_true rfl) ⟨Nat.le_of_ble_eq_true rfl, Nat.le_of_ble_eq_true rfl⟩ dX5_turn_31 (fun r31 σ31 H locs eσ31 er31 hE31 h => ?_)
            rw [eσ31] at h
            clear hE31
            clear eσ31
            refine lv_aload_n hx hb dX5_turn_34 rfl (lv_at hl 0 rfl) ?_
            refine lv_iload_n hx hb dX5_turn_35 rfl (lv_at hl 2 rfl) ?_
            refine lv_iload_n hx hb dX5_turn_36 rfl (lv_at hl 1 rfl) ?_
            refine w_calli (ci := 5) (q0 := 0) (As := [.int x2_4, .int p1]) (rest := [.int r31]) 2 (wXT g) C h (k_X5_first l g σ x2_4 p1 (by first | assumption | omega) (by first | assumption | omega)) (lw_V q1158 q1160 qs46 q151 q1161) rfl rfl rfl rfl (by decide +kernel) ⟨Nat.le_of_ble_eq_true rfl, Nat.le_of_ble_eq_true rfl⟩ rfl hl.1 rfl (Nat.le_of_ble_eq_true rfl) ⟨Nat.le_of_ble_eq_true rfl, Nat.le_of_ble_eq_true rfl⟩ dX5_turn_37 (fun r37 σ37 H locs eσ37 er37 hE37 h => ?_)
            rw [eσ37] at h
            clear hE37
            clear eσ37
            refine lv_icmp_le (tgt := 45) hx hb dX5_turn_40 (by decide) (fun c40 => ?_) (fun c40 => ?_)
            · have i40 := c_le c40
              refine lv_iinc (v := (x3_4 + (1 : Int32))) (lv' := [(3, .int (x3_4 + (1 : Int32))), (0, .ref (g.2.1 99)), (1, .int p1), (2, .int x2_4)]) hx hb dX5_turn_45 hl (k := 3) rfl rfl (by decide) rfl (fun ls hl => ?_)
              refine lv_goto (tgt := 4) hx hb dX5_turn_48 (by decide) ?_
              have tt3 : (x3_4 + (1 : Int32)).toInt = (x3_4.toInt + (1)) := (i_add (rfl : x3_4.toInt = x3_4.toInt) zl1 (by omega))
              exact ih x2_4 (x3_4 + (1 : Int32)) _ _ _  (by first | assumption | omega) (by omega) h (lv_sub hl [1, 2, 3, 0] rfl) (fun x2_4' x3_4' H locs ls en hI h hl => kk x2_4' x3_4' H locs ls ((show f_X5_turn_L4 σ p1 (n + 1) x2_4 x3_4 = f_X5_turn_L4 σ p1 n x2_4 (x3_4 + (1 : Int32)) from (by have er13 := er13.symm; subst er13; have er31 := er31.symm; subst er31; have er37 := er37.symm; subst er37; exact ((if_neg c9).trans ((if_pos c21).trans ((if_neg c25).trans ((if_pos c40).trans rfl)))))).trans en) hI h hl)
            · have i40 := c_nle c40
              refine lv_iload_n hx hb dX5_turn_43 rfl (lv_at hl 3 rfl) ?_
              refine lv_istore_n (lv' := [(2, .int x3_4), (0, .ref (g.2.1 99)), (1, .int p1), (3, .int x3_4)]) hx hb dX5_turn_44 rfl hl (by decide) rfl (fun ls hl => ?_)
              refine lv_iinc (v := (x3_4 + (1 : Int32))) (lv' := [(3, .int (x3_4 + (1 : Int32))), (2, .int x3_4), (0, .ref (g.2.1 99)), (1, .int p1)]) hx hb dX5_turn_45 hl (k := 3) rfl rfl (by decide) rfl (fun ls hl => ?_)
              refine lv_goto (tgt := 4) hx hb dX5_turn_48 (by decide) ?_
              have tt3 : (x3_4 + (1 : Int32)).toInt = (x3_4.toInt + (1)) := (i_add (rfl : x3_4.toInt = x3_4.toInt) zl1 (by omega))
              exact ih x3_4 (x3_4 + (1 : Int32)) _ _ _  (by first | assumption | omega) (by omega) h (lv_sub hl [2, 3, 1, 0] rfl) (fun x2_4' x3_4' H locs ls en hI h hl => kk x2_4' x3_4' H locs ls ((show f_X5_turn_L4 σ p1 (n + 1) x2_4 x3_4 = f_X5_turn_L4 σ p1 n x3_4 (x3_4 + (1 : Int32)) from (by have er13 := er13.symm; subst er13; have er31 := er31.symm; subst er31; have er37 := er37.symm; subst er37; exact ((if_neg c9).trans ((if_pos c21).trans ((if_neg c25).trans ((if_neg c40).trans rfl)))))).trans en) hI h hl)
  refine hL4 (7) (-1 : Int32) (0 : Int32) _ _ _  (by first | assumption | omega) (by omega) h (lv_sub hl [2, 3, 1, 0] rfl) (fun x2_4e x3_4e H locs ls eL4 hI4 h hl => ?_)
  have ex2_4e : x2_4e = (f_X5_turn_L4 σ p1 (7) (-1 : Int32) (0 : Int32)).1 := by rw [eL4]
  have ex3_4e : x3_4e = (f_X5_turn_L4 σ p1 (7) (-1 : Int32) (0 : Int32)).2 := by rw [eL4]
  refine lv_iload_n hx hb dX5_turn_51 rfl (lv_at hl 0 rfl) ?_
  have he : f_X5_turn σ p1 = x2_4e := (by have ex2_4e := ex2_4e.symm; subst ex2_4e; have ex3_4e := ex3_4e.symm; subst ex3_4e; exact rfl)
  exact w_reti (wXT g) C h hr hlocks rfl he trivial dX5_turn_52
def f_X5_buys_L4 (σ : MS) : Nat → Int32 → Int32 → Int32 × Int32
  | 0, x1_4, x2_4 => (x1_4, x2_4)
  | n + 1, x1_4, x2_4 => if (gi σ 1) ≤ x2_4 then ((x1_4, x2_4)) else (if (((gi σ 8) >>> (x2_4 &&& (31 : Int32))) &&& (1 : Int32)) = (1 : Int32) then (if x1_4 < (0 : Int32) then (f_X5_buys_L4 σ n x2_4 (x2_4 + (1 : Int32))) else (if (ga σ 13 x2_4) ≤ (ga σ 13 x1_4) then (f_X5_buys_L4 σ n x1_4 (x2_4 + (1 : Int32))) else (f_X5_buys_L4 σ n x2_4 (x2_4 + (1 : Int32))))) else (f_X5_buys_L4 σ n x1_4 (x2_4 + (1 : Int32))))
def f_X5_buys (σ : MS) : Int32 := (let zL4 := f_X5_buys_L4 σ (7) (-1 : Int32) (0 : Int32); let x1_4e := zL4.1; let x2_4e := zL4.2; x1_4e)
set_option maxHeartbeats 4000000 in
set_option maxRecDepth 100000 in
theorem k_X5_buys (l : Launch) (g : GT) (σ : MS) (htp : 0 ≤ (gi σ 1).toInt ∧ (gi σ 1).toInt ≤ 6) : Met l yX5_buys (ws_ yX5_buys cX5_buys 3 (some .int)) ({ frames := 0, cells := 0, slots := 0, locals := 0 } : Room) (wPc (dT g) (g.2.1 99) σ []) (wQi (dT g) σ (f_X5_buys σ) (fun u r => (-1 ≤ r.toInt ∧ r.toInt < (gi σ 1).toInt))) 0 0 (dT g).2.2.2.1 := by
  refine met_W RX5 (by decide) rfl (Nat.le_of_ble_eq_true rfl) ?_
  intro p e s m args below meth c C hr hlocks h ls hl
  have hx := C.1.1
  have hb := C.1.2.1
  have hml := C.1.2.2.1
  have hown := C.1.2.2.2.1
  have hts := C.1.2.2.2.2
  have hl : lv_has ls 3 [(0, .ref (g.2.1 99))] := hl
  have zlm1 : (-1 : Int32).toInt = -1 := rfl
  have zl0 : (0 : Int32).toInt = 0 := rfl
  have zl1 : (1 : Int32).toInt = 1 := rfl
  refine lv_iconst (v := -1) hx hb dX5_buys_0 (by decide) ?_
  refine lv_istore_n (lv' := [(1, .int (-1 : Int32)), (0, .ref (g.2.1 99))]) hx hb dX5_buys_1 rfl hl (by decide) rfl (fun ls hl => ?_)
  refine lv_iconst (v := 0) hx hb dX5_buys_2 (by decide) ?_
  refine lv_istore_n (lv' := [(2, .int (0 : Int32)), (1, .int (-1 : Int32)), (0, .ref (g.2.1 99))]) hx hb dX5_buys_3 rfl hl (by decide) rfl (fun ls hl => ?_)
  have hL4 : ∀ (n : Nat) (x1_4 : Int32) (x2_4 : Int32) (H : Heap) (locs : List Loc) (ls : Array Slot), (0 ≤ x2_4.toInt ∧ x2_4.toInt ≤ (gi σ 1).toInt ∧ -1 ≤ x1_4.toInt ∧ x1_4.toInt < x2_4.toInt) → ((gi σ 1).toInt - x2_4.toInt).toNat < n → wH (dT g) σ s H locs → lv_has ls 3 [(0, .ref (g.2.1 99)), (1, .int x1_4), (2, .int x2_4)] → (∀ (x1_4' : Int32) (x2_4' : Int32) (H : Heap) (locs : List Loc) (ls : Array Slot), f_X5_buys_L4 σ n x1_4 x2_4 = (x1_4', x2_4') → (-1 ≤ x1_4'.toInt ∧ x1_4'.toInt < (gi σ 1).toInt) → wH (dT g) σ s H locs → lv_has ls 3 [(1, .int x1_4')] → W p l e ({ frames := 0, cells := 0, slots := 0, locals := 0 } : Room) s m args below meth c H locs 0 0 (MQ below (wQi (dT g) σ (f_X5_buys σ) (fun u r => (-1 ≤ r.toInt ∧ r.toInt < (gi σ 1).toInt))) args s 0 0 (dT g).2.2.2.1) (F0 m 51 ls [])) → W p l e ({ frames := 0, cells := 0, slots := 0, locals := 0 } : Room) s m args below meth c H locs 0 0 (MQ below (wQi (dT g) σ (f_X5_buys σ) (fun u r => (-1 ≤ r.toInt ∧ r.toInt < (gi σ 1).toInt))) args s 0 0 (dT g).2.2.2.1) (F0 m 4 ls []) := by
    intro n
    induction n with
    | zero =>
      intro x1_4 x2_4 H locs ls _ hm; exact absurd hm (Nat.not_lt_zero _)
    | succ n ih =>
      intro x1_4 x2_4 H locs ls hI4 hm h hl kk
      refine lv_iload_n hx hb dX5_buys_4 rfl (lv_at hl 2 rfl) ?_
      refine lv_aload_n hx hb dX5_buys_5 rfl (lv_at hl 0 rfl) ?_
      refine T_g1 C h dX5_buys_6 ?_
      refine lv_icmp_ge (tgt := 51) hx hb dX5_buys_9 (by decide) (fun c9 => ?_) (fun c9 => ?_)
      · have i9 := c_le c9
        exact kk x1_4 x2_4 _ _ _ (show f_X5_buys_L4 σ (n + 1) x1_4 x2_4 = (x1_4, x2_4) from (by exact ((if_pos c9).trans rfl)))  (by omega) h (lv_sub hl [1] rfl)
      · have i9 := c_nle c9
        refine lv_aload_n hx hb dX5_buys_12 rfl (lv_at hl 0 rfl) ?_
        refine T_g8 C h dX5_buys_13 ?_
        refine lv_iload_n hx hb dX5_buys_16 rfl (lv_at hl 2 rfl) ?_
        refine lv_ishr hx hb dX5_buys_17 ?_
        refine lv_iconst (v := 1) hx hb dX5_buys_18 (by decide) ?_
        refine lv_iand hx hb dX5_buys_19 ?_
        refine lv_iconst (v := 1) hx hb dX5_buys_20 (by decide) ?_
        refine lv_icmp_ne (tgt := 45) hx hb dX5_buys_21 (by decide) (fun c21 => ?_) (fun c21 => ?_)
        · have i21 := c_ne c21
          refine lv_iinc (v := (x2_4 + (1 : Int32))) (lv' := [(2, .int (x2_4 + (1 : Int32))), (0, .ref (g.2.1 99)), (1, .int x1_4)]) hx hb dX5_buys_45 hl (k := 2) rfl rfl (by decide) rfl (fun ls hl => ?_)
          refine lv_goto (tgt := 4) hx hb dX5_buys_48 (by decide) ?_
          have tt2 : (x2_4 + (1 : Int32)).toInt = (x2_4.toInt + (1)) := (i_add (rfl : x2_4.toInt = x2_4.toInt) zl1 (by omega))
          exact ih x1_4 (x2_4 + (1 : Int32)) _ _ _  (by first | assumption | omega) (by omega) h (lv_sub hl [1, 2, 0] rfl) (fun x1_4' x2_4' H locs ls en hI h hl => kk x1_4' x2_4' H locs ls ((show f_X5_buys_L4 σ (n + 1) x1_4 x2_4 = f_X5_buys_L4 σ n x1_4 (x2_4 + (1 : Int32)) from (by exact ((if_neg c9).trans ((if_neg c21).trans rfl)))).trans en) hI h hl)
        · have i21 := c_eq c21
          refine lv_iload_n hx hb dX5_buys_24 rfl (lv_at hl 1 rfl) ?_
          refine lv_if_lt (tgt := 43) hx hb dX5_buys_25 (by decide) (fun c25 => ?_) (fun c25 => ?_)
          · have i25 := c_lt c25
            refine lv_iload_n hx hb dX5_buys_43 rfl (lv_at hl 2 rfl) ?_
            refine lv_istore_n (lv' := [(1, .int x2_4), (0, .ref (g.2.1 99)), (2, .int x2_4)]) hx hb dX5_buys_44 rfl hl (by decide) rfl (fun ls hl => ?_)
            refine lv_iinc (v := (x2_4 + (1 : Int32))) (lv' := [(2, .int (x2_4 + (1 : Int32))), (1, .int x2_4), (0, .ref (g.2.1 99))]) hx hb dX5_buys_45 hl (k := 2) rfl rfl (by decide) rfl (fun ls hl => ?_)
            refine lv_goto (tgt := 4) hx hb dX5_buys_48 (by decide) ?_
            have tt2 : (x2_4 + (1 : Int32)).toInt = (x2_4.toInt + (1)) := (i_add (rfl : x2_4.toInt = x2_4.toInt) zl1 (by omega))
            exact ih x2_4 (x2_4 + (1 : Int32)) _ _ _  (by first | assumption | omega) (by omega) h (lv_sub hl [2, 1, 0] rfl) (fun x1_4' x2_4' H locs ls en hI h hl => kk x1_4' x2_4' H locs ls ((show f_X5_buys_L4 σ (n + 1) x1_4 x2_4 = f_X5_buys_L4 σ n x2_4 (x2_4 + (1 : Int32)) from (by exact ((if_neg c9).trans ((if_pos c21).trans ((if_pos c25).trans rfl))))).trans en) hI h hl)
          · have i25 := c_nlt c25
            refine lv_aload_n hx hb dX5_buys_28 rfl (lv_at hl 0 rfl) ?_
            refine T_g13 C h dX5_buys_29 ?_
            refine lv_iload_n hx hb dX5_buys_32 rfl (lv_at hl 2 rfl) ?_
            refine T_l13 C h (ix_of (rfl : x2_4.toInt = x2_4.toInt) (by omega)) dX5_buys_33 ?_
            refine lv_aload_n hx hb dX5_buys_34 rfl (lv_at hl 0 rfl) ?_
            refine T_g13 C h dX5_buys_35 ?_
            refine lv_iload_n hx hb dX5_buys_38 rfl (lv_at hl 1 rfl) ?_
            refine T_l13 C h (ix_of (rfl : x1_4.toInt = x1_4.toInt) (by omega)) dX5_buys_39 ?_
            refine lv_icmp_le (tgt := 45) hx hb dX5_buys_40 (by decide) (fun c40 => ?_) (fun c40 => ?_)
            · have i40 := c_le c40
              refine lv_iinc (v := (x2_4 + (1 : Int32))) (lv' := [(2, .int (x2_4 + (1 : Int32))), (0, .ref (g.2.1 99)), (1, .int x1_4)]) hx hb dX5_buys_45 hl (k := 2) rfl rfl (by decide) rfl (fun ls hl => ?_)
              refine lv_goto (tgt := 4) hx hb dX5_buys_48 (by decide) ?_
              have tt2 : (x2_4 + (1 : Int32)).toInt = (x2_4.toInt + (1)) := (i_add (rfl : x2_4.toInt = x2_4.toInt) zl1 (by omega))
              exact ih x1_4 (x2_4 + (1 : Int32)) _ _ _  (by first | assumption | omega) (by omega) h (lv_sub hl [1, 2, 0] rfl) (fun x1_4' x2_4' H locs ls en hI h hl => kk x1_4' x2_4' H locs ls ((show f_X5_buys_L4 σ (n + 1) x1_4 x2_4 = f_X5_buys_L4 σ n x1_4 (x2_4 + (1 : Int32)) from (by exact ((if_neg c9).trans ((if_pos c21).trans ((if_neg c25).trans ((if_pos c40).trans rfl)))))).trans en) hI h hl)
            · have i40 := c_nle c40
              refine lv_iload_n hx hb dX5_buys_43 rfl (lv_at hl 2 rfl) ?_
              refine lv_istore_n (lv' := [(1, .int x2_4), (0, .ref (g.2.1 99)), (2, .int x2_4)]) hx hb dX5_buys_44 rfl hl (by decide) rfl (fun ls hl => ?_)
              refine lv_iinc (v := (x2_4 + (1 : Int32))) (lv' := [(2, .int (x2_4 + (1 : Int32))), (1, .int x2_4), (0, .ref (g.2.1 99))]) hx hb dX5_buys_45 hl (k := 2) rfl rfl (by decide) rfl (fun ls hl => ?_)
              refine lv_goto (tgt := 4) hx hb dX5_buys_48 (by decide) ?_
              have tt2 : (x2_4 + (1 : Int32)).toInt = (x2_4.toInt + (1)) := (i_add (rfl : x2_4.toInt = x2_4.toInt) zl1 (by omega))
              exact ih x2_4 (x2_4 + (1 : Int32)) _ _ _  (by first | assumption | omega) (by omega) h (lv_sub hl [2, 1, 0] rfl) (fun x1_4' x2_4' H locs ls en hI h hl => kk x1_4' x2_4' H locs ls ((show f_X5_buys_L4 σ (n + 1) x1_4 x2_4 = f_X5_buys_L4 σ n x2_4 (x2_4 + (1 : Int32)) from (by exact ((if_neg c9).trans ((if_pos c21).trans ((if_neg c25).trans ((if_neg c40).trans rfl)))))).trans en) hI h hl)
  refine hL4 (7) (-1 : Int32) (0 : Int32) _ _ _  (by first | assumption | omega) (by omega) h (lv_sub hl [2, 1, 0] rfl) (fun x1_4e x2_4e H locs ls eL4 hI4 h hl => ?_)
  have ex1_4e : x1_4e = (f_X5_buys_L4 σ (7) (-1 : Int32) (0 : Int32)).1 := by rw [eL4]
  have ex2_4e : x2_4e = (f_X5_buys_L4 σ (7) (-1 : Int32) (0 : Int32)).2 := by rw [eL4]
  refine lv_iload_n hx hb dX5_buys_51 rfl (lv_at hl 0 rfl) ?_
  have he : f_X5_buys σ = x1_4e := (by have ex1_4e := ex1_4e.symm; subst ex1_4e; have ex2_4e := ex2_4e.symm; subst ex2_4e; exact rfl)
  exact w_reti (wXT g) C h hr hlocks rfl he (by first | assumption | omega | (unfold Hd; omega)) dX5_buys_52
def f_X5_round_L13 (y1_13 : Int32) : Nat → Int32 → MS → Int32 × MS
  | 0, x2_13, σL13 => (x2_13, σL13)
  | n + 1, x2_13, σL13 => if (gi σL13 1) ≤ x2_13 then ((x2_13, σL13)) else ((let σ37 := sa σL13 13 x2_13 ((ga σL13 13 x2_13) + (((gi σL13 8) >>> (x2_13 &&& (31 : Int32))) &&& (1 : Int32))); f_X5_round_L13 y1_13 n (x2_13 + (1 : Int32)) σ37))
def f_X5_round (σ : MS) : MS × Int32 := (let r1 := (f_X5_buys σ); if (0 : Int32) ≤ r1 then ((let zL13 := f_X5_round_L13 r1 (7) (0 : Int32) σ; let x2_13e := zL13.1; let σL13e := zL13.2; (let r55 := (f_J11_bitCount (gi σL13e 8)); let σ59 := sa σL13e 13 r1 ((ga σL13e 13 r1) - r55); let σ67 := si σ59 6 ((gi σ59 6) + (1 : Int32)); (σ67, r1)))) else ((σ, (-1 : Int32))))
set_option maxHeartbeats 4000000 in
set_option maxRecDepth 100000 in
theorem k_X5_round (l : Launch) (g : GT) (σ : MS) (htp : 0 ≤ (gi σ 1).toInt ∧ (gi σ 1).toInt ≤ 6) (htd : 0 ≤ (gi σ 3).toInt ∧ (gi σ 3).toInt ≤ 16 ∧ (gi σ 3).toInt ≤ (g.2.1 50 : Int)) : Met l yX5_round (ws_ yX5_round cX5_round 3 (some .int)) ({ frames := 1, cells := 0, slots := 0, locals := 22 } : Room) (wPc (dT g) (g.2.1 99) σ []) (wQi (dT g) (f_X5_round σ).1 (f_X5_round σ).2 (fun u r => ((gi u 1).toInt = (gi σ 1).toInt) ∧ ((gi u 3).toInt = (gi σ 3).toInt) ∧ (Fr [6, 7] [11, 12, 13] (fun _ => False) (fun _ => False) σ u))) 0 0 (dT g).2.2.2.1 := by
  refine met_W RX5 (by decide) rfl (Nat.le_of_ble_eq_true rfl) ?_
  intro p e s m args below meth c C hr hlocks h ls hl
  have hx := C.1.1
  have hb := C.1.2.1
  have hml := C.1.2.2.1
  have hown := C.1.2.2.2.1
  have hts := C.1.2.2.2.2
  have hl : lv_has ls 3 [(0, .ref (g.2.1 99))] := hl
  have htpq : (gi σ 1).toInt = (gi σ 1).toInt := rfl
  have htdq : (gi σ 3).toInt = (gi σ 3).toInt := rfl
  have hXF : Fr [6, 7] [11, 12, 13] (fun _ => False) (fun _ => False) σ σ := Fr.rf
  have zlm1 : (-1 : Int32).toInt = -1 := rfl
  have zl0 : (0 : Int32).toInt = 0 := rfl
  have zl1 : (1 : Int32).toInt = 1 := rfl
  refine lv_aload_n hx hb dX5_round_0 rfl (lv_at hl 0 rfl) ?_
  refine w_calli (ci := 5) (q0 := 0) (As := []) (rest := []) 0 (wXT g) C h (k_X5_buys l g σ (by first | assumption | omega)) (lw_V q1337 q1326 q1327 q151 q1328) rfl rfl rfl rfl (by decide +kernel) ⟨Nat.le_of_ble_eq_true rfl, Nat.le_of_ble_eq_true rfl⟩ rfl hl.1 rfl (Nat.le_of_ble_eq_true rfl) ⟨Nat.le_of_ble_eq_true rfl, Nat.le_of_ble_eq_true rfl⟩ dX5_round_1 (fun r1 σ1 H locs eσ1 er1 hE1 h => ?_)
  rw [eσ1] at h
  have hE1 : (-1 ≤ r1.toInt ∧ r1.toInt < (gi σ 1).toInt) := hE1
  have brng_1 := hE1
  clear eσ1
  refine lv_istore_n (lv' := [(1, .int r1), (0, .ref (g.2.1 99))]) hx hb dX5_round_4 rfl hl (by decide) rfl (fun ls hl => ?_)
  refine lv_iload_n hx hb dX5_round_5 rfl (lv_at hl 0 rfl) ?_
  refine lv_if_ge (tgt := 11) hx hb dX5_round_6 (by decide) (fun c6 => ?_) (fun c6 => ?_)
  · have i6 := c_le c6
    refine lv_iconst (v := 0) hx hb dX5_round_11 (by decide) ?_
    refine lv_istore_n (lv' := [(2, .int (0 : Int32)), (1, .int r1), (0, .ref (g.2.1 99))]) hx hb dX5_round_12 rfl hl (by decide) rfl (fun ls hl => ?_)
    have hL13 : ∀ (n : Nat) (x2_13 : Int32) (σL13 : MS) (H : Heap) (locs : List Loc) (ls : Array Slot), (0 ≤ (gi σL13 1).toInt ∧ (gi σL13 1).toInt ≤ 6) → (0 ≤ (gi σL13 3).toInt ∧ (gi σL13 3).toInt ≤ 16 ∧ (gi σL13 3).toInt ≤ (g.2.1 50 : Int)) → ((gi σL13 1).toInt = (gi σ 1).toInt) → ((gi σL13 3).toInt = (gi σ 3).toInt) → (Fr [6, 7] [11, 12, 13] (fun _ => False) (fun _ => False) σ σL13) → (0 ≤ x2_13.toInt ∧ x2_13.toInt ≤ (gi σL13 1).toInt) → ((gi σL13 1).toInt - x2_13.toInt).toNat < n → wH (dT g) σL13 s H locs → lv_has ls 3 [(0, .ref (g.2.1 99)), (1, .int r1), (2, .int x2_13)] → (∀ (x2_13' : Int32) (σL13' : MS) (H : Heap) (locs : List Loc) (ls : Array Slot), f_X5_round_L13 r1 n x2_13 σL13 = (x2_13', σL13') → (0 ≤ (gi σL13' 1).toInt ∧ (gi σL13' 1).toInt ≤ 6) → (0 ≤ (gi σL13' 3).toInt ∧ (gi σL13' 3).toInt ≤ 16 ∧ (gi σL13' 3).toInt ≤ (g.2.1 50 : Int)) → ((gi σL13' 1).toInt = (gi σ 1).toInt) → ((gi σL13' 3).toInt = (gi σ 3).toInt) → (Fr [6, 7] [11, 12, 13] (fun _ => False) (fun _ => False) σ σL13') → (0 ≤ x2_13'.toInt ∧ x2_13'.toInt ≤ (gi σL13' 1).toInt) → wH (dT g) σL13' s H locs → lv_has ls 3 [(0, .ref (g.2.1 99)), (1, .int r1)] → W p l e ({ frames := 1, cells := 0, slots := 0, locals := 22 } : Room) s m args below meth c H locs 0 0 (MQ below (wQi (dT g) (f_X5_round σ).1 (f_X5_round σ).2 (fun u r => ((gi u 1).toInt = (gi σ 1).toInt) ∧ ((gi u 3).toInt = (gi σ 3).toInt) ∧ (Fr [6, 7] [11, 12, 13] (fun _ => False) (fun _ => False) σ u))) args s 0 0 (dT g).2.2.2.1) (F0 m 44 ls [])) → W p l e ({ frames := 1, cells := 0, slots := 0, locals := 22 } : Room) s m args below meth c H locs 0 0 (MQ below (wQi (dT g) (f_X5_round σ).1 (f_X5_round σ).2 (fun u r => ((gi u 1).toInt = (gi σ 1).toInt) ∧ ((gi u 3).toInt = (gi σ 3).toInt) ∧ (Fr [6, 7] [11, 12, 13] (fun _ => False) (fun _ => False) σ u))) args s 0 0 (dT g).2.2.2.1) (F0 m 13 ls []) := by
      intro n
      induction n with
      | zero =>
        intro x2_13 σL13 H locs ls htp htd htpq htdq hXF _ hm; exact absurd hm (Nat.not_lt_zero _)
      | succ n ih =>
        intro x2_13 σL13 H locs ls htp htd htpq htdq hXF hI13 hm h hl kk
        refine lv_iload_n hx hb dX5_round_13 rfl (lv_at hl 2 rfl) ?_
        refine lv_aload_n hx hb dX5_round_14 rfl (lv_at hl 0 rfl) ?_
        refine T_g1 C h dX5_round_15 ?_
        refine lv_icmp_ge (tgt := 44) hx hb dX5_round_18 (by decide) (fun c18 => ?_) (fun c18 => ?_)
        · have i18 := c_le c18
          exact kk x2_13 σL13 _ _ _ (show f_X5_round_L13 r1 (n + 1) x2_13 σL13 = (x2_13, σL13) from (by exact ((if_pos c18).trans rfl))) htp htd htpq htdq hXF (by first | assumption | omega) h (lv_sub hl [0, 1] rfl)
        · have i18 := c_nle c18
          refine lv_aload_n hx hb dX5_round_21 rfl (lv_at hl 0 rfl) ?_
          refine T_g13 C h dX5_round_22 ?_
          refine lv_iload_n hx hb dX5_round_25 rfl (lv_at hl 2 rfl) ?_
          refine lv_dup2_11 hx hb dX5_round_26 rfl rfl ?_
          refine T_l13 C h (ix_of (rfl : x2_13.toInt = x2_13.toInt) (by omega)) dX5_round_27 ?_
          refine lv_aload_n hx hb dX5_round_28 rfl (lv_at hl 0 rfl) ?_
          refine T_g8 C h dX5_round_29 ?_
          refine lv_iload_n hx hb dX5_round_32 rfl (lv_at hl 2 rfl) ?_
          refine lv_ishr hx hb dX5_round_33 ?_
          refine lv_iconst (v := 1) hx hb dX5_round_34 (by decide) ?_
          refine lv_iand hx hb dX5_round_35 ?_
          refine lv_iadd hx hb dX5_round_36 ?_
          refine T_s13 C h (ix_of (rfl : x2_13.toInt = x2_13.toInt) (by omega)) dX5_round_37 (fun σ37 H locs eσ37 h => ?_)
          have hNEW : (0 ≤ (gi σ37 1).toInt ∧ (gi σ37 1).toInt ≤ 6) ∧ (0 ≤ (gi σ37 3).toInt ∧ (gi σ37 3).toInt ≤ 16 ∧ (gi σ37 3).toInt ≤ (g.2.1 50 : Int)) ∧ ((gi σ37 1).toInt = (gi σ 1).toInt) ∧ ((gi σ37 3).toInt = (gi σ 3).toInt) ∧ (Fr [6, 7] [11, 12, 13] (fun _ => False) (fun _ => False) σ σ37) := ⟨(by rw [eσ37] <;> exact htp), (by rw [eσ37] <;> exact htd), (by rw [eσ37] <;> exact htpq), (by rw [eσ37] <;> exact htdq), (by rw [eσ37]; exact (Fr_xa (by decide) (by decide) hXF))⟩
          obtain ⟨htp, htd, htpq, htdq, hXF⟩ := hNEW
          refine lv_iinc (v := (x2_13 + (1 : Int32))) (lv' := [(2, .int (x2_13 + (1 : Int32))), (0, .ref (g.2.1 99)), (1, .int r1)]) hx hb dX5_round_38 hl (k := 2) rfl rfl (by decide) rfl (fun ls hl => ?_)
          refine lv_goto (tgt := 13) hx hb dX5_round_41 (by decide) ?_
          have tt2 : (x2_13 + (1 : Int32)).toInt = (x2_13.toInt + (1)) := (i_add (rfl : x2_13.toInt = x2_13.toInt) zl1 (by omega))
          exact ih (x2_13 + (1 : Int32)) σ37 _ _ _ htp htd htpq htdq hXF (by first | assumption | omega) (by omega) h (lv_sub hl [1, 2, 0] rfl) (fun x2_13' σL13' H locs ls en htp htd htpq htdq hXF hI h hl => kk x2_13' σL13' H locs ls ((show f_X5_round_L13 r1 (n + 1) x2_13 σL13 = f_X5_round_L13 r1 n (x2_13 + (1 : Int32)) σ37 from (by have eσ37 := eσ37.symm; subst eσ37; exact ((if_neg c18).trans rfl))).trans en) htp htd htpq htdq hXF hI h hl)
    refine hL13 (7) (0 : Int32) σ _ _ _ htp htd htpq htdq hXF (by first | assumption | omega) (by omega) h (lv_sub hl [2, 1, 0] rfl) (fun x2_13e σL13e H locs ls eL13 htp htd htpq htdq hXF hI13 h hl => ?_)
    have ex2_13e : x2_13e = (f_X5_round_L13 r1 (7) (0 : Int32) σ).1 := by rw [eL13]
    have eσL13e : σL13e = (f_X5_round_L13 r1 (7) (0 : Int32) σ).2 := by rw [eL13]
    refine lv_aload_n hx hb dX5_round_44 rfl (lv_at hl 0 rfl) ?_
    refine T_g13 C h dX5_round_45 ?_
    refine lv_iload_n hx hb dX5_round_48 rfl (lv_at hl 1 rfl) ?_
    refine lv_dup2_11 hx hb dX5_round_49 rfl rfl ?_
    refine T_l13 C h (ix_of (rfl : r1.toInt = r1.toInt) (by omega)) dX5_round_50 ?_
    refine lv_aload_n hx hb dX5_round_51 rfl (lv_at hl 0 rfl) ?_
    refine T_g8 C h dX5_round_52 ?_
    refine s_calli (As := [.int (gi σL13e 8)]) (rest := [.int (ga σL13e 13 r1), .int r1, .ref (g.2.1 13)]) 1 C.1 (k_J11_bitCount l (gi σL13e 8)) (lw_S q1056 q1010 q170 q1011) rfl rfl (by decide +kernel) ⟨Nat.le_of_ble_eq_true rfl, Nat.le_of_ble_eq_true rfl⟩ rfl hl.1 rfl (Nat.le_of_ble_eq_true rfl) ⟨Nat.le_of_ble_eq_true rfl, Nat.le_of_ble_eq_true rfl⟩ dX5_round_55 h.2.2.1 (fun r55 H locs er55 hz1 hk1 hS1 => ?_)
    have h := h.same hk1 hS1
    clear hz1 hk1 hS1
    refine lv_isub hx hb dX5_round_58 ?_
    refine T_s13 C h (ix_of (rfl : r1.toInt = r1.toInt) (by omega)) dX5_round_59 (fun σ59 H locs eσ59 h => ?_)
    have hNEW : (0 ≤ (gi σ59 1).toInt ∧ (gi σ59 1).toInt ≤ 6) ∧ (0 ≤ (gi σ59 3).toInt ∧ (gi σ59 3).toInt ≤ 16 ∧ (gi σ59 3).toInt ≤ (g.2.1 50 : Int)) ∧ ((gi σ59 1).toInt = (gi σ 1).toInt) ∧ ((gi σ59 3).toInt = (gi σ 3).toInt) ∧ (Fr [6, 7] [11, 12, 13] (fun _ => False) (fun _ => False) σ σ59) := ⟨(by rw [eσ59] <;> exact htp), (by rw [eσ59] <;> exact htd), (by rw [eσ59] <;> exact htpq), (by rw [eσ59] <;> exact htdq), (by rw [eσ59]; exact (Fr_xa (by decide) (by decide) hXF))⟩
    obtain ⟨htp, htd, htpq, htdq, hXF⟩ := hNEW
    refine lv_aload_n hx hb dX5_round_60 rfl (lv_at hl 0 rfl) ?_
    refine lv_dup hx hb dX5_round_61 rfl ?_
    refine T_g6 C h dX5_round_62 ?_
    refine lv_iconst (v := 1) hx hb dX5_round_65 (by decide) ?_
    refine lv_iadd hx hb dX5_round_66 ?_
    refine T_p6 C h dX5_round_67 (fun σ67 H locs eσ67 h => ?_)
    have hNEW : (0 ≤ (gi σ67 1).toInt ∧ (gi σ67 1).toInt ≤ 6) ∧ (0 ≤ (gi σ67 3).toInt ∧ (gi σ67 3).toInt ≤ 16 ∧ (gi σ67 3).toInt ≤ (g.2.1 50 : Int)) ∧ ((gi σ67 1).toInt = (gi σ 1).toInt) ∧ ((gi σ67 3).toInt = (gi σ 3).toInt) ∧ (Fr [6, 7] [11, 12, 13] (fun _ => False) (fun _ => False) σ σ67) := ⟨(by rw [eσ67] <;> exact htp), (by rw [eσ67] <;> exact htd), (by rw [eσ67] <;> exact htpq), (by rw [eσ67] <;> exact htdq), (by rw [eσ67]; exact (Fr_si (by decide) hXF))⟩
    clear htp htd htpq htdq hXF
    obtain ⟨htp, htd, htpq, htdq, hXF⟩ := hNEW
    refine lv_iload_n hx hb dX5_round_70 rfl (lv_at hl 1 rfl) ?_
    have he : f_X5_round σ = (σ67, r1) := (by have er1 := er1.symm; subst er1; have ex2_13e := ex2_13e.symm; subst ex2_13e; have eσL13e := eσL13e.symm; subst eσL13e; have er55 := er55.symm; subst er55; have eσ59 := eσ59.symm; subst eσ59; have eσ67 := eσ67.symm; subst eσ67; exact ((if_pos c6).trans rfl))
    exact w_reti (wXT g) C h hr hlocks (congrArg Prod.fst he) (congrArg Prod.snd he) ⟨htpq, htdq, hXF⟩ dX5_round_71
  · have i6 := c_nle c6
    refine lv_iconst (v := -1) hx hb dX5_round_9 (by decide) ?_
    have he : f_X5_round σ = (σ, (-1 : Int32)) := (by have er1 := er1.symm; subst er1; exact ((if_neg c6).trans rfl))
    exact w_reti (wXT g) C h hr hlocks (congrArg Prod.fst he) (congrArg Prod.snd he) ⟨htpq, htdq, hXF⟩ dX5_round_10
def f_X5_lends (σ : MS) (p1 : Int32) (p2 : Int32) (p3 : Int32) : MS × Int32 := (let r3 := (f_X5_owes σ p2 p1); if (r3 + p3) ≤ (999999 : Int32) then ((let r21 := (f_X5_owes σ p2 p1); let σ26 := (f_X5_owe σ p2 p1 (r21 + p3)); (σ26, (1 : Int32)))) else ((σ, (0 : Int32))))
set_option maxHeartbeats 4000000 in
set_option maxRecDepth 100000 in
theorem k_X5_lends (l : Launch) (g : GT) (σ : MS) (p1 : Int32) (p2 : Int32) (p3 : Int32) (htp : 0 ≤ (gi σ 1).toInt ∧ (gi σ 1).toInt ≤ 6) (htd : 0 ≤ (gi σ 3).toInt ∧ (gi σ 3).toInt ≤ 16 ∧ (gi σ 3).toInt ≤ (g.2.1 50 : Int)) (h1r : 0 ≤ p1.toInt ∧ p1.toInt ≤ 5) (h2r : 0 ≤ p2.toInt ∧ p2.toInt ≤ 5) : Met l yX5_lends (ws_ yX5_lends cX5_lends 4 (some .boolean)) ({ frames := 1, cells := 0, slots := 0, locals := 23 } : Room) (wPc (dT g) (g.2.1 99) σ [.int p1, .int p2, .int p3]) (wQz (dT g) (f_X5_lends σ p1 p2 p3).1 (f_X5_lends σ p1 p2 p3).2 (fun u r => ((gi u 1).toInt = (gi σ 1).toInt) ∧ ((gi u 3).toInt = (gi σ 3).toInt) ∧ (Fr [6, 7] [11, 12, 13] (fun _ => False) (fun _ => False) σ u))) 0 0 (dT g).2.2.2.1 := by
  refine met_W RX5 (by decide) rfl (Nat.le_of_ble_eq_true rfl) ?_
  intro p e s m args below meth c C hr hlocks h ls hl
  have hx := C.1.1
  have hb := C.1.2.1
  have hml := C.1.2.2.1
  have hown := C.1.2.2.2.1
  have hts := C.1.2.2.2.2
  have hl : lv_has ls 4 [(0, .ref (g.2.1 99)), (1, .int p1), (2, .int p2), (3, .int p3)] := hl
  have htpq : (gi σ 1).toInt = (gi σ 1).toInt := rfl
  have htdq : (gi σ 3).toInt = (gi σ 3).toInt := rfl
  have hXF : Fr [6, 7] [11, 12, 13] (fun _ => False) (fun _ => False) σ σ := Fr.rf
  have zl0 : (0 : Int32).toInt = 0 := rfl
  have zl1 : (1 : Int32).toInt = 1 := rfl
  have zl999999 : (999999 : Int32).toInt = 999999 := rfl
  refine lv_aload_n hx hb dX5_lends_0 rfl (lv_at hl 0 rfl) ?_
  refine lv_iload_n hx hb dX5_lends_1 rfl (lv_at hl 2 rfl) ?_
  refine lv_iload_n hx hb dX5_lends_2 rfl (lv_at hl 1 rfl) ?_
  refine w_calli (ci := 5) (q0 := 0) (As := [.int p2, .int p1]) (rest := []) 2 (wXT g) C h (k_X5_owes l g σ p2 p1 (by first | assumption | omega) (by first | assumption | omega)) (lw_V q1143 q1144 q1145 q151 q1146) rfl rfl rfl rfl (by decide +kernel) ⟨Nat.le_of_ble_eq_true rfl, Nat.le_of_ble_eq_true rfl⟩ rfl hl.1 rfl (Nat.le_of_ble_eq_true rfl) ⟨Nat.le_of_ble_eq_true rfl, Nat.le_of_ble_eq_true rfl⟩ dX5_lends_3 (fun r3 σ3 H locs eσ3 er3 hE3 h => ?_)
  rw [eσ3] at h
  clear hE3
  clear eσ3
  refine lv_iload_n hx hb dX5_lends_6 rfl (lv_at hl 3 rfl) ?_
  refine lv_iadd hx hb dX5_lends_7 ?_
  refine lv_ldc hx hb hown (hts _ q1148) dX5_lends_8 ?_
  refine lv_icmp_le (tgt := 15) hx hb dX5_lends_10 (by decide) (fun c10 => ?_) (fun c10 => ?_)
  · have i10 := c_le c10
    refine lv_aload_n hx hb dX5_lends_15 rfl (lv_at hl 0 rfl) ?_
    refine lv_iload_n hx hb dX5_lends_16 rfl (lv_at hl 2 rfl) ?_
    refine lv_iload_n hx hb dX5_lends_17 rfl (lv_at hl 1 rfl) ?_
    refine lv_aload_n hx hb dX5_lends_18 rfl (lv_at hl 0 rfl) ?_
    refine lv_iload_n hx hb dX5_lends_19 rfl (lv_at hl 2 rfl) ?_
    refine lv_iload_n hx hb dX5_lends_20 rfl (lv_at hl 1 rfl) ?_
    refine w_calli (ci := 5) (q0 := 0) (As := [.int p2, .int p1]) (rest := [.int p1, .int p2, .ref (g.2.1 99)]) 2 (wXT g) C h (k_X5_owes l g σ p2 p1 (by first | assumption | omega) (by first | assumption | omega)) (lw_V q1143 q1144 q1145 q151 q1146) rfl rfl rfl rfl (by decide +kernel) ⟨Nat.le_of_ble_eq_true rfl, Nat.le_of_ble_eq_true rfl⟩ rfl hl.1 rfl (Nat.le_of_ble_eq_true rfl) ⟨Nat.le_of_ble_eq_true rfl, Nat.le_of_ble_eq_true rfl⟩ dX5_lends_21 (fun r21 σ21 H locs eσ21 er21 hE21 h => ?_)
    rw [eσ21] at h
    clear hE21
    clear eσ21
    refine lv_iload_n hx hb dX5_lends_24 rfl (lv_at hl 3 rfl) ?_
    refine lv_iadd hx hb dX5_lends_25 ?_
    refine w_callv (ci := 5) (q0 := 0) (As := [.int p2, .int p1, .int (r21 + p3)]) (rest := []) 3 (wXT g) C h (k_X5_owe l g σ p2 p1 (r21 + p3) (by first | assumption | omega) (by first | assumption | omega) (by first | assumption | omega) (by first | assumption | omega)) (lw_V q1149 q846 q847 q151 q848) rfl rfl rfl rfl (by decide +kernel) ⟨Nat.le_of_ble_eq_true rfl, Nat.le_of_ble_eq_true rfl⟩ rfl hl.1 rfl (Nat.le_of_ble_eq_true rfl) ⟨Nat.le_of_ble_eq_true rfl, Nat.le_of_ble_eq_true rfl⟩ dX5_lends_26 (fun σ26 H locs eσ26 hE26 h => ?_)
    have hE26 : ((gi σ26 1).toInt = (gi σ 1).toInt) ∧ ((gi σ26 3).toInt = (gi σ 3).toInt) ∧ (Fr [6, 7] [11, 12, 13] (fun _ => False) (fun _ => False) σ σ26) := hE26
    obtain ⟨htpq_26, htdq_26, hXF_26⟩ := hE26
    have hNEW : (0 ≤ (gi σ26 1).toInt ∧ (gi σ26 1).toInt ≤ 6) ∧ (0 ≤ (gi σ26 3).toInt ∧ (gi σ26 3).toInt ≤ 16 ∧ (gi σ26 3).toInt ≤ (g.2.1 50 : Int)) ∧ ((gi σ26 1).toInt = (gi σ 1).toInt) ∧ ((gi σ26 3).toInt = (gi σ 3).toInt) ∧ (Fr [6, 7] [11, 12, 13] (fun _ => False) (fun _ => False) σ σ26) := ⟨(by first | assumption | omega), (by first | assumption | omega), (by first | assumption | omega), (by first | assumption | omega), (Fr.tr hXF hXF_26)⟩
    obtain ⟨htp, htd, htpq, htdq, hXF⟩ := hNEW
    refine lv_iconst (v := 1) hx hb dX5_lends_29 (by decide) ?_
    have he : f_X5_lends σ p1 p2 p3 = (σ26, (1 : Int32)) := (by have er3 := er3.symm; subst er3; have er21 := er21.symm; subst er21; have eσ26 := eσ26.symm; subst eσ26; exact ((if_pos c10).trans rfl))
    exact w_retz (wXT g) C h hr hlocks (congrArg Prod.fst he) (congrArg Prod.snd he) (Or.inr rfl) ⟨htpq, htdq, hXF⟩ dX5_lends_30
  · have i10 := c_nle c10
    refine lv_iconst (v := 0) hx hb dX5_lends_13 (by decide) ?_
    have he : f_X5_lends σ p1 p2 p3 = (σ, (0 : Int32)) := (by have er3 := er3.symm; subst er3; exact ((if_neg c10).trans rfl))
    exact w_retz (wXT g) C h hr hlocks (congrArg Prod.fst he) (congrArg Prod.snd he) (Or.inl rfl) ⟨htpq, htdq, hXF⟩ dX5_lends_14
def f_X5_gives (σ : MS) (p1 : Int32) (p2 : Int32) (p3 : Int32) : MS × Int32 := (let r7 := (f_X5_owes σ p2 p1); let σ15 := (f_X5_owe σ p2 p1 (jmax (0 : Int32) (r7 - p3))); let σ25 := si σ15 7 ((gi σ15 7) + (1 : Int32)); let r31 := (f_X5_owes σ25 p2 p1); (σ25, r31))
set_option maxHeartbeats 4000000 in
set_option maxRecDepth 100000 in
theorem k_X5_gives (l : Launch) (g : GT) (σ : MS) (p1 : Int32) (p2 : Int32) (p3 : Int32) (htp : 0 ≤ (gi σ 1).toInt ∧ (gi σ 1).toInt ≤ 6) (htd : 0 ≤ (gi σ 3).toInt ∧ (gi σ 3).toInt ≤ 16 ∧ (gi σ 3).toInt ≤ (g.2.1 50 : Int)) (h1r : 0 ≤ p1.toInt ∧ p1.toInt ≤ 5) (h2r : 0 ≤ p2.toInt ∧ p2.toInt ≤ 5) : Met l yX5_gives (ws_ yX5_gives cX5_gives 4 (some .int)) ({ frames := 1, cells := 0, slots := 0, locals := 23 } : Room) (wPc (dT g) (g.2.1 99) σ [.int p1, .int p2, .int p3]) (wQi (dT g) (f_X5_gives σ p1 p2 p3).1 (f_X5_gives σ p1 p2 p3).2 (fun u r => ((gi u 1).toInt = (gi σ 1).toInt) ∧ ((gi u 3).toInt = (gi σ 3).toInt) ∧ (Fr [6, 7] [11, 12, 13] (fun _ => False) (fun _ => False) σ u))) 0 0 (dT g).2.2.2.1 := by
  refine met_W RX5 (by decide) rfl (Nat.le_of_ble_eq_true rfl) ?_
  intro p e s m args below meth c C hr hlocks h ls hl
  have hx := C.1.1
  have hb := C.1.2.1
  have hml := C.1.2.2.1
  have hown := C.1.2.2.2.1
  have hts := C.1.2.2.2.2
  have hl : lv_has ls 4 [(0, .ref (g.2.1 99)), (1, .int p1), (2, .int p2), (3, .int p3)] := hl
  have htpq : (gi σ 1).toInt = (gi σ 1).toInt := rfl
  have htdq : (gi σ 3).toInt = (gi σ 3).toInt := rfl
  have hXF : Fr [6, 7] [11, 12, 13] (fun _ => False) (fun _ => False) σ σ := Fr.rf
  have zl0 : (0 : Int32).toInt = 0 := rfl
  have zl1 : (1 : Int32).toInt = 1 := rfl
  refine lv_aload_n hx hb dX5_gives_0 rfl (lv_at hl 0 rfl) ?_
  refine lv_iload_n hx hb dX5_gives_1 rfl (lv_at hl 2 rfl) ?_
  refine lv_iload_n hx hb dX5_gives_2 rfl (lv_at hl 1 rfl) ?_
  refine lv_iconst (v := 0) hx hb dX5_gives_3 (by decide) ?_
  refine lv_aload_n hx hb dX5_gives_4 rfl (lv_at hl 0 rfl) ?_
  refine lv_iload_n hx hb dX5_gives_5 rfl (lv_at hl 2 rfl) ?_
  refine lv_iload_n hx hb dX5_gives_6 rfl (lv_at hl 1 rfl) ?_
  refine w_calli (ci := 5) (q0 := 0) (As := [.int p2, .int p1]) (rest := [.int (0 : Int32), .int p1, .int p2, .ref (g.2.1 99)]) 2 (wXT g) C h (k_X5_owes l g σ p2 p1 (by first | assumption | omega) (by first | assumption | omega)) (lw_V q1143 q1144 q1145 q151 q1146) rfl rfl rfl rfl (by decide +kernel) ⟨Nat.le_of_ble_eq_true rfl, Nat.le_of_ble_eq_true rfl⟩ rfl hl.1 rfl (Nat.le_of_ble_eq_true rfl) ⟨Nat.le_of_ble_eq_true rfl, Nat.le_of_ble_eq_true rfl⟩ dX5_gives_7 (fun r7 σ7 H locs eσ7 er7 hE7 h => ?_)
  rw [eσ7] at h
  clear hE7
  clear eσ7
  refine lv_iload_n hx hb dX5_gives_10 rfl (lv_at hl 3 rfl) ?_
  refine lv_isub hx hb dX5_gives_11 ?_
  refine va_mmax hx hb (hml.trans hl.1.symm) hown (hts _ q1381) (hts _ q1273) (hts _ q164) (hts _ q1274) (Nat.le_of_ble_eq_true rfl) (Nat.le_of_ble_eq_true rfl) (Nat.le_of_ble_eq_true rfl) (Nat.le_of_ble_eq_true rfl) dX5_gives_12 ?_
  refine w_callv (ci := 5) (q0 := 0) (As := [.int p2, .int p1, .int (jmax (0 : Int32) (r7 - p3))]) (rest := []) 3 (wXT g) C h (k_X5_owe l g σ p2 p1 (jmax (0 : Int32) (r7 - p3)) (by first | assumption | omega) (by first | assumption | omega) (by first | assumption | omega) (by first | assumption | omega)) (lw_V q1149 q846 q847 q151 q848) rfl rfl rfl rfl (by decide +kernel) ⟨Nat.le_of_ble_eq_true rfl, Nat.le_of_ble_eq_true rfl⟩ rfl hl.1 rfl (Nat.le_of_ble_eq_true rfl) ⟨Nat.le_of_ble_eq_true rfl, Nat.le_of_ble_eq_true rfl⟩ dX5_gives_15 (fun σ15 H locs eσ15 hE15 h => ?_)
  have hE15 : ((gi σ15 1).toInt = (gi σ 1).toInt) ∧ ((gi σ15 3).toInt = (gi σ 3).toInt) ∧ (Fr [6, 7] [11, 12, 13] (fun _ => False) (fun _ => False) σ σ15) := hE15
  obtain ⟨htpq_15, htdq_15, hXF_15⟩ := hE15
  have hNEW : (0 ≤ (gi σ15 1).toInt ∧ (gi σ15 1).toInt ≤ 6) ∧ (0 ≤ (gi σ15 3).toInt ∧ (gi σ15 3).toInt ≤ 16 ∧ (gi σ15 3).toInt ≤ (g.2.1 50 : Int)) ∧ ((gi σ15 1).toInt = (gi σ 1).toInt) ∧ ((gi σ15 3).toInt = (gi σ 3).toInt) ∧ (Fr [6, 7] [11, 12, 13] (fun _ => False) (fun _ => False) σ σ15) := ⟨(by first | assumption | omega), (by first | assumption | omega), (by first | assumption | omega), (by first | assumption | omega), (Fr.tr hXF hXF_15)⟩
  obtain ⟨htp, htd, htpq, htdq, hXF⟩ := hNEW
  refine lv_aload_n hx hb dX5_gives_18 rfl (lv_at hl 0 rfl) ?_
  refine lv_dup hx hb dX5_gives_19 rfl ?_
  refine T_g7 C h dX5_gives_20 ?_
  refine lv_iconst (v := 1) hx hb dX5_gives_23 (by decide) ?_
  refine lv_iadd hx hb dX5_gives_24 ?_
  refine T_p7 C h dX5_gives_25 (fun σ25 H locs eσ25 h => ?_)
  have hNEW : (0 ≤ (gi σ25 1).toInt ∧ (gi σ25 1).toInt ≤ 6) ∧ (0 ≤ (gi σ25 3).toInt ∧ (gi σ25 3).toInt ≤ 16 ∧ (gi σ25 3).toInt ≤ (g.2.1 50 : Int)) ∧ ((gi σ25 1).toInt = (gi σ 1).toInt) ∧ ((gi σ25 3).toInt = (gi σ 3).toInt) ∧ (Fr [6, 7] [11, 12, 13] (fun _ => False) (fun _ => False) σ σ25) := ⟨(by rw [eσ25] <;> exact htp), (by rw [eσ25] <;> exact htd), (by rw [eσ25] <;> exact htpq), (by rw [eσ25] <;> exact htdq), (by rw [eσ25]; exact (Fr_si (by decide) hXF))⟩
  clear htp htd htpq htdq hXF
  obtain ⟨htp, htd, htpq, htdq, hXF⟩ := hNEW
  refine lv_aload_n hx hb dX5_gives_28 rfl (lv_at hl 0 rfl) ?_
  refine lv_iload_n hx hb dX5_gives_29 rfl (lv_at hl 2 rfl) ?_
  refine lv_iload_n hx hb dX5_gives_30 rfl (lv_at hl 1 rfl) ?_
  refine w_calli (ci := 5) (q0 := 0) (As := [.int p2, .int p1]) (rest := []) 2 (wXT g) C h (k_X5_owes l g σ25 p2 p1 (by first | assumption | omega) (by first | assumption | omega)) (lw_V q1143 q1144 q1145 q151 q1146) rfl rfl rfl rfl (by decide +kernel) ⟨Nat.le_of_ble_eq_true rfl, Nat.le_of_ble_eq_true rfl⟩ rfl hl.1 rfl (Nat.le_of_ble_eq_true rfl) ⟨Nat.le_of_ble_eq_true rfl, Nat.le_of_ble_eq_true rfl⟩ dX5_gives_31 (fun r31 σ31 H locs eσ31 er31 hE31 h => ?_)
  rw [eσ31] at h
  clear hE31
  clear eσ31
  have he : f_X5_gives σ p1 p2 p3 = (σ25, r31) := (by have er7 := er7.symm; subst er7; have eσ15 := eσ15.symm; subst eσ15; have eσ25 := eσ25.symm; subst eσ25; have er31 := er31.symm; subst er31; exact rfl)
  exact w_reti (wXT g) C h hr hlocks (congrArg Prod.fst he) (congrArg Prod.snd he) ⟨htpq, htdq, hXF⟩ dX5_gives_34
def f_X5_named_L2 (σ : MS) (y1_2 : Int64) : Nat → Int32 → Int32
  | 0, x3_2 => 0
  | n + 1, x3_2 => if (gi σ 1) ≤ x3_2 then ((-1 : Int32)) else (if (lg_cmp (gb σ 20 x3_2) y1_2) = (0 : Int32) then (x3_2) else (f_X5_named_L2 σ y1_2 n (x3_2 + (1 : Int32))))
def f_X5_named (σ : MS) (p1 : Int64) : Int32 := f_X5_named_L2 σ p1 (7) (0 : Int32)
set_option maxHeartbeats 4000000 in
set_option maxRecDepth 100000 in
theorem k_X5_named (l : Launch) (g : GT) (σ : MS) (p1 : Int64) (htp : 0 ≤ (gi σ 1).toInt ∧ (gi σ 1).toInt ≤ 6) : Met l yX5_named (ws_ yX5_named cX5_named 4 (some .int)) ({ frames := 0, cells := 0, slots := 0, locals := 0 } : Room) (wPc (dT g) (g.2.1 99) σ [.long p1]) (wQi (dT g) σ (f_X5_named σ p1) (fun u r => (-1 ≤ r.toInt ∧ (r.toInt < (gi σ 1).toInt ∨ r.toInt = -1)))) 0 0 (dT g).2.2.2.1 := by
  refine met_W RX5 (by decide) rfl (Nat.le_of_ble_eq_true rfl) ?_
  intro p e s m args below meth c C hr hlocks h ls hl
  have hx := C.1.1
  have hb := C.1.2.1
  have hml := C.1.2.2.1
  have hown := C.1.2.2.2.1
  have hts := C.1.2.2.2.2
  have hl : lv_has ls 4 [(0, .ref (g.2.1 99)), (1, .long p1)] := hl
  have zlm1 : (-1 : Int32).toInt = -1 := rfl
  have zl0 : (0 : Int32).toInt = 0 := rfl
  have zl1 : (1 : Int32).toInt = 1 := rfl
  refine lv_iconst (v := 0) hx hb dX5_named_0 (by decide) ?_
  refine lv_istore_n (lv' := [(3, .int (0 : Int32)), (0, .ref (g.2.1 99)), (1, .long p1)]) hx hb dX5_named_1 rfl hl (by decide) rfl (fun ls hl => ?_)
  have hL2 : ∀ (n : Nat) (x3_2 : Int32) (H : Heap) (locs : List Loc) (ls : Array Slot), (0 ≤ x3_2.toInt ∧ x3_2.toInt ≤ (gi σ 1).toInt) → ((gi σ 1).toInt - x3_2.toInt).toNat < n → f_X5_named σ p1 = f_X5_named_L2 σ p1 n x3_2 → wH (dT g) σ s H locs → lv_has ls 4 [(0, .ref (g.2.1 99)), (1, .long p1), (3, .int x3_2)] → W p l e ({ frames := 0, cells := 0, slots := 0, locals := 0 } : Room) s m args below meth c H locs 0 0 (MQ below (wQi (dT g) σ (f_X5_named σ p1) (fun u r => (-1 ≤ r.toInt ∧ (r.toInt < (gi σ 1).toInt ∨ r.toInt = -1)))) args s 0 0 (dT g).2.2.2.1) (F0 m 2 ls []) := by
    intro n
    induction n with
    | zero =>
      intro x3_2 H locs ls _ hm; exact absurd hm (Nat.not_lt_zero _)
    | succ n ih =>
      intro x3_2 H locs ls hI2 hm hf2 h hl
      refine lv_iload_n hx hb dX5_named_2 rfl (lv_at hl 2 rfl) ?_
      refine lv_aload_n hx hb dX5_named_3 rfl (lv_at hl 0 rfl) ?_
      refine T_g1 C h dX5_named_4 ?_
      refine lv_icmp_ge (tgt := 32) hx hb dX5_named_7 (by decide) (fun c7 => ?_) (fun c7 => ?_)
      · have i7 := c_le c7
        refine lv_iconst (v := -1) hx hb dX5_named_32 (by decide) ?_
        have he : f_X5_named σ p1 = (-1 : Int32) := (by exact (hf2.trans ((if_pos c7).trans rfl)))
        exact w_reti (wXT g) C h hr hlocks rfl he (by first | assumption | omega | (unfold Hd; omega)) dX5_named_33
      · have i7 := c_nle c7
        refine lv_aload_n hx hb dX5_named_10 rfl (lv_at hl 0 rfl) ?_
        refine T_g0 C h dX5_named_11 ?_
        refine lv_iload_n hx hb dX5_named_14 rfl (lv_at hl 2 rfl) ?_
        refine T_pers C h (by omega) dX5_named_15 ?_
        refine T_f0 C h (by omega) dX5_named_16 ?_
        refine lv_lload_n hx hb dX5_named_19 rfl (lv_at hl 1 rfl) ?_
        refine W.lcmp hx hb dX5_named_20 ?_
        refine lv_if_ne (tgt := 26) hx hb dX5_named_21 (by decide) (fun c21 => ?_) (fun c21 => ?_)
        · have i21 := c_ne c21
          refine lv_iinc (v := (x3_2 + (1 : Int32))) (lv' := [(3, .int (x3_2 + (1 : Int32))), (0, .ref (g.2.1 99)), (1, .long p1)]) hx hb dX5_named_26 hl (k := 2) rfl rfl (by decide) rfl (fun ls hl => ?_)
          refine lv_goto (tgt := 2) hx hb dX5_named_29 (by decide) ?_
          have tt3 : (x3_2 + (1 : Int32)).toInt = (x3_2.toInt + (1)) := (i_add (rfl : x3_2.toInt = x3_2.toInt) zl1 (by omega))
          exact ih (x3_2 + (1 : Int32)) _ _ _  (by first | assumption | omega) (by omega) (by exact (hf2.trans ((if_neg c7).trans ((if_neg c21).trans rfl)))) h (lv_sub hl [1, 2, 0] rfl)
        · have i21 := c_eq c21
          refine lv_iload_n hx hb dX5_named_24 rfl (lv_at hl 2 rfl) ?_
          have he : f_X5_named σ p1 = x3_2 := (by exact (hf2.trans ((if_neg c7).trans ((if_pos c21).trans rfl))))
          exact w_reti (wXT g) C h hr hlocks rfl he (by first | assumption | omega | (unfold Hd; omega)) dX5_named_25
  exact hL2 (7) (0 : Int32) _ _ _  (by first | assumption | omega) (by omega) (by exact rfl) h (lv_sub hl [1, 2, 0] rfl)
