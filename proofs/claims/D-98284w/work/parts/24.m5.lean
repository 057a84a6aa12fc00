/-! walks of methods by contract, printed by gen/mkwalk.py -/
set_option maxRecDepth 100000
section M5
variable {p : Program} {l : Launch} {e : Env} {R : Room} {s : State} {m : MethodId} {args : Array Value} {below : List Frame} {meth : Method} {c : Code} {H : Heap} {locs : List Loc} {cells slots : Nat} {Q : State → Prop}
variable {cc : ByteArray} {nL pc : Nat} {ls : Array Slot} {rest st0 : List Value} {g : GE} {σ : MS}
theorem M_len2 {idx : Nat} (C : MC g p s m args c cc nL) (h : MH g σ s H locs) (hl : Cond.methodLink RX6 idx yJ4_length ∈ lw_all) (hR : 2 ≤ R.frames ∧ 40 ≤ R.locals) (hls : ls.size = nL) (hW : (rest.map fun v => v.category).sum ≤ 8) (hcs : cells ≤ R.cells ∧ slots ≤ R.slots) (hdg : decode cc pc = .ok (.invokevirtual idx, 3))
    (kk : ∀ (H1 : Heap) (locs1 : List Loc), MH g σ s H1 locs1 → W p l e R s m args below meth c H1 locs1 cells slots Q (F0 m (pc + 3) ls (.int (161 : Int32) :: rest))) : W p l e R s m args below meth c H locs cells slots Q (F0 m pc ls (.ref (g.2.1 97) :: rest)) :=
  M_len C h hl hR hls hW hcs hdg (fun H1 l1 h1 => by rw [show nI keysB.length = (161 : Int32) by decide +kernel]; exact kk H1 l1 h1)
end M5
theorem and255 {x : Int32} : 0 ≤ (x &&& 255).toInt ∧ (x &&& 255).toInt ≤ 255 := by
  have e : x &&& 255 = 255 &&& x := Int32.and_comm _ _
  have z : (255 : Int32).toInt = 255 := rfl
  have := and_rng (x := 255) (y := x) (by omega)
  rw [e]; omega
theorem end_inc {σ σ' : MS} (e : σ' = si σ 14 (gi σ 14 + 1)) (h : 0 ≤ (gi σ 14).toInt ∧ (gi σ 14).toInt ≤ 900) : (gi σ' 14).toInt = (gi σ 14).toInt + 1 ∧ (gi σ' 11).toInt = (gi σ 11).toInt ∧ (gi σ' 13).toInt = (gi σ 13).toInt := by
  rw [e]
  exact ⟨i_add rfl (show (1 : Int32).toInt = 1 from rfl) (by omega), rfl, rfl⟩
theorem isSmall_ok {c r : Int32} (h : r = f_X6_isSmall c) (hr : ¬ r = 0) : 97 ≤ c.toInt ∧ c.toInt ≤ 122 := by
  unfold f_X6_isSmall at h
  have za : (97 : Int32).toInt = 97 := rfl
  have zb : (122 : Int32).toInt = 122 := rfl
  split at h
  · exact absurd h hr
  · rename_i h1
    split at h
    · exact absurd h hr
    · rename_i h2
      have a := c_nlt h1
      have b := c_nlt h2
      omega
theorem isDigit_ok {c r : Int32} (h : r = f_X6_isDigit c) (hr : ¬ r = 0) : 48 ≤ c.toInt ∧ c.toInt ≤ 57 := by
  unfold f_X6_isDigit at h
  have za : (48 : Int32).toInt = 48 := rfl
  have zb : (57 : Int32).toInt = 57 := rfl
  split at h
  · exact absurd h hr
  · rename_i h1
    split at h
    · exact absurd h hr
    · rename_i h2
      have a := c_nlt h1
      have b := c_nlt h2
      omega
def f_X6_byteAt (σ : MS) (p1 : Int32) : Int32 := if (gi σ 11) ≤ p1 then ((-1 : Int32)) else (((ga σ 9 p1) &&& (255 : Int32)))
set_option maxHeartbeats 4000000 in
set_option maxRecDepth 100000 in
theorem k_X6_byteAt (l : Launch) (g : GE) (σ : MS) (p1 : Int32) (hsz : 0 ≤ (gi σ 11).toInt ∧ (gi σ 11).toInt ≤ 900) (h0 : 0 ≤ p1.toInt) : Met l yX6_byteAt (ws_ yX6_byteAt cX6_byteAt 2 (some .int)) ({ frames := 0, cells := 0, slots := 0, locals := 0 } : Room) (mPc g σ [.int p1]) (mQi g σ (f_X6_byteAt σ p1) (fun u r => ((¬ r.toInt = -1 → p1.toInt < (gi u 11).toInt) ∧ -1 ≤ r.toInt ∧ r.toInt ≤ 255))) 0 0 (mA g) := by
  refine met_M (by decide) rfl (Nat.le_of_ble_eq_true rfl) ?_
  intro p e s m args below meth c C hr hlocks h ls hl
  have hx := C.1.1
  have hb := C.1.2.1
  have hml := C.1.2.2.1
  have hown := C.1.2.2.2.1
  have hts := C.1.2.2.2.2
  have hl : lv_has ls 2 [(0, .ref (g.2.1 99)), (1, .int p1)] := hl
  have zlm1 : (-1 : Int32).toInt = -1 := rfl
  have zl255 : (255 : Int32).toInt = 255 := rfl
  refine lv_iload_n hx hb dX6_byteAt_0 rfl (lv_at hl 1 rfl) ?_
  refine lv_aload_n hx hb dX6_byteAt_1 rfl (lv_at hl 0 rfl) ?_
  refine Mg_11 C h dX6_byteAt_2 ?_
  refine lv_icmp_ge (tgt := 21) hx hb dX6_byteAt_5 (by decide) (fun c5 => ?_) (fun c5 => ?_)
  · have i5 := c_le c5
    refine lv_iconst (v := -1) hx hb dX6_byteAt_21 (by decide) ?_
    have he : f_X6_byteAt σ p1 = (-1 : Int32) := (by exact ((if_pos c5).trans rfl))
    exact M_reti C h hr hlocks rfl he (by first | assumption | omega | (unfold Hd; omega)) dX6_byteAt_22
  · have i5 := c_nle c5
    refine lv_aload_n hx hb dX6_byteAt_8 rfl (lv_at hl 0 rfl) ?_
    refine Mg_9 C h dX6_byteAt_9 ?_
    refine lv_iload_n hx hb dX6_byteAt_12 rfl (lv_at hl 1 rfl) ?_
    refine Ml_9 C h (ix_of (rfl : p1.toInt = p1.toInt) (by omega)) dX6_byteAt_13 ?_
    refine lv_sipush (v := 255) hx hb dX6_byteAt_14 (by decide) ?_
    refine lv_iand hx hb dX6_byteAt_17 ?_
    have w17 := and255 (x := ga σ 9 p1)
    refine lv_goto (tgt := 22) hx hb dX6_byteAt_18 (by decide) ?_
    have he : f_X6_byteAt σ p1 = ((ga σ 9 p1) &&& (255 : Int32)) := (by exact ((if_neg c5).trans rfl))
    exact M_reti C h hr hlocks rfl he (by first | assumption | omega | (unfold Hd; omega)) dX6_byteAt_22
def f_X6_isSign (σ : MS) (p1 : Int32) : Int32 := if (gi σ 12) = (4 : Int32) then (if (gi σ 15) = p1 then ((1 : Int32)) else ((0 : Int32))) else ((0 : Int32))
set_option maxHeartbeats 4000000 in
set_option maxRecDepth 100000 in
theorem k_X6_isSign (l : Launch) (g : GE) (σ : MS) (p1 : Int32) : Met l yX6_isSign (ws_ yX6_isSign cX6_isSign 2 (some .boolean)) ({ frames := 0, cells := 0, slots := 0, locals := 0 } : Room) (mPc g σ [.int p1]) (mQz g σ (f_X6_isSign σ p1) (fun u r => True)) 0 0 (mA g) := by
  refine met_M (by decide) rfl (Nat.le_of_ble_eq_true rfl) ?_
  intro p e s m args below meth c C hr hlocks h ls hl
  have hx := C.1.1
  have hb := C.1.2.1
  have hml := C.1.2.2.1
  have hown := C.1.2.2.2.1
  have hts := C.1.2.2.2.2
  have hl : lv_has ls 2 [(0, .ref (g.2.1 99)), (1, .int p1)] := hl
  have zl0 : (0 : Int32).toInt = 0 := rfl
  have zl1 : (1 : Int32).toInt = 1 := rfl
  have zl4 : (4 : Int32).toInt = 4 := rfl
  refine lv_aload_n hx hb dX6_isSign_0 rfl (lv_at hl 0 rfl) ?_
  refine Mg_12 C h dX6_isSign_1 ?_
  refine lv_iconst (v := 4) hx hb dX6_isSign_4 (by decide) ?_
  refine lv_icmp_ne (tgt := 20) hx hb dX6_isSign_5 (by decide) (fun c5 => ?_) (fun c5 => ?_)
  · have i5 := c_ne c5
    refine lv_iconst (v := 0) hx hb dX6_isSign_20 (by decide) ?_
    have he : f_X6_isSign σ p1 = (0 : Int32) := (by exact ((if_neg c5).trans rfl))
    exact M_retz C h hr hlocks rfl he (Or.inl rfl) trivial dX6_isSign_21
  · have i5 := c_eq c5
    refine lv_aload_n hx hb dX6_isSign_8 rfl (lv_at hl 0 rfl) ?_
    refine Mg_15 C h dX6_isSign_9 ?_
    refine lv_iload_n hx hb dX6_isSign_12 rfl (lv_at hl 1 rfl) ?_
    refine lv_icmp_ne (tgt := 20) hx hb dX6_isSign_13 (by decide) (fun c13 => ?_) (fun c13 => ?_)
    · have i13 := c_ne c13
      refine lv_iconst (v := 0) hx hb dX6_isSign_20 (by decide) ?_
      have he : f_X6_isSign σ p1 = (0 : Int32) := (by exact ((if_pos c5).trans ((if_neg c13).trans rfl)))
      exact M_retz C h hr hlocks rfl he (Or.inl rfl) trivial dX6_isSign_21
    · have i13 := c_eq c13
      refine lv_iconst (v := 1) hx hb dX6_isSign_16 (by decide) ?_
      refine lv_goto (tgt := 21) hx hb dX6_isSign_17 (by decide) ?_
      have he : f_X6_isSign σ p1 = (1 : Int32) := (by exact ((if_pos c5).trans ((if_pos c13).trans rfl)))
      exact M_retz C h hr hlocks rfl he (Or.inr rfl) trivial dX6_isSign_21
theorem isSign_ok {σ : MS} {c r : Int32} (h : r = f_X6_isSign σ c) (hr : ¬ r = 0) : (gi σ 12).toInt = 4 := by
  unfold f_X6_isSign at h
  split at h
  · rename_i h1
    rw [h1]; rfl
  · exact absurd h hr
def f_X6_fails (σ : MS) (p1 : Int32) : MS × Int32 := if (gi σ 18) = (0 : Int32) then ((let z21_ : Int32 := (if (gi σ 12) = (1 : Int32) then ((1 : Int32)) else (p1)); let t0_21 := z21_; (let σ21 := si σ 18 t0_21; let σ29 := si σ21 17 (gi σ21 13); (σ29, (0 : Int32))))) else ((σ, (0 : Int32)))
set_option maxHeartbeats 4000000 in
set_option maxRecDepth 100000 in
theorem k_X6_fails (l : Launch) (g : GE) (σ : MS) (p1 : Int32) (hsz : 0 ≤ (gi σ 11).toInt ∧ (gi σ 11).toInt ≤ 900) (hen : 0 ≤ (gi σ 14).toInt ∧ (gi σ 14).toInt ≤ (gi σ 11).toInt) (hfr : 0 ≤ (gi σ 13).toInt ∧ (gi σ 13).toInt ≤ (gi σ 14).toInt) (htk : Hd (¬ (gi σ 12).toInt = 0 → (gi σ 13).toInt < (gi σ 14).toInt)) : Met l yX6_fails (ws_ yX6_fails cX6_fails 2 (some .boolean)) ({ frames := 0, cells := 0, slots := 0, locals := 0 } : Room) (mPc g σ [.int p1]) (mQz g (f_X6_fails σ p1).1 (f_X6_fails σ p1).2 (fun u r => (∀ j : Int32, ga u 0 j = ga σ 0 j) ∧ ((gi u 11).toInt = (gi σ 11).toInt) ∧ ((gi σ 13).toInt ≤ (gi u 13).toInt) ∧ (PFr σ u) ∧ (0 ≤ (gi u 11).toInt ∧ (gi u 11).toInt ≤ 900) ∧ (0 ≤ (gi u 14).toInt ∧ (gi u 14).toInt ≤ (gi u 11).toInt) ∧ (0 ≤ (gi u 13).toInt ∧ (gi u 13).toInt ≤ (gi u 14).toInt) ∧ (Hd (¬ (gi u 12).toInt = 0 → (gi u 13).toInt < (gi u 14).toInt)) ∧ (r.toInt = 0))) 0 0 (mA g) := by
  refine met_M (by decide) rfl (Nat.le_of_ble_eq_true rfl) ?_
  intro p e s m args below meth c C hr hlocks h ls hl
  have hx := C.1.1
  have hb := C.1.2.1
  have hml := C.1.2.2.1
  have hown := C.1.2.2.2.1
  have hts := C.1.2.2.2.2
  have hl : lv_has ls 2 [(0, .ref (g.2.1 99)), (1, .int p1)] := hl
  have hA0 : ∀ j : Int32, ga σ 0 j = ga σ 0 j := fun _ => rfl
  have hsm : (gi σ 11).toInt = (gi σ 11).toInt := rfl
  have hmo : (gi σ 13).toInt ≤ (gi σ 13).toInt := Int.le_refl _
  have hFR : PFr σ σ := Fr.rf
  have zl0 : (0 : Int32).toInt = 0 := rfl
  have zl1 : (1 : Int32).toInt = 1 := rfl
  refine lv_aload_n hx hb dX6_fails_0 rfl (lv_at hl 0 rfl) ?_
  refine Mg_18 C h dX6_fails_1 ?_
  refine lv_if_ne (tgt := 32) hx hb dX6_fails_4 (by decide) (fun c4 => ?_) (fun c4 => ?_)
  · have i4 := c_ne c4
    refine lv_iconst (v := 0) hx hb dX6_fails_32 (by decide) ?_
    have he : f_X6_fails σ p1 = (σ, (0 : Int32)) := (by exact ((if_neg c4).trans rfl))
    exact M_retz C h hr hlocks (congrArg Prod.fst he) (congrArg Prod.snd he) (Or.inl rfl) ⟨hA0, hsm, hmo, hFR, (by first | assumption | omega | (unfold Hd; omega)), (by first | assumption | omega | (unfold Hd; omega)), (by first | assumption | omega | (unfold Hd; omega)), (by first | assumption | omega | (unfold Hd; omega)), (by first | assumption | omega | (unfold Hd; omega))⟩ dX6_fails_33
  · have i4 := c_eq c4
    refine lv_aload_n hx hb dX6_fails_7 rfl (lv_at hl 0 rfl) ?_
    refine lv_aload_n hx hb dX6_fails_8 rfl (lv_at hl 0 rfl) ?_
    refine Mg_12 C h dX6_fails_9 ?_
    refine lv_iconst (v := 1) hx hb dX6_fails_12 (by decide) ?_
    have j21 : ∀ (t0_21 : Int32) (H : Heap) (locs : List Loc) (ls : Array Slot) (ej21 : (if (gi σ 12) = (1 : Int32) then ((1 : Int32)) else (p1)) = t0_21) (h : MH g σ s H locs) (hl : lv_has ls 2 [(0, .ref (g.2.1 99))]), W p l e ({ frames := 0, cells := 0, slots := 0, locals := 0 } : Room) s m args below meth c H locs 0 0 (MQ below (mQz g (f_X6_fails σ p1).1 (f_X6_fails σ p1).2 (fun u r => (∀ j : Int32, ga u 0 j = ga σ 0 j) ∧ ((gi u 11).toInt = (gi σ 11).toInt) ∧ ((gi σ 13).toInt ≤ (gi u 13).toInt) ∧ (PFr σ u) ∧ (0 ≤ (gi u 11).toInt ∧ (gi u 11).toInt ≤ 900) ∧ (0 ≤ (gi u 14).toInt ∧ (gi u 14).toInt ≤ (gi u 11).toInt) ∧ (0 ≤ (gi u 13).toInt ∧ (gi u 13).toInt ≤ (gi u 14).toInt) ∧ (Hd (¬ (gi u 12).toInt = 0 → (gi u 13).toInt < (gi u 14).toInt)) ∧ (r.toInt = 0))) args s 0 0 (mA g)) (F0 m 21 ls [.int t0_21, .ref (g.2.1 99)]) := by
      intro t0_21 H locs ls ej21 h hl
      have et0_21 := ej21.symm
      refine Mp_18 C h dX6_fails_21 (fun σ21 H locs eσ21 h => ?_)
      have hNEW : (0 ≤ (gi σ21 11).toInt ∧ (gi σ21 11).toInt ≤ 900) ∧ (0 ≤ (gi σ21 14).toInt ∧ (gi σ21 14).toInt ≤ (gi σ21 11).toInt) ∧ (0 ≤ (gi σ21 13).toInt ∧ (gi σ21 13).toInt ≤ (gi σ21 14).toInt) ∧ (Hd (¬ (gi σ21 12).toInt = 0 → (gi σ21 13).toInt < (gi σ21 14).toInt)) ∧ (∀ j : Int32, ga σ21 0 j = ga σ 0 j) ∧ ((gi σ21 11).toInt = (gi σ 11).toInt) ∧ ((gi σ 13).toInt ≤ (gi σ21 13).toInt) ∧ (PFr σ σ21) := ⟨(by rw [eσ21] <;> exact hsz), (by rw [eσ21] <;> exact hen), (by rw [eσ21] <;> exact hfr), (by rw [eσ21] <;> exact htk), (by rw [eσ21] <;> exact hA0), (by rw [eσ21] <;> exact hsm), (by rw [eσ21] <;> exact hmo), (by rw [eσ21]; exact (Fr_si (by decide) hFR))⟩
      obtain ⟨hsz, hen, hfr, htk, hA0, hsm, hmo, hFR⟩ := hNEW
      refine lv_aload_n hx hb dX6_fails_24 rfl (lv_at hl 0 rfl) ?_
      refine lv_aload_n hx hb dX6_fails_25 rfl (lv_at hl 0 rfl) ?_
      refine Mg_13 C h dX6_fails_26 ?_
      refine Mp_17 C h dX6_fails_29 (fun σ29 H locs eσ29 h => ?_)
      have hNEW : (0 ≤ (gi σ29 11).toInt ∧ (gi σ29 11).toInt ≤ 900) ∧ (0 ≤ (gi σ29 14).toInt ∧ (gi σ29 14).toInt ≤ (gi σ29 11).toInt) ∧ (0 ≤ (gi σ29 13).toInt ∧ (gi σ29 13).toInt ≤ (gi σ29 14).toInt) ∧ (Hd (¬ (gi σ29 12).toInt = 0 → (gi σ29 13).toInt < (gi σ29 14).toInt)) ∧ (∀ j : Int32, ga σ29 0 j = ga σ 0 j) ∧ ((gi σ29 11).toInt = (gi σ 11).toInt) ∧ ((gi σ 13).toInt ≤ (gi σ29 13).toInt) ∧ (PFr σ σ29) := ⟨(by rw [eσ29] <;> exact hsz), (by rw [eσ29] <;> exact hen), (by rw [eσ29] <;> exact hfr), (by rw [eσ29] <;> exact htk), (by rw [eσ29] <;> exact hA0), (by rw [eσ29] <;> exact hsm), (by rw [eσ29] <;> exact hmo), (by rw [eσ29]; exact (Fr_si (by decide) hFR))⟩
      clear hsz hen hfr htk hA0 hsm hmo hFR
      obtain ⟨hsz, hen, hfr, htk, hA0, hsm, hmo, hFR⟩ := hNEW
      refine lv_iconst (v := 0) hx hb dX6_fails_32 (by decide) ?_
      have he : f_X6_fails σ p1 = (σ29, (0 : Int32)) := (by have et0_21 := et0_21.symm; subst et0_21; have eσ21 := eσ21.symm; subst eσ21; have eσ29 := eσ29.symm; subst eσ29; exact ((if_pos c4).trans rfl))
      exact M_retz C h hr hlocks (congrArg Prod.fst he) (congrArg Prod.snd he) (Or.inl rfl) ⟨hA0, hsm, hmo, hFR, (by first | assumption | omega | (unfold Hd; omega)), (by first | assumption | omega | (unfold Hd; omega)), (by first | assumption | omega | (unfold Hd; omega)), (by first | assumption | omega | (unfold Hd; omega)), (by first | assumption | omega | (unfold Hd; omega))⟩ dX6_fails_33
    refine lv_icmp_ne (tgt := 20) hx hb dX6_fails_13 (by decide) (fun c13 => ?_) (fun c13 => ?_)
    · have i13 := c_ne c13
      refine lv_iload_n hx hb dX6_fails_20 rfl (lv_at hl 1 rfl) ?_
      exact j21 _ _ _ _ (by exact ((if_neg c13).trans rfl)) h (lv_sub hl [0] rfl)
    · have i13 := c_eq c13
      refine lv_iconst (v := 1) hx hb dX6_fails_16 (by decide) ?_
      refine lv_goto (tgt := 21) hx hb dX6_fails_17 (by decide) ?_
      exact j21 _ _ _ _ (by exact ((if_pos c13).trans rfl)) h (lv_sub hl [0] rfl)
def f_X6_taken (σ : MS) (p1 : Int32) : MS × Int32 := (let σ5 := si σ 16 (gi σ 18); if (gi σ5 18) ≤ (0 : Int32) then ((let z26 := (f_X6_gives σ5 p1); let σ26 := z26.1; let r26 := z26.2; (σ26, r26))) else ((let z18 := (f_X6_refuse σ5 (9 : Int32)); let σ18 := z18.1; let r18 := z18.2; (σ18, r18))))
set_option maxHeartbeats 4000000 in
set_option maxRecDepth 100000 in
theorem k_X6_taken (l : Launch) (g : GE) (σ : MS) (p1 : Int32) : Met l yX6_taken (ws_ yX6_taken cX6_taken 2 (some .int)) ({ frames := 1, cells := 0, slots := 0, locals := 21 } : Room) (mPc g σ [.int p1]) (mQi g (f_X6_taken σ p1).1 (f_X6_taken σ p1).2 (fun u r => (∀ j : Int32, ga u 0 j = ga σ 0 j) ∧ (Fr [2, 16] [] (fun _ => False) (fun _ => False) σ u))) 0 0 (mA g) := by
  refine met_M (by decide) rfl (Nat.le_of_ble_eq_true rfl) ?_
  intro p e s m args below meth c C hr hlocks h ls hl
  have hx := C.1.1
  have hb := C.1.2.1
  have hml := C.1.2.2.1
  have hown := C.1.2.2.2.1
  have hts := C.1.2.2.2.2
  have hl : lv_has ls 2 [(0, .ref (g.2.1 99)), (1, .int p1)] := hl
  have hA0 : ∀ j : Int32, ga σ 0 j = ga σ 0 j := fun _ => rfl
  have hKF : Fr [2, 16] [] (fun _ => False) (fun _ => False) σ σ := Fr.rf
  have zl0 : (0 : Int32).toInt = 0 := rfl
  have zl9 : (9 : Int32).toInt = 9 := rfl
  refine lv_aload_n hx hb dX6_taken_0 rfl (lv_at hl 0 rfl) ?_
  refine lv_aload_n hx hb dX6_taken_1 rfl (lv_at hl 0 rfl) ?_
  refine Mg_18 C h dX6_taken_2 ?_
  refine Mp_16 C h dX6_taken_5 (fun σ5 H locs eσ5 h => ?_)
  have hNEW : (∀ j : Int32, ga σ5 0 j = ga σ 0 j) ∧ (Fr [2, 16] [] (fun _ => False) (fun _ => False) σ σ5) := ⟨(by rw [eσ5] <;> exact hA0), (by rw [eσ5]; exact (Fr_si (by decide) hKF))⟩
  obtain ⟨hA0, hKF⟩ := hNEW
  refine lv_aload_n hx hb dX6_taken_8 rfl (lv_at hl 0 rfl) ?_
  refine Mg_18 C h dX6_taken_9 ?_
  refine lv_if_le (tgt := 24) hx hb dX6_taken_12 (by decide) (fun c12 => ?_) (fun c12 => ?_)
  · have i12 := c_le c12
    refine lv_aload_n hx hb dX6_taken_24 rfl (lv_at hl 0 rfl) ?_
    refine lv_iload_n hx hb dX6_taken_25 rfl (lv_at hl 1 rfl) ?_
    refine M_calli (As := [.int p1]) (rest := []) 1 C h (k_X6_gives l g σ5 p1) (lw_V q1806 q1808 qs91 q152 q1809) rfl rfl (by decide +kernel) ⟨Nat.le_of_ble_eq_true rfl, Nat.le_of_ble_eq_true rfl⟩ rfl hl.1 rfl (Nat.le_of_ble_eq_true rfl) ⟨Nat.le_of_ble_eq_true rfl, Nat.le_of_ble_eq_true rfl⟩ dX6_taken_26 (fun r26 σ26 H locs eσ26 er26 hE26 h => ?_)
    clear hE26
    have hNEW : (∀ j : Int32, ga σ26 0 j = ga σ 0 j) ∧ (Fr [2, 16] [] (fun _ => False) (fun _ => False) σ σ26) := ⟨(by rw [eσ26, gives_s] <;> exact hA0), (by rw [eσ26, gives_s]; exact Fr_si (by decide) hKF)⟩
    clear hA0 hKF
    obtain ⟨hA0, hKF⟩ := hNEW
    have he : f_X6_taken σ p1 = (σ26, r26) := (by have eσ5 := eσ5.symm; subst eσ5; have eσ26 := eσ26.symm; subst eσ26; have er26 := er26.symm; subst er26; exact ((if_pos c12).trans rfl))
    exact M_reti C h hr hlocks (congrArg Prod.fst he) (congrArg Prod.snd he) ⟨hA0, hKF⟩ dX6_taken_29
  · have i12 := c_nle c12
    refine lv_aload_n hx hb dX6_taken_15 rfl (lv_at hl 0 rfl) ?_
    refine lv_bipush (v := 9) hx hb dX6_taken_16 (by decide) ?_
    refine M_calli (As := [.int (9 : Int32)]) (rest := []) 1 C h (k_X6_refuse l g σ5 (9 : Int32)) (lw_V q1723 q1725 qs71 q152 q1726) rfl rfl (by decide +kernel) ⟨Nat.le_of_ble_eq_true rfl, Nat.le_of_ble_eq_true rfl⟩ rfl hl.1 rfl (Nat.le_of_ble_eq_true rfl) ⟨Nat.le_of_ble_eq_true rfl, Nat.le_of_ble_eq_true rfl⟩ dX6_taken_18 (fun r18 σ18 H locs eσ18 er18 hE18 h => ?_)
    clear hE18
    have hNEW : (∀ j : Int32, ga σ18 0 j = ga σ 0 j) ∧ (Fr [2, 16] [] (fun _ => False) (fun _ => False) σ σ18) := ⟨(by rw [eσ18, refuse_s] <;> exact hA0), (by rw [eσ18, refuse_s]; exact Fr_si (by decide) hKF)⟩
    clear hA0 hKF
    obtain ⟨hA0, hKF⟩ := hNEW
    refine lv_goto (tgt := 29) hx hb dX6_taken_21 (by decide) ?_
    have he : f_X6_taken σ p1 = (σ18, r18) := (by have eσ5 := eσ5.symm; subst eσ5; have eσ18 := eσ18.symm; subst eσ18; have er18 := er18.symm; subst er18; exact ((if_neg c12).trans rfl))
    exact M_reti C h hr hlocks (congrArg Prod.fst he) (congrArg Prod.snd he) ⟨hA0, hKF⟩ dX6_taken_29
def f_X6_fault (σ : MS) (p1 : Int32) : Int32 := if p1 = (0 : Int32) then ((gi σ 16)) else (if p1 = (1 : Int32) then ((gi σ 17)) else ((-1 : Int32)))
set_option maxHeartbeats 4000000 in
set_option maxRecDepth 100000 in
theorem k_X6_fault (l : Launch) (g : GE) (σ : MS) (p1 : Int32) : Met l yX6_fault (ws_ yX6_fault cX6_fault 2 (some .int)) ({ frames := 0, cells := 0, slots := 0, locals := 0 } : Room) (mPc g σ [.int p1]) (mQi g σ (f_X6_fault σ p1) (fun u r => True)) 0 0 (mA g) := by
  refine met_M (by decide) rfl (Nat.le_of_ble_eq_true rfl) ?_
  intro p e s m args below meth c C hr hlocks h ls hl
  have hx := C.1.1
  have hb := C.1.2.1
  have hml := C.1.2.2.1
  have hown := C.1.2.2.2.1
  have hts := C.1.2.2.2.2
  have hl : lv_has ls 2 [(0, .ref (g.2.1 99)), (1, .int p1)] := hl
  have zlm1 : (-1 : Int32).toInt = -1 := rfl
  have zl0 : (0 : Int32).toInt = 0 := rfl
  have zl1 : (1 : Int32).toInt = 1 := rfl
  refine lv_iload_n hx hb dX6_fault_0 rfl (lv_at hl 1 rfl) ?_
  refine lv_if_ne (tgt := 11) hx hb dX6_fault_1 (by decide) (fun c1 => ?_) (fun c1 => ?_)
  · have i1 := c_ne c1
    refine lv_iload_n hx hb dX6_fault_11 rfl (lv_at hl 1 rfl) ?_
    refine lv_iconst (v := 1) hx hb dX6_fault_12 (by decide) ?_
    refine lv_icmp_ne (tgt := 23) hx hb dX6_fault_13 (by decide) (fun c13 => ?_) (fun c13 => ?_)
    · have i13 := c_ne c13
      refine lv_iconst (v := -1) hx hb dX6_fault_23 (by decide) ?_
      have he : f_X6_fault σ p1 = (-1 : Int32) := (by exact ((if_neg c1).trans ((if_neg c13).trans rfl)))
      exact M_reti C h hr hlocks rfl he trivial dX6_fault_24
    · have i13 := c_eq c13
      refine lv_aload_n hx hb dX6_fault_16 rfl (lv_at hl 0 rfl) ?_
      refine Mg_17 C h dX6_fault_17 ?_
      refine lv_goto (tgt := 24) hx hb dX6_fault_20 (by decide) ?_
      have he : f_X6_fault σ p1 = (gi σ 17) := (by exact ((if_neg c1).trans ((if_pos c13).trans rfl)))
      exact M_reti C h hr hlocks rfl he trivial dX6_fault_24
  · have i1 := c_eq c1
    refine lv_aload_n hx hb dX6_fault_4 rfl (lv_at hl 0 rfl) ?_
    refine Mg_16 C h dX6_fault_5 ?_
    refine lv_goto (tgt := 24) hx hb dX6_fault_8 (by decide) ?_
    have he : f_X6_fault σ p1 = (gi σ 16) := (by exact ((if_pos c1).trans rfl))
    exact M_reti C h hr hlocks rfl he trivial dX6_fault_24
def f_X6_ahead_L0 : Nat → MS → MS
  | 0, σL0 => σL0
  | n + 1, σL0 => (let r5 := (f_X6_byteAt σL0 (gi σL0 14)); if r5 = (32 : Int32) then ((let σ33 := si σL0 14 ((gi σL0 14) + (1 : Int32)); f_X6_ahead_L0 n σ33)) else ((let r18 := (f_X6_byteAt σL0 (gi σL0 14)); if r18 = (10 : Int32) then ((let σ33 := si σL0 14 ((gi σL0 14) + (1 : Int32)); f_X6_ahead_L0 n σ33)) else (σL0))))
def f_X6_ahead_L128 : Nat → MS → MS
  | 0, σL128 => σL128
  | n + 1, σL128 => (let r133 := (f_X6_byteAt σL128 (gi σL128 14)); let r136 := (f_X6_isDigit r133); if r136 = (0 : Int32) then (σL128) else ((let r157 := (f_X6_byteAt σL128 (gi σL128 14)); let σ167 := si σL128 15 (jmin (100000 : Int32) ((((10 : Int32) * (gi σL128 15)) + r157) - (48 : Int32))); let σ177 := si σ167 14 ((gi σ167 14) + (1 : Int32)); f_X6_ahead_L128 n σ177)))
def f_X6_ahead_L81 : Nat → MS → MS
  | 0, σL81 => σL81
  | n + 1, σL81 => (let r86 := (f_X6_byteAt σL81 (gi σL81 14)); let r89 := (f_X6_isSmall r86); if r89 = (0 : Int32) then (σL81) else ((let σ102 := si σL81 14 ((gi σL81 14) + (1 : Int32)); f_X6_ahead_L81 n σ102)))
def f_X6_ahead (σ : MS) : MS := (let zL0 := f_X6_ahead_L0 (901) σ; let σL0e := zL0; (let σ44 := si σL0e 13 (gi σL0e 14); let r52 := (f_X6_byteAt σ44 (gi σ44 14)); let σ58 := si σ44 15 r52; if r52 = (-1 : Int32) then ((let σ68 := si σ58 12 (0 : Int32); σ68)) else ((let r75 := (f_X6_isSmall r52); if r75 = (0 : Int32) then ((let r117 := (f_X6_isDigit r52); if r117 = (0 : Int32) then ((let σ215 := si σ58 14 ((gi σ58 14) + (1 : Int32)); if r52 = (59 : Int32) then ((let σ248 := si σ215 12 (4 : Int32); σ248)) else (if r52 = (60 : Int32) then ((let σ248 := si σ215 12 (4 : Int32); σ248)) else (if r52 = (62 : Int32) then ((let σ248 := si σ215 12 (4 : Int32); σ248)) else (if r52 = (61 : Int32) then ((let σ248 := si σ215 12 (4 : Int32); σ248)) else ((let σ248 := si σ215 12 (1 : Int32); σ248))))))) else ((let σ125 := si σ58 15 (0 : Int32); (let zL128 := f_X6_ahead_L128 (901) σ125; let σL128e := zL128; (let z202_ : Int32 := (if ((gi σL128e 14) - (gi σL128e 13)) ≤ (4 : Int32) then ((3 : Int32)) else ((1 : Int32))); let t0_202 := z202_; (let σ202 := si σL128e 12 t0_202; σ202))))))) else ((let zL81 := f_X6_ahead_L81 (901) σ58; let σL81e := zL81; (let σ110 := si σL81e 12 (2 : Int32); σ110)))))))
set_option maxHeartbeats 4000000 in
set_option maxRecDepth 100000 in
theorem k_X6_ahead (l : Launch) (g : GE) (σ : MS) (hsz : 0 ≤ (gi σ 11).toInt ∧ (gi σ 11).toInt ≤ 900) (hen : 0 ≤ (gi σ 14).toInt ∧ (gi σ 14).toInt ≤ (gi σ 11).toInt) : Met l yX6_ahead (ws_ yX6_ahead cX6_ahead 2 none) ({ frames := 1, cells := 0, slots := 0, locals := 23 } : Room) (mPc g σ []) (mQv g (f_X6_ahead σ) (fun u => (∀ j : Int32, ga u 0 j = ga σ 0 j) ∧ ((gi u 11).toInt = (gi σ 11).toInt) ∧ (PFr σ u) ∧ (0 ≤ (gi u 11).toInt ∧ (gi u 11).toInt ≤ 900) ∧ (0 ≤ (gi u 14).toInt ∧ (gi u 14).toInt ≤ (gi u 11).toInt) ∧ (0 ≤ (gi u 13).toInt ∧ (gi u 13).toInt ≤ (gi u 14).toInt) ∧ (Hd (¬ (gi u 12).toInt = 0 → (gi u 13).toInt < (gi u 14).toInt)) ∧ ((gi σ 14).toInt ≤ (gi u 13).toInt))) 0 0 (mA g) := by
  refine met_M (by decide) rfl (Nat.le_of_ble_eq_true rfl) ?_
  intro p e s m args below meth c C hr hlocks h ls hl
  have hx := C.1.1
  have hb := C.1.2.1
  have hml := C.1.2.2.1
  have hown := C.1.2.2.2.1
  have hts := C.1.2.2.2.2
  have hl : lv_has ls 2 [(0, .ref (g.2.1 99))] := hl
  have hA0 : ∀ j : Int32, ga σ 0 j = ga σ 0 j := fun _ => rfl
  have hsm : (gi σ 11).toInt = (gi σ 11).toInt := rfl
  have hme : (gi σ 14).toInt ≤ (gi σ 14).toInt := Int.le_refl _
  have hFR : PFr σ σ := Fr.rf
  have zlm1 : (-1 : Int32).toInt = -1 := rfl
  have zl0 : (0 : Int32).toInt = 0 := rfl
  have zl1 : (1 : Int32).toInt = 1 := rfl
  have zl2 : (2 : Int32).toInt = 2 := rfl
  have zl3 : (3 : Int32).toInt = 3 := rfl
  have zl4 : (4 : Int32).toInt = 4 := rfl
  have zl10 : (10 : Int32).toInt = 10 := rfl
  have zl32 : (32 : Int32).toInt = 32 := rfl
  have zl48 : (48 : Int32).toInt = 48 := rfl
  have zl59 : (59 : Int32).toInt = 59 := rfl
  have zl60 : (60 : Int32).toInt = 60 := rfl
  have zl61 : (61 : Int32).toInt = 61 := rfl
  have zl62 : (62 : Int32).toInt = 62 := rfl
  have zl100000 : (100000 : Int32).toInt = 100000 := rfl
  have hL0 : ∀ (n : Nat) (σL0 : MS) (H : Heap) (locs : List Loc) (ls : Array Slot), (0 ≤ (gi σL0 11).toInt ∧ (gi σL0 11).toInt ≤ 900) → (0 ≤ (gi σL0 14).toInt ∧ (gi σL0 14).toInt ≤ (gi σL0 11).toInt) → (∀ j : Int32, ga σL0 0 j = ga σ 0 j) → ((gi σL0 11).toInt = (gi σ 11).toInt) → ((gi σ 14).toInt ≤ (gi σL0 14).toInt) → (PFr σ σL0) → (True) → ((gi σL0 11).toInt - (gi σL0 14).toInt).toNat < n → MH g σL0 s H locs → lv_has ls 2 [(0, .ref (g.2.1 99))] → (∀ (σL0' : MS) (H : Heap) (locs : List Loc) (ls : Array Slot), f_X6_ahead_L0 n σL0 = σL0' → (0 ≤ (gi σL0' 11).toInt ∧ (gi σL0' 11).toInt ≤ 900) → (0 ≤ (gi σL0' 14).toInt ∧ (gi σL0' 14).toInt ≤ (gi σL0' 11).toInt) → (∀ j : Int32, ga σL0' 0 j = ga σ 0 j) → ((gi σL0' 11).toInt = (gi σ 11).toInt) → ((gi σ 14).toInt ≤ (gi σL0' 14).toInt) → (PFr σ σL0') → (True) → MH g σL0' s H locs → lv_has ls 2 [(0, .ref (g.2.1 99))] → W p l e ({ frames := 1, cells := 0, slots := 0, locals := 23 } : Room) s m args below meth c H locs 0 0 (MQ below (mQv g (f_X6_ahead σ) (fun u => (∀ j : Int32, ga u 0 j = ga σ 0 j) ∧ ((gi u 11).toInt = (gi σ 11).toInt) ∧ (PFr σ u) ∧ (0 ≤ (gi u 11).toInt ∧ (gi u 11).toInt ≤ 900) ∧ (0 ≤ (gi u 14).toInt ∧ (gi u 14).toInt ≤ (gi u 11).toInt) ∧ (0 ≤ (gi u 13).toInt ∧ (gi u 13).toInt ≤ (gi u 14).toInt) ∧ (Hd (¬ (gi u 12).toInt = 0 → (gi u 13).toInt < (gi u 14).toInt)) ∧ ((gi σ 14).toInt ≤ (gi u 13).toInt))) args s 0 0 (mA g)) (F0 m 39 ls [])) → W p l e ({ frames := 1, cells := 0, slots := 0, locals := 23 } : Room) s m args below meth c H locs 0 0 (MQ below (mQv g (f_X6_ahead σ) (fun u => (∀ j : Int32, ga u 0 j = ga σ 0 j) ∧ ((gi u 11).toInt = (gi σ 11).toInt) ∧ (PFr σ u) ∧ (0 ≤ (gi u 11).toInt ∧ (gi u 11).toInt ≤ 900) ∧ (0 ≤ (gi u 14).toInt ∧ (gi u 14).toInt ≤ (gi u 11).toInt) ∧ (0 ≤ (gi u 13).toInt ∧ (gi u 13).toInt ≤ (gi u 14).toInt) ∧ (Hd (¬ (gi u 12).toInt = 0 → (gi u 13).toInt < (gi u 14).toInt)) ∧ ((gi σ 14).toInt ≤ (gi u 13).toInt))) args s 0 0 (mA g)) (F0 m 0 ls []) := by
    intro n
    induction n with
    | zero =>
      intro σL0 H locs ls hsz hen hA0 hsm hme hFR _ hm; exact absurd hm (Nat.not_lt_zero _)
    | succ n ih =>
      intro σL0 H locs ls hsz hen hA0 hsm hme hFR hI0 hm h hl kk
      refine lv_aload_n hx hb dX6_ahead_0 rfl (lv_at hl 0 rfl) ?_
      refine lv_aload_n hx hb dX6_ahead_1 rfl (lv_at hl 0 rfl) ?_
      refine Mg_14 C h dX6_ahead_2 ?_
      refine M_calli (As := [.int (gi σL0 14)]) (rest := []) 1 C h (k_X6_byteAt l g σL0 (gi σL0 14) (by first | assumption | omega) (by first | assumption | omega)) (lw_V q1711 q1713 qs70 q152 q1714) rfl rfl (by decide +kernel) ⟨Nat.le_of_ble_eq_true rfl, Nat.le_of_ble_eq_true rfl⟩ rfl hl.1 rfl (Nat.le_of_ble_eq_true rfl) ⟨Nat.le_of_ble_eq_true rfl, Nat.le_of_ble_eq_true rfl⟩ dX6_ahead_5 (fun r5 σ5 H locs eσ5 er5 hE5 h => ?_)
      rw [eσ5] at h
      rw [eσ5] at hE5
      have hE5 : ((¬ r5.toInt = -1 → (gi σL0 14).toInt < (gi σL0 11).toInt) ∧ -1 ≤ r5.toInt ∧ r5.toInt ≤ 255) := hE5
      have bk_5 := hE5
      clear eσ5
      refine lv_bipush (v := 32) hx hb dX6_ahead_8 (by decide) ?_
      refine lv_icmp_eq (tgt := 26) hx hb dX6_ahead_10 (by decide) (fun c10 => ?_) (fun c10 => ?_)
      · have i10 := c_eq c10
        refine lv_aload_n hx hb dX6_ahead_26 rfl (lv_at hl 0 rfl) ?_
        refine lv_dup hx hb dX6_ahead_27 rfl ?_
        refine Mg_14 C h dX6_ahead_28 ?_
        refine lv_iconst (v := 1) hx hb dX6_ahead_31 (by decide) ?_
        refine lv_iadd hx hb dX6_ahead_32 ?_
        refine Mp_14 C h dX6_ahead_33 (fun σ33 H locs eσ33 h => ?_)
        have hNEW : (0 ≤ (gi σ33 11).toInt ∧ (gi σ33 11).toInt ≤ 900) ∧ (0 ≤ (gi σ33 14).toInt ∧ (gi σ33 14).toInt ≤ (gi σ33 11).toInt) ∧ (∀ j : Int32, ga σ33 0 j = ga σ 0 j) ∧ ((gi σ33 11).toInt = (gi σ 11).toInt) ∧ ((gi σ 14).toInt ≤ (gi σ33 14).toInt) ∧ (PFr σ σ33) := ⟨(by rw [eσ33] <;> exact hsz), (by have q := end_inc eσ33 (by omega); omega), (by rw [eσ33] <;> exact hA0), (by have q := end_inc eσ33 (by omega); omega), (by have q := end_inc eσ33 (by omega); omega), (by rw [eσ33]; exact (Fr_si (by decide) hFR))⟩
        obtain ⟨hsz, hen, hA0, hsm, hme, hFR⟩ := hNEW
        have q33 := end_inc eσ33 (by omega)
        refine lv_goto (tgt := 0) hx hb dX6_ahead_36 (by decide) ?_
        exact ih σ33 _ _ _ hsz hen hA0 hsm hme hFR trivial (by omega) h hl (fun σL0' H locs ls en hsz hen hA0 hsm hme hFR hI h hl => kk σL0' H locs ls ((show f_X6_ahead_L0 (n + 1) σL0 = f_X6_ahead_L0 n σ33 from (by have er5 := er5.symm; subst er5; have eσ33 := eσ33.symm; subst eσ33; exact ((if_pos c10).trans rfl))).trans en) hsz hen hA0 hsm hme hFR hI h hl)
      · have i10 := c_ne c10
        refine lv_aload_n hx hb dX6_ahead_13 rfl (lv_at hl 0 rfl) ?_
        refine lv_aload_n hx hb dX6_ahead_14 rfl (lv_at hl 0 rfl) ?_
        refine Mg_14 C h dX6_ahead_15 ?_
        refine M_calli (As := [.int (gi σL0 14)]) (rest := []) 1 C h (k_X6_byteAt l g σL0 (gi σL0 14) (by first | assumption | omega) (by first | assumption | omega)) (lw_V q1711 q1713 qs70 q152 q1714) rfl rfl (by decide +kernel) ⟨Nat.le_of_ble_eq_true rfl, Nat.le_of_ble_eq_true rfl⟩ rfl hl.1 rfl (Nat.le_of_ble_eq_true rfl) ⟨Nat.le_of_ble_eq_true rfl, Nat.le_of_ble_eq_true rfl⟩ dX6_ahead_18 (fun r18 σ18 H locs eσ18 er18 hE18 h => ?_)
        rw [eσ18] at h
        rw [eσ18] at hE18
        have hE18 : ((¬ r18.toInt = -1 → (gi σL0 14).toInt < (gi σL0 11).toInt) ∧ -1 ≤ r18.toInt ∧ r18.toInt ≤ 255) := hE18
        have bk_18 := hE18
        clear eσ18
        refine lv_bipush (v := 10) hx hb dX6_ahead_21 (by decide) ?_
        refine lv_icmp_ne (tgt := 39) hx hb dX6_ahead_23 (by decide) (fun c23 => ?_) (fun c23 => ?_)
        · have i23 := c_ne c23
          exact kk σL0 _ _ _ (show f_X6_ahead_L0 (n + 1) σL0 = σL0 from (by have er5 := er5.symm; subst er5; have er18 := er18.symm; subst er18; exact ((if_neg c10).trans ((if_neg c23).trans rfl)))) hsz hen hA0 hsm hme hFR trivial h hl
        · have i23 := c_eq c23
          refine lv_aload_n hx hb dX6_ahead_26 rfl (lv_at hl 0 rfl) ?_
          refine lv_dup hx hb dX6_ahead_27 rfl ?_
          refine Mg_14 C h dX6_ahead_28 ?_
          refine lv_iconst (v := 1) hx hb dX6_ahead_31 (by decide) ?_
          refine lv_iadd hx hb dX6_ahead_32 ?_
          refine Mp_14 C h dX6_ahead_33 (fun σ33 H locs eσ33 h => ?_)
          have hNEW : (0 ≤ (gi σ33 11).toInt ∧ (gi σ33 11).toInt ≤ 900) ∧ (0 ≤ (gi σ33 14).toInt ∧ (gi σ33 14).toInt ≤ (gi σ33 11).toInt) ∧ (∀ j : Int32, ga σ33 0 j = ga σ 0 j) ∧ ((gi σ33 11).toInt = (gi σ 11).toInt) ∧ ((gi σ 14).toInt ≤ (gi σ33 14).toInt) ∧ (PFr σ σ33) := ⟨(by rw [eσ33] <;> exact hsz), (by have q := end_inc eσ33 (by omega); omega), (by rw [eσ33] <;> exact hA0), (by have q := end_inc eσ33 (by omega); omega), (by have q := end_inc eσ33 (by omega); omega), (by rw [eσ33]; exact (Fr_si (by decide) hFR))⟩
          obtain ⟨hsz, hen, hA0, hsm, hme, hFR⟩ := hNEW
          have q33 := end_inc eσ33 (by omega)
          refine lv_goto (tgt := 0) hx hb dX6_ahead_36 (by decide) ?_
          exact ih σ33 _ _ _ hsz hen hA0 hsm hme hFR trivial (by omega) h hl (fun σL0' H locs ls en hsz hen hA0 hsm hme hFR hI h hl => kk σL0' H locs ls ((show f_X6_ahead_L0 (n + 1) σL0 = f_X6_ahead_L0 n σ33 from (by have er5 := er5.symm; subst er5; have er18 := er18.symm; subst er18; have eσ33 := eσ33.symm; subst eσ33; exact ((if_neg c10).trans ((if_pos c23).trans rfl)))).trans en) hsz hen hA0 hsm hme hFR hI h hl)
  refine hL0 (901) σ _ _ _ hsz hen hA0 hsm hme hFR trivial (by omega) h hl (fun σL0e H locs ls eL0 hsz hen hA0 hsm hme hFR hI0 h hl => ?_)
  have eσL0e : σL0e = (f_X6_ahead_L0 (901) σ) := by rw [eL0]
  refine lv_aload_n hx hb dX6_ahead_39 rfl (lv_at hl 0 rfl) ?_
  refine lv_aload_n hx hb dX6_ahead_40 rfl (lv_at hl 0 rfl) ?_
  refine Mg_14 C h dX6_ahead_41 ?_
  refine Mp_13 C h dX6_ahead_44 (fun σ44 H locs eσ44 h => ?_)
  have hNEW : (0 ≤ (gi σ44 11).toInt ∧ (gi σ44 11).toInt ≤ 900) ∧ (0 ≤ (gi σ44 14).toInt ∧ (gi σ44 14).toInt ≤ (gi σ44 11).toInt) ∧ (∀ j : Int32, ga σ44 0 j = ga σ 0 j) ∧ ((gi σ44 11).toInt = (gi σ 11).toInt) ∧ ((gi σ 14).toInt ≤ (gi σ44 14).toInt) ∧ (PFr σ σ44) := ⟨(by rw [eσ44] <;> exact hsz), (by rw [eσ44] <;> exact hen), (by rw [eσ44] <;> exact hA0), (by rw [eσ44] <;> exact hsm), (by rw [eσ44] <;> exact hme), (by rw [eσ44]; exact (Fr_si (by decide) hFR))⟩
  obtain ⟨hsz, hen, hA0, hsm, hme, hFR⟩ := hNEW
  have q44 : (gi σ44 14).toInt = (gi σL0e 14).toInt ∧ (gi σ44 11).toInt = (gi σL0e 11).toInt ∧ (gi σ44 13).toInt = (gi σL0e 14).toInt := by rw [eσ44]; exact ⟨rfl, rfl, rfl⟩
  have hfr : 0 ≤ (gi σ44 13).toInt ∧ (gi σ44 13).toInt ≤ (gi σ44 14).toInt := (by have q : (gi σ44 13).toInt = (gi σL0e 14).toInt ∧ (gi σ44 14).toInt = (gi σL0e 14).toInt := by { rw [eσ44]; exact ⟨rfl, rfl⟩ }; omega)
  have hmf : (gi σ 14).toInt ≤ (gi σ44 13).toInt := (by have q : (gi σ44 13).toInt = (gi σL0e 14).toInt := by { rw [eσ44]; rfl }; omega)
  refine lv_aload_n hx hb dX6_ahead_47 rfl (lv_at hl 0 rfl) ?_
  refine lv_aload_n hx hb dX6_ahead_48 rfl (lv_at hl 0 rfl) ?_
  refine Mg_14 C h dX6_ahead_49 ?_
  refine M_calli (As := [.int (gi σ44 14)]) (rest := []) 1 C h (k_X6_byteAt l g σ44 (gi σ44 14) (by first | assumption | omega) (by first | assumption | omega)) (lw_V q1711 q1713 qs70 q152 q1714) rfl rfl (by decide +kernel) ⟨Nat.le_of_ble_eq_true rfl, Nat.le_of_ble_eq_true rfl⟩ rfl hl.1 rfl (Nat.le_of_ble_eq_true rfl) ⟨Nat.le_of_ble_eq_true rfl, Nat.le_of_ble_eq_true rfl⟩ dX6_ahead_52 (fun r52 σ52 H locs eσ52 er52 hE52 h => ?_)
  rw [eσ52] at h
  rw [eσ52] at hE52
  have hE52 : ((¬ r52.toInt = -1 → (gi σ44 14).toInt < (gi σ44 11).toInt) ∧ -1 ≤ r52.toInt ∧ r52.toInt ≤ 255) := hE52
  have bk_52 := hE52
  clear eσ52
  refine lv_istore_n (lv' := [(1, .int r52), (0, .ref (g.2.1 99))]) hx hb dX6_ahead_55 rfl hl (by decide) rfl (fun ls hl => ?_)
  refine lv_aload_n hx hb dX6_ahead_56 rfl (lv_at hl 1 rfl) ?_
  refine lv_iload_n hx hb dX6_ahead_57 rfl (lv_at hl 0 rfl) ?_
  refine Mp_15 C h dX6_ahead_58 (fun σ58 H locs eσ58 h => ?_)
  have hNEW : (0 ≤ (gi σ58 11).toInt ∧ (gi σ58 11).toInt ≤ 900) ∧ (0 ≤ (gi σ58 14).toInt ∧ (gi σ58 14).toInt ≤ (gi σ58 11).toInt) ∧ (∀ j : Int32, ga σ58 0 j = ga σ 0 j) ∧ ((gi σ58 11).toInt = (gi σ 11).toInt) ∧ ((gi σ 14).toInt ≤ (gi σ58 14).toInt) ∧ (PFr σ σ58) ∧ (0 ≤ (gi σ58 13).toInt ∧ (gi σ58 13).toInt ≤ (gi σ58 14).toInt) ∧ ((gi σ 14).toInt ≤ (gi σ58 13).toInt) := ⟨(by rw [eσ58] <;> exact hsz), (by rw [eσ58] <;> exact hen), (by rw [eσ58] <;> exact hA0), (by rw [eσ58] <;> exact hsm), (by rw [eσ58] <;> exact hme), (by rw [eσ58]; exact (Fr_si (by decide) hFR)), (by rw [eσ58] <;> exact hfr), (by rw [eσ58] <;> exact hmf)⟩
  clear hsz hen hA0 hsm hme hFR
  obtain ⟨hsz, hen, hA0, hsm, hme, hFR, hfr, hmf⟩ := hNEW
  have q58 : (gi σ58 14).toInt = (gi σ44 14).toInt ∧ (gi σ58 11).toInt = (gi σ44 11).toInt ∧ (gi σ58 13).toInt = (gi σ44 13).toInt := by rw [eσ58]; exact ⟨rfl, rfl, rfl⟩
  have b58 : f_X6_byteAt σ58 (gi σ58 14) = r52 := by rw [eσ58]; exact er52.symm
  refine lv_iload_n hx hb dX6_ahead_61 rfl (lv_at hl 0 rfl) ?_
  refine lv_iconst (v := -1) hx hb dX6_ahead_62 (by decide) ?_
  refine lv_icmp_ne (tgt := 74) hx hb dX6_ahead_63 (by decide) (fun c63 => ?_) (fun c63 => ?_)
  · have i63 := c_ne c63
    refine lv_iload_n hx hb dX6_ahead_74 rfl (lv_at hl 0 rfl) ?_
    refine s_callz (As := [.int r52]) (rest := []) 1 C.1 (k_X6_isSmall l r52) (lw_S q1715 q1716 q152 q1717) rfl rfl (by decide +kernel) ⟨Nat.le_of_ble_eq_true rfl, Nat.le_of_ble_eq_true rfl⟩ rfl hl.1 rfl (Nat.le_of_ble_eq_true rfl) ⟨Nat.le_of_ble_eq_true rfl, Nat.le_of_ble_eq_true rfl⟩ dX6_ahead_75 h.2.2 (fun r75 H locs er75 br75 hz1 hk1 hS1 => ?_)
    have h := h.same hk1 hS1
    clear hz1 hk1 hS1
    refine lv_if_eq (tgt := 116) hx hb dX6_ahead_78 (by decide) (fun c78 => ?_) (fun c78 => ?_)
    · have i78 := c_eq c78
      refine lv_iload_n hx hb dX6_ahead_116 rfl (lv_at hl 0 rfl) ?_
      refine s_callz (As := [.int r52]) (rest := []) 1 C.1 (k_X6_isDigit l r52) (lw_S q1718 q1719 q152 q1720) rfl rfl (by decide +kernel) ⟨Nat.le_of_ble_eq_true rfl, Nat.le_of_ble_eq_true rfl⟩ rfl hl.1 rfl (Nat.le_of_ble_eq_true rfl) ⟨Nat.le_of_ble_eq_true rfl, Nat.le_of_ble_eq_true rfl⟩ dX6_ahead_117 h.2.2 (fun r117 H locs er117 br117 hz1 hk1 hS1 => ?_)
      have h := h.same hk1 hS1
      clear hz1 hk1 hS1
      refine lv_if_eq (tgt := 208) hx hb dX6_ahead_120 (by decide) (fun c120 => ?_) (fun c120 => ?_)
      · have i120 := c_eq c120
        refine lv_aload_n hx hb dX6_ahead_208 rfl (lv_at hl 1 rfl) ?_
        refine lv_dup hx hb dX6_ahead_209 rfl ?_
        refine Mg_14 C h dX6_ahead_210 ?_
        refine lv_iconst (v := 1) hx hb dX6_ahead_213 (by decide) ?_
        refine lv_iadd hx hb dX6_ahead_214 ?_
        refine Mp_14 C h dX6_ahead_215 (fun σ215 H locs eσ215 h => ?_)
        have hNEW : (0 ≤ (gi σ215 11).toInt ∧ (gi σ215 11).toInt ≤ 900) ∧ (0 ≤ (gi σ215 14).toInt ∧ (gi σ215 14).toInt ≤ (gi σ215 11).toInt) ∧ (∀ j : Int32, ga σ215 0 j = ga σ 0 j) ∧ ((gi σ215 11).toInt = (gi σ 11).toInt) ∧ ((gi σ 14).toInt ≤ (gi σ215 14).toInt) ∧ (PFr σ σ215) ∧ (0 ≤ (gi σ215 13).toInt ∧ (gi σ215 13).toInt ≤ (gi σ215 14).toInt) ∧ ((gi σ 14).toInt ≤ (gi σ215 13).toInt) := ⟨(by rw [eσ215] <;> exact hsz), (by have q := end_inc eσ215 (by omega); omega), (by rw [eσ215] <;> exact hA0), (by have q := end_inc eσ215 (by omega); omega), (by have q := end_inc eσ215 (by omega); omega), (by rw [eσ215]; exact (Fr_si (by decide) hFR)), (by have q := end_inc eσ215 (by omega); omega), (by have q := end_inc eσ215 (by omega); omega)⟩
        clear hsz hen hA0 hsm hme hFR hfr hmf
        obtain ⟨hsz, hen, hA0, hsm, hme, hFR, hfr, hmf⟩ := hNEW
        have hlt : (gi σ215 13).toInt < (gi σ215 14).toInt := (by have q := end_inc eσ215 (by omega); omega)
        refine lv_aload_n hx hb dX6_ahead_218 rfl (lv_at hl 1 rfl) ?_
        refine lv_iload_n hx hb dX6_ahead_219 rfl (lv_at hl 0 rfl) ?_
        refine lv_bipush (v := 59) hx hb dX6_ahead_220 (by decide) ?_
        refine lv_icmp_eq (tgt := 243) hx hb dX6_ahead_222 (by decide) (fun c222 => ?_) (fun c222 => ?_)
        · have i222 := c_eq c222
          refine lv_iconst (v := 4) hx hb dX6_ahead_243 (by decide) ?_
          refine lv_goto (tgt := 248) hx hb dX6_ahead_244 (by decide) ?_
          refine Mp_12 C h dX6_ahead_248 (fun σ248 H locs eσ248 h => ?_)
          have hNEW : (0 ≤ (gi σ248 11).toInt ∧ (gi σ248 11).toInt ≤ 900) ∧ (0 ≤ (gi σ248 14).toInt ∧ (gi σ248 14).toInt ≤ (gi σ248 11).toInt) ∧ (∀ j : Int32, ga σ248 0 j = ga σ 0 j) ∧ ((gi σ248 11).toInt = (gi σ 11).toInt) ∧ ((gi σ 14).toInt ≤ (gi σ248 14).toInt) ∧ (PFr σ σ248) ∧ (0 ≤ (gi σ248 13).toInt ∧ (gi σ248 13).toInt ≤ (gi σ248 14).toInt) ∧ ((gi σ 14).toInt ≤ (gi σ248 13).toInt) ∧ ((gi σ248 13).toInt < (gi σ248 14).toInt) := ⟨(by rw [eσ248] <;> exact hsz), (by rw [eσ248] <;> exact hen), (by rw [eσ248] <;> exact hA0), (by rw [eσ248] <;> exact hsm), (by rw [eσ248] <;> exact hme), (by rw [eσ248]; exact (Fr_si (by decide) hFR)), (by rw [eσ248] <;> exact hfr), (by rw [eσ248] <;> exact hmf), (by rw [eσ248] <;> exact hlt)⟩
          clear hsz hen hA0 hsm hme hFR hfr hmf
          obtain ⟨hsz, hen, hA0, hsm, hme, hFR, hfr, hmf, hlt⟩ := hNEW
          have htk : Hd (¬ (gi σ248 12).toInt = 0 → (gi σ248 13).toInt < (gi σ248 14).toInt) := (fun _ => hlt)
          have he : f_X6_ahead σ = σ248 := (by have eσL0e := eσL0e.symm; subst eσL0e; have eσ44 := eσ44.symm; subst eσ44; have er52 := er52.symm; subst er52; have eσ58 := eσ58.symm; subst eσ58; have er75 := er75.symm; subst er75; have er117 := er117.symm; subst er117; have eσ215 := eσ215.symm; subst eσ215; have eσ248 := eσ248.symm; subst eσ248; exact ((if_neg c63).trans ((if_pos c78).trans ((if_pos c120).trans ((if_pos c222).trans rfl)))))
          exact M_retv C h hr hlocks he ⟨hA0, hsm, hFR, (by first | assumption | omega | (unfold Hd; omega)), (by first | assumption | omega | (unfold Hd; omega)), (by first | assumption | omega | (unfold Hd; omega)), (by first | assumption | omega | (unfold Hd; omega)), (by first | assumption | omega | (unfold Hd; omega))⟩ dX6_ahead_251
        · have i222 := c_ne c222
          refine lv_iload_n hx hb dX6_ahead_225 rfl (lv_at hl 0 rfl) ?_
          refine lv_bipush (v := 60) hx hb dX6_ahead_226 (by decide) ?_
          refine lv_icmp_eq (tgt := 243) hx hb dX6_ahead_228 (by decide) (fun c228 => ?_) (fun c228 => ?_)
          · have i228 := c_eq c228
            refine lv_iconst (v := 4) hx hb dX6_ahead_243 (by decide) ?_
            refine lv_goto (tgt := 248) hx hb dX6_ahead_244 (by decide) ?_
            refine Mp_12 C h dX6_ahead_248 (fun σ248 H locs eσ248 h => ?_)
            have hNEW : (0 ≤ (gi σ248 11).toInt ∧ (gi σ248 11).toInt ≤ 900) ∧ (0 ≤ (gi σ248 14).toInt ∧ (gi σ248 14).toInt ≤ (gi σ248 11).toInt) ∧ (∀ j : Int32, ga σ248 0 j = ga σ 0 j) ∧ ((gi σ248 11).toInt = (gi σ 11).toInt) ∧ ((gi σ 14).toInt ≤ (gi σ248 14).toInt) ∧ (PFr σ σ248) ∧ (0 ≤ (gi σ248 13).toInt ∧ (gi σ248 13).toInt ≤ (gi σ248 14).toInt) ∧ ((gi σ 14).toInt ≤ (gi σ248 13).toInt) ∧ ((gi σ248 13).toInt < (gi σ248 14).toInt) := ⟨(by rw [eσ248] <;> exact hsz), (by rw [eσ248] <;> exact hen), (by rw [eσ248] <;> exact hA0), (by rw [eσ248] <;> exact hsm), (by rw [eσ248] <;> exact hme), (by rw [eσ248]; exact (Fr_si (by decide) hFR)), (by rw [eσ248] <;> exact hfr), (by rw [eσ248] <;> exact hmf), (by rw [eσ248] <;> exact hlt)⟩
            clear hsz hen hA0 hsm hme hFR hfr hmf
            obtain ⟨hsz, hen, hA0, hsm, hme, hFR, hfr, hmf, hlt⟩ := hNEW
            have htk : Hd (¬ (gi σ248 12).toInt = 0 → (gi σ248 13).toInt < (gi σ248 14).toInt) := (fun _ => hlt)
            have he : f_X6_ahead σ = σ248 := (by have eσL0e := eσL0e.symm; subst eσL0e; have eσ44 := eσ44.symm; subst eσ44; have er52 := er52.symm; subst er52; have eσ58 := eσ58.symm; subst eσ58; have er75 := er75.symm; subst er75; have er117 := er117.symm; subst er117; have eσ215 := eσ215.symm; subst eσ215; have eσ248 := eσ248.symm; subst eσ248; exact ((if_neg c63).trans ((if_pos c78).trans ((if_pos c120).trans ((if_neg c222).trans ((if_pos c228).trans rfl))))))
            exact M_retv C h hr hlocks he ⟨hA0, hsm, hFR, (by first | assumption | omega | (unfold Hd; omega)), (by first | assumption | omega | (unfold Hd; omega)), (by first | assumption | omega | (unfold Hd; omega)), (by first | assumption | omega | (unfold Hd; omega)), (by first | assumption | omega | (unfold Hd; omega))⟩ dX6_ahead_251
          · have i228 := c_ne c228
            refine lv_iload_n hx hb dX6_ahead_231 rfl (lv_at hl 0 rfl) ?_
            refine lv_bipush (v := 62) hx hb dX6_ahead_232 (by decide) ?_
            refine lv_icmp_eq (tgt := 243) hx hb dX6_ahead_234 (by decide) (fun c234 => ?_) (fun c234 => ?_)
            · have i234 := c_eq c234
              refine lv_iconst (v := 4) hx hb dX6_ahead_243 (by decide) ?_
              refine lv_goto (tgt := 248) hx hb dX6_ahead_244 (by decide) ?_
              refine Mp_12 C h dX6_ahead_248 (fun σ248 H locs eσ248 h => ?_)
              have hNEW : (0 ≤ (gi σ248 11).toInt ∧ (gi σ248 11).toInt ≤ 900) ∧ (0 ≤ (gi σ248 14).toInt ∧ (gi σ248 14).toInt ≤ (gi σ248 11).toInt) ∧ (∀ j : Int32, ga σ248 0 j = ga σ 0 j) ∧ ((gi σ248 11).toInt = (gi σ 11).toInt) ∧ ((gi σ 14).toInt ≤ (gi σ248 14).toInt) ∧ (PFr σ σ248) ∧ (0 ≤ (gi σ248 13).toInt ∧ (gi σ248 13).toInt ≤ (gi σ248 14).toInt) ∧ ((gi σ 14).toInt ≤ (gi σ248 13).toInt) ∧ ((gi σ248 13).toInt < (gi σ248 14).toInt) := ⟨(by rw [eσ248] <;> exact hsz), (by rw [eσ248] <;> exact hen), (by rw [eσ248] <;> exact hA0), (by rw [eσ248] <;> exact hsm), (by rw [eσ248] <;> exact hme), (by rw [eσ248]; exact (Fr_si (by decide) hFR)), (by rw [eσ248] <;> exact hfr), (by rw [eσ248] <;> exact hmf), (by rw [eσ248] <;> exact hlt)⟩
              clear hsz hen hA0 hsm hme hFR hfr hmf
              obtain ⟨hsz, hen, hA0, hsm, hme, hFR, hfr, hmf, hlt⟩ := hNEW
              have htk : Hd (¬ (gi σ248 12).toInt = 0 → (gi σ248 13).toInt < (gi σ248 14).toInt) := (fun _ => hlt)
              have he : f_X6_ahead σ = σ248 := (by have eσL0e := eσL0e.symm; subst eσL0e; have eσ44 := eσ44.symm; subst eσ44; have er52 := er52.symm; subst er52; have eσ58 := eσ58.symm; subst eσ58; have er75 := er75.symm; subst er75; have er117 := er117.symm; subst er117; have eσ215 := eσ215.symm; subst eσ215; have eσ248 := eσ248.symm; subst eσ248; exact ((if_neg c63).trans ((if_pos c78).trans ((if_pos c120).trans ((if_neg c222).trans ((if_neg c228).trans ((if_pos c234).trans rfl)))))))
              exact M_retv C h hr hlocks he ⟨hA0, hsm, hFR, (by first | assumption | omega | (unfold Hd; omega)), (by first | assumption | omega | (unfold Hd; omega)), (by first | assumption | omega | (unfold Hd; omega)), (by first | assumption | omega | (unfold Hd; omega)), (by first | assumption | omega | (unfold Hd; omega))⟩ dX6_ahead_251
            · have i234 := c_ne c234
              refine lv_iload_n hx hb dX6_ahead_237 rfl (lv_at hl 0 rfl) ?_
              refine lv_bipush (v := 61) hx hb dX6_ahead_238 (by decide) ?_
              refine lv_icmp_ne (tgt := 247) hx hb dX6_ahead_240 (by decide) (fun c240 => ?_) (fun c240 => ?_)
              · have i240 := c_ne c240
                refine lv_iconst (v := 1) hx hb dX6_ahead_247 (by decide) ?_
                refine Mp_12 C h dX6_ahead_248 (fun σ248 H locs eσ248 h => ?_)
                have hNEW : (0 ≤ (gi σ248 11).toInt ∧ (gi σ248 11).toInt ≤ 900) ∧ (0 ≤ (gi σ248 14).toInt ∧ (gi σ248 14).toInt ≤ (gi σ248 11).toInt) ∧ (∀ j : Int32, ga σ248 0 j = ga σ 0 j) ∧ ((gi σ248 11).toInt = (gi σ 11).toInt) ∧ ((gi σ 14).toInt ≤ (gi σ248 14).toInt) ∧ (PFr σ σ248) ∧ (0 ≤ (gi σ248 13).toInt ∧ (gi σ248 13).toInt ≤ (gi σ248 14).toInt) ∧ ((gi σ 14).toInt ≤ (gi σ248 13).toInt) ∧ ((gi σ248 13).toInt < (gi σ248 14).toInt) := ⟨(by rw [eσ248] <;> exact hsz), (by rw [eσ248] <;> exact hen), (by rw [eσ248] <;> exact hA0), (by rw [eσ248] <;> exact hsm), (by rw [eσ248] <;> exact hme), (by rw [eσ248]; exact (Fr_si (by decide) hFR)), (by rw [eσ248] <;> exact hfr), (by rw [eσ248] <;> exact hmf), (by rw [eσ248] <;> exact hlt)⟩
                clear hsz hen hA0 hsm hme hFR hfr hmf
                obtain ⟨hsz, hen, hA0, hsm, hme, hFR, hfr, hmf, hlt⟩ := hNEW
                have htk : Hd (¬ (gi σ248 12).toInt = 0 → (gi σ248 13).toInt < (gi σ248 14).toInt) := (fun _ => hlt)
                have he : f_X6_ahead σ = σ248 := (by have eσL0e := eσL0e.symm; subst eσL0e; have eσ44 := eσ44.symm; subst eσ44; have er52 := er52.symm; subst er52; have eσ58 := eσ58.symm; subst eσ58; have er75 := er75.symm; subst er75; have er117 := er117.symm; subst er117; have eσ215 := eσ215.symm; subst eσ215; have eσ248 := eσ248.symm; subst eσ248; exact ((if_neg c63).trans ((if_pos c78).trans ((if_pos c120).trans ((if_neg c222).trans ((if_neg c228).trans ((if_neg c234).trans ((if_neg c240).trans rfl))))))))
                exact M_retv C h hr hlocks he ⟨hA0, hsm, hFR, (by first | assumption | omega | (unfold Hd; omega)), (by first | assumption | omega | (unfold Hd; omega)), (by first | assumption | omega | (unfold Hd; omega)), (by first | assumption | omega | (unfold Hd; omega)), (by first | assumption | omega | (unfold Hd; omega))⟩ dX6_ahead_251
              · have i240 := c_eq c240
                refine lv_iconst (v := 4) hx hb dX6_ahead_243 (by decide) ?_
                refine lv_goto (tgt := 248) hx hb dX6_ahead_244 (by decide) ?_
                refine Mp_12 C h dX6_ahead_248 (fun σ248 H locs eσ248 h => ?_)
                have hNEW : (0 ≤ (gi σ248 11).toInt ∧ (gi σ248 11).toInt ≤ 900) ∧ (0 ≤ (gi σ248 14).toInt ∧ (gi σ248 14).toInt ≤ (gi σ248 11).toInt) ∧ (∀ j : Int32, ga σ248 0 j = ga σ 0 j) ∧ ((gi σ248 11).toInt = (gi σ 11).toInt) ∧ ((gi σ 14).toInt ≤ (gi σ248 14).toInt) ∧ (PFr σ σ248) ∧ (0 ≤ (gi σ248 13).toInt ∧ (gi σ248 13).toInt ≤ (gi σ248 14).toInt) ∧ ((gi σ 14).toInt ≤ (gi σ248 13).toInt) ∧ ((gi σ248 13).toInt < (gi σ248 14).toInt) := ⟨(by rw [eσ248] <;> exact hsz), (by rw [eσ248] <;> exact hen), (by rw [eσ248] <;> exact hA0), (by rw [eσ248] <;> exact hsm), (by rw [eσ248] <;> exact hme), (by rw [eσ248]; exact (Fr_si (by decide) hFR)), (by rw [eσ248] <;> exact hfr), (by rw [eσ248] <;> exact hmf), (by rw [eσ248] <;> exact hlt)⟩
                clear hsz hen hA0 hsm hme hFR hfr hmf
                obtain ⟨hsz, hen, hA0, hsm, hme, hFR, hfr, hmf, hlt⟩ := hNEW
                have htk : Hd (¬ (gi σ248 12).toInt = 0 → (gi σ248 13).toInt < (gi σ248 14).toInt) := (fun _ => hlt)
                have he : f_X6_ahead σ = σ248 := (by have eσL0e := eσL0e.symm; subst eσL0e; have eσ44 := eσ44.symm; subst eσ44; have er52 := er52.symm; subst er52; have eσ58 := eσ58.symm; subst eσ58; have er75 := er75.symm; subst er75; have er117 := er117.symm; subst er117; have eσ215 := eσ215.symm; subst eσ215; have eσ248 := eσ248.symm; subst eσ248; exact ((if_neg c63).trans ((if_pos c78).trans ((if_pos c120).trans ((if_neg c222).trans ((if_neg c228).trans ((if_neg c234).trans ((if_pos c240).trans rfl))))))))
                exact M_retv C h hr hlocks he ⟨hA0, hsm, hFR, (by first | assumption | omega | (unfold Hd; omega)), (by first | assumption | omega | (unfold Hd; omega)), (by first | assumption | omega | (unfold Hd; omega)), (by first | assumption | omega | (unfold Hd; omega)), (by first | assumption | omega | (unfold Hd; omega))⟩ dX6_ahead_251
      · have i120 := c_ne c120
        have okr117 := isDigit_ok er117 c120
        refine lv_aload_n hx hb dX6_ahead_123 rfl (lv_at hl 1 rfl) ?_
        refine lv_iconst (v := 0) hx hb dX6_ahead_124 (by decide) ?_
        refine Mp_15 C h dX6_ahead_125 (fun σ125 H locs eσ125 h => ?_)
        have hNEW : (0 ≤ (gi σ125 11).toInt ∧ (gi σ125 11).toInt ≤ 900) ∧ (0 ≤ (gi σ125 14).toInt ∧ (gi σ125 14).toInt ≤ (gi σ125 11).toInt) ∧ (∀ j : Int32, ga σ125 0 j = ga σ 0 j) ∧ ((gi σ125 11).toInt = (gi σ 11).toInt) ∧ ((gi σ 14).toInt ≤ (gi σ125 14).toInt) ∧ (PFr σ σ125) ∧ (0 ≤ (gi σ125 13).toInt ∧ (gi σ125 13).toInt ≤ (gi σ125 14).toInt) ∧ ((gi σ 14).toInt ≤ (gi σ125 13).toInt) := ⟨(by rw [eσ125] <;> exact hsz), (by rw [eσ125] <;> exact hen), (by rw [eσ125] <;> exact hA0), (by rw [eσ125] <;> exact hsm), (by rw [eσ125] <;> exact hme), (by rw [eσ125]; exact (Fr_si (by decide) hFR)), (by rw [eσ125] <;> exact hfr), (by rw [eσ125] <;> exact hmf)⟩
        clear hsz hen hA0 hsm hme hFR hfr hmf
        obtain ⟨hsz, hen, hA0, hsm, hme, hFR, hfr, hmf⟩ := hNEW
        have q125 : (gi σ125 14).toInt = (gi σ58 14).toInt ∧ (gi σ125 11).toInt = (gi σ58 11).toInt ∧ (gi σ125 13).toInt = (gi σ58 13).toInt := by rw [eσ125]; exact ⟨rfl, rfl, rfl⟩
        have b125 : f_X6_byteAt σ125 (gi σ125 14) = r52 := by rw [eσ125]; exact b58
        have hL128 : ∀ (n : Nat) (σL128 : MS) (H : Heap) (locs : List Loc) (ls : Array Slot), (0 ≤ (gi σL128 11).toInt ∧ (gi σL128 11).toInt ≤ 900) → (0 ≤ (gi σL128 14).toInt ∧ (gi σL128 14).toInt ≤ (gi σL128 11).toInt) → (∀ j : Int32, ga σL128 0 j = ga σ 0 j) → ((gi σL128 11).toInt = (gi σ 11).toInt) → ((gi σ 14).toInt ≤ (gi σL128 14).toInt) → (PFr σ σL128) → (0 ≤ (gi σL128 13).toInt ∧ (gi σL128 13).toInt ≤ (gi σL128 14).toInt) → ((gi σ 14).toInt ≤ (gi σL128 13).toInt) → (((gi σL128 13).toInt < (gi σL128 14).toInt) ∨ ((gi σL128 14).toInt = (gi σL128 13).toInt ∧ f_X6_byteAt σL128 (gi σL128 14) = r52)) → ((gi σL128 11).toInt - (gi σL128 14).toInt).toNat < n → MH g σL128 s H locs → lv_has ls 2 [(0, .ref (g.2.1 99))] → (∀ (σL128' : MS) (H : Heap) (locs : List Loc) (ls : Array Slot), f_X6_ahead_L128 n σL128 = σL128' → (0 ≤ (gi σL128' 11).toInt ∧ (gi σL128' 11).toInt ≤ 900) → (0 ≤ (gi σL128' 14).toInt ∧ (gi σL128' 14).toInt ≤ (gi σL128' 11).toInt) → (∀ j : Int32, ga σL128' 0 j = ga σ 0 j) → ((gi σL128' 11).toInt = (gi σ 11).toInt) → ((gi σ 14).toInt ≤ (gi σL128' 14).toInt) → (PFr σ σL128') → (0 ≤ (gi σL128' 13).toInt ∧ (gi σL128' 13).toInt ≤ (gi σL128' 14).toInt) → ((gi σ 14).toInt ≤ (gi σL128' 13).toInt) → ((gi σL128' 13).toInt < (gi σL128' 14).toInt) → MH g σL128' s H locs → lv_has ls 2 [(0, .ref (g.2.1 99))] → W p l e ({ frames := 1, cells := 0, slots := 0, locals := 23 } : Room) s m args below meth c H locs 0 0 (MQ below (mQv g (f_X6_ahead σ) (fun u => (∀ j : Int32, ga u 0 j = ga σ 0 j) ∧ ((gi u 11).toInt = (gi σ 11).toInt) ∧ (PFr σ u) ∧ (0 ≤ (gi u 11).toInt ∧ (gi u 11).toInt ≤ 900) ∧ (0 ≤ (gi u 14).toInt ∧ (gi u 14).toInt ≤ (gi u 11).toInt) ∧ (0 ≤ (gi u 13).toInt ∧ (gi u 13).toInt ≤ (gi u 14).toInt) ∧ (Hd (¬ (gi u 12).toInt = 0 → (gi u 13).toInt < (gi u 14).toInt)) ∧ ((gi σ 14).toInt ≤ (gi u 13).toInt))) args s 0 0 (mA g)) (F0 m 183 ls [])) → W p l e ({ frames := 1, cells := 0, slots := 0, locals := 23 } : Room) s m args below meth c H locs 0 0 (MQ below (mQv g (f_X6_ahead σ) (fun u => (∀ j : Int32, ga u 0 j = ga σ 0 j) ∧ ((gi u 11).toInt = (gi σ 11).toInt) ∧ (PFr σ u) ∧ (0 ≤ (gi u 11).toInt ∧ (gi u 11).toInt ≤ 900) ∧ (0 ≤ (gi u 14).toInt ∧ (gi u 14).toInt ≤ (gi u 11).toInt) ∧ (0 ≤ (gi u 13).toInt ∧ (gi u 13).toInt ≤ (gi u 14).toInt) ∧ (Hd (¬ (gi u 12).toInt = 0 → (gi u 13).toInt < (gi u 14).toInt)) ∧ ((gi σ 14).toInt ≤ (gi u 13).toInt))) args s 0 0 (mA g)) (F0 m 128 ls []) := by
          intro n
          induction n with
          | zero =>
            intro σL128 H locs ls hsz hen hA0 hsm hme hFR hfr hmf _ hm; exact absurd hm (Nat.not_lt_zero _)
          | succ n ih =>
            intro σL128 H locs ls hsz hen hA0 hsm hme hFR hfr hmf hI128 hm h hl kk
            refine lv_aload_n hx hb dX6_ahead_128 rfl (lv_at hl 0 rfl) ?_
            refine lv_aload_n hx hb dX6_ahead_129 rfl (lv_at hl 0 rfl) ?_
            refine Mg_14 C h dX6_ahead_130 ?_
            refine M_calli (As := [.int (gi σL128 14)]) (rest := []) 1 C h (k_X6_byteAt l g σL128 (gi σL128 14) (by first | assumption | omega) (by first | assumption | omega)) (lw_V q1711 q1713 qs70 q152 q1714) rfl rfl (by decide +kernel) ⟨Nat.le_of_ble_eq_true rfl, Nat.le_of_ble_eq_true rfl⟩ rfl hl.1 rfl (Nat.le_of_ble_eq_true rfl) ⟨Nat.le_of_ble_eq_true rfl, Nat.le_of_ble_eq_true rfl⟩ dX6_ahead_133 (fun r133 σ133 H locs eσ133 er133 hE133 h => ?_)
            rw [eσ133] at h
            rw [eσ133] at hE133
            have hE133 : ((¬ r133.toInt = -1 → (gi σL128 14).toInt < (gi σL128 11).toInt) ∧ -1 ≤ r133.toInt ∧ r133.toInt ≤ 255) := hE133
            have bk_133 := hE133
            clear eσ133
            refine s_callz (As := [.int r133]) (rest := []) 1 C.1 (k_X6_isDigit l r133) (lw_S q1718 q1719 q152 q1720) rfl rfl (by decide +kernel) ⟨Nat.le_of_ble_eq_true rfl, Nat.le_of_ble_eq_true rfl⟩ rfl hl.1 rfl (Nat.le_of_ble_eq_true rfl) ⟨Nat.le_of_ble_eq_true rfl, Nat.le_of_ble_eq_true rfl⟩ dX6_ahead_136 h.2.2 (fun r136 H locs er136 br136 hz1 hk1 hS1 => ?_)
            have h := h.same hk1 hS1
            clear hz1 hk1 hS1
            refine lv_if_eq (tgt := 183) hx hb dX6_ahead_139 (by decide) (fun c139 => ?_) (fun c139 => ?_)
            · have i139 := c_eq c139
              exact kk σL128 _ _ _ (show f_X6_ahead_L128 (n + 1) σL128 = σL128 from (by have er133 := er133.symm; subst er133; have er136 := er136.symm; subst er136; exact ((if_pos c139).trans rfl))) hsz hen hA0 hsm hme hFR hfr hmf (hI128.elim id (fun q => absurd (by rw [er117, ← q.2, ← er133, ← er136]; exact c139) c120)) h hl
            · have i139 := c_ne c139
              have okr136 := isDigit_ok er136 c139
              refine lv_aload_n hx hb dX6_ahead_142 rfl (lv_at hl 0 rfl) ?_
              refine lv_ldc hx hb hown (hts _ q1721) dX6_ahead_143 ?_
              refine lv_bipush (v := 10) hx hb dX6_ahead_145 (by decide) ?_
              refine lv_aload_n hx hb dX6_ahead_147 rfl (lv_at hl 0 rfl) ?_
              refine Mg_15 C h dX6_ahead_148 ?_
              refine lv_imul hx hb dX6_ahead_151 ?_
              refine lv_aload_n hx hb dX6_ahead_152 rfl (lv_at hl 0 rfl) ?_
              refine lv_aload_n hx hb dX6_ahead_153 rfl (lv_at hl 0 rfl) ?_
              refine Mg_14 C h dX6_ahead_154 ?_
              refine M_calli (As := [.int (gi σL128 14)]) (rest := [.int ((10 : Int32) * (gi σL128 15)), .int (100000 : Int32), .ref (g.2.1 99)]) 1 C h (k_X6_byteAt l g σL128 (gi σL128 14) (by first | assumption | omega) (by first | assumption | omega)) (lw_V q1711 q1713 qs70 q152 q1714) rfl rfl (by decide +kernel) ⟨Nat.le_of_ble_eq_true rfl, Nat.le_of_ble_eq_true rfl⟩ rfl hl.1 rfl (Nat.le_of_ble_eq_true rfl) ⟨Nat.le_of_ble_eq_true rfl, Nat.le_of_ble_eq_true rfl⟩ dX6_ahead_157 (fun r157 σ157 H locs eσ157 er157 hE157 h => ?_)
              rw [eσ157] at h
              rw [eσ157] at hE157
              have hE157 : ((¬ r157.toInt = -1 → (gi σL128 14).toInt < (gi σL128 11).toInt) ∧ -1 ≤ r157.toInt ∧ r157.toInt ≤ 255) := hE157
              have bk_157 := hE157
              clear eσ157
              refine lv_iadd hx hb dX6_ahead_160 ?_
              refine lv_bipush (v := 48) hx hb dX6_ahead_161 (by decide) ?_
              refine lv_isub hx hb dX6_ahead_163 ?_
              refine va_mmin hx hb (hml.trans hl.1.symm) hown (hts _ q1722) (hts _ q1261) (hts _ q164) (hts _ q1262) (Nat.le_of_ble_eq_true rfl) (Nat.le_of_ble_eq_true rfl) (Nat.le_of_ble_eq_true rfl) (Nat.le_of_ble_eq_true rfl) dX6_ahead_164 ?_
              refine Mp_15 C h dX6_ahead_167 (fun σ167 H locs eσ167 h => ?_)
              have hNEW : (0 ≤ (gi σ167 11).toInt ∧ (gi σ167 11).toInt ≤ 900) ∧ (0 ≤ (gi σ167 14).toInt ∧ (gi σ167 14).toInt ≤ (gi σ167 11).toInt) ∧ (∀ j : Int32, ga σ167 0 j = ga σ 0 j) ∧ ((gi σ167 11).toInt = (gi σ 11).toInt) ∧ ((gi σ 14).toInt ≤ (gi σ167 14).toInt) ∧ (PFr σ σ167) ∧ (0 ≤ (gi σ167 13).toInt ∧ (gi σ167 13).toInt ≤ (gi σ167 14).toInt) ∧ ((gi σ 14).toInt ≤ (gi σ167 13).toInt) := ⟨(by rw [eσ167] <;> exact hsz), (by rw [eσ167] <;> exact hen), (by rw [eσ167] <;> exact hA0), (by rw [eσ167] <;> exact hsm), (by rw [eσ167] <;> exact hme), (by rw [eσ167]; exact (Fr_si (by decide) hFR)), (by rw [eσ167] <;> exact hfr), (by rw [eσ167] <;> exact hmf)⟩
              obtain ⟨hsz, hen, hA0, hsm, hme, hFR, hfr, hmf⟩ := hNEW
              have q167 : (gi σ167 14).toInt = (gi σL128 14).toInt ∧ (gi σ167 11).toInt = (gi σL128 11).toInt := by rw [eσ167]; exact ⟨rfl, rfl⟩
              refine lv_aload_n hx hb dX6_ahead_170 rfl (lv_at hl 0 rfl) ?_
              refine lv_dup hx hb dX6_ahead_171 rfl ?_
              refine Mg_14 C h dX6_ahead_172 ?_
              refine lv_iconst (v := 1) hx hb dX6_ahead_175 (by decide) ?_
              refine lv_iadd hx hb dX6_ahead_176 ?_
              have hfr77 := hfr
              refine Mp_14 C h dX6_ahead_177 (fun σ177 H locs eσ177 h => ?_)
              have hNEW : (0 ≤ (gi σ177 11).toInt ∧ (gi σ177 11).toInt ≤ 900) ∧ (0 ≤ (gi σ177 14).toInt ∧ (gi σ177 14).toInt ≤ (gi σ177 11).toInt) ∧ (∀ j : Int32, ga σ177 0 j = ga σ 0 j) ∧ ((gi σ177 11).toInt = (gi σ 11).toInt) ∧ ((gi σ 14).toInt ≤ (gi σ177 14).toInt) ∧ (PFr σ σ177) ∧ (0 ≤ (gi σ177 13).toInt ∧ (gi σ177 13).toInt ≤ (gi σ177 14).toInt) ∧ ((gi σ 14).toInt ≤ (gi σ177 13).toInt) := ⟨(by rw [eσ177] <;> exact hsz), (by have q := end_inc eσ177 (by omega); omega), (by rw [eσ177] <;> exact hA0), (by have q := end_inc eσ177 (by omega); omega), (by have q := end_inc eσ177 (by omega); omega), (by rw [eσ177]; exact (Fr_si (by decide) hFR)), (by have q := end_inc eσ177 (by omega); omega), (by have q := end_inc eσ177 (by omega); omega)⟩
              clear hsz hen hA0 hsm hme hFR hfr hmf
              obtain ⟨hsz, hen, hA0, hsm, hme, hFR, hfr, hmf⟩ := hNEW
              have q177 := end_inc eσ177 (by omega)
              refine lv_goto (tgt := 128) hx hb dX6_ahead_180 (by decide) ?_
              exact ih σ177 _ _ _ hsz hen hA0 hsm hme hFR hfr hmf (Or.inl (by omega)) (by omega) h hl (fun σL128' H locs ls en hsz hen hA0 hsm hme hFR hfr hmf hI h hl => kk σL128' H locs ls ((show f_X6_ahead_L128 (n + 1) σL128 = f_X6_ahead_L128 n σ177 from (by have er133 := er133.symm; subst er133; have er136 := er136.symm; subst er136; have er157 := er157.symm; subst er157; have eσ167 := eσ167.symm; subst eσ167; have eσ177 := eσ177.symm; subst eσ177; exact ((if_neg c139).trans rfl))).trans en) hsz hen hA0 hsm hme hFR hfr hmf hI h hl)
        refine hL128 (901) σ125 _ _ _ hsz hen hA0 hsm hme hFR hfr hmf (Or.inr ⟨by omega, b125⟩) (by omega) h (lv_sub hl [1] rfl) (fun σL128e H locs ls eL128 hsz hen hA0 hsm hme hFR hfr hmf hI128 h hl => ?_)
        have eσL128e : σL128e = (f_X6_ahead_L128 (901) σ125) := by rw [eL128]
        refine lv_aload_n hx hb dX6_ahead_183 rfl (lv_at hl 0 rfl) ?_
        refine lv_aload_n hx hb dX6_ahead_184 rfl (lv_at hl 0 rfl) ?_
        have hlt : (gi σL128e 13).toInt < (gi σL128e 14).toInt := hI128
        refine Mg_14 C h dX6_ahead_185 ?_
        refine lv_aload_n hx hb dX6_ahead_188 rfl (lv_at hl 0 rfl) ?_
        refine Mg_13 C h dX6_ahead_189 ?_
        refine lv_isub hx hb dX6_ahead_192 ?_
        refine lv_iconst (v := 4) hx hb dX6_ahead_193 (by decide) ?_
        have j202 : ∀ (t0_202 : Int32) (H : Heap) (locs : List Loc) (ls : Array Slot) (ej202 : (if ((gi σL128e 14) - (gi σL128e 13)) ≤ (4 : Int32) then ((3 : Int32)) else ((1 : Int32))) = t0_202) (h : MH g σL128e s H locs) (hl : lv_has ls 2 []), W p l e ({ frames := 1, cells := 0, slots := 0, locals := 23 } : Room) s m args below meth c H locs 0 0 (MQ below (mQv g (f_X6_ahead σ) (fun u => (∀ j : Int32, ga u 0 j = ga σ 0 j) ∧ ((gi u 11).toInt = (gi σ 11).toInt) ∧ (PFr σ u) ∧ (0 ≤ (gi u 11).toInt ∧ (gi u 11).toInt ≤ 900) ∧ (0 ≤ (gi u 14).toInt ∧ (gi u 14).toInt ≤ (gi u 11).toInt) ∧ (0 ≤ (gi u 13).toInt ∧ (gi u 13).toInt ≤ (gi u 14).toInt) ∧ (Hd (¬ (gi u 12).toInt = 0 → (gi u 13).toInt < (gi u 14).toInt)) ∧ ((gi σ 14).toInt ≤ (gi u 13).toInt))) args s 0 0 (mA g)) (F0 m 202 ls [.int t0_202, .ref (g.2.1 99)]) := by
          intro t0_202 H locs ls ej202 h hl
          have et0_202 := ej202.symm
          refine Mp_12 C h dX6_ahead_202 (fun σ202 H locs eσ202 h => ?_)
          have hNEW : (0 ≤ (gi σ202 11).toInt ∧ (gi σ202 11).toInt ≤ 900) ∧ (0 ≤ (gi σ202 14).toInt ∧ (gi σ202 14).toInt ≤ (gi σ202 11).toInt) ∧ (∀ j : Int32, ga σ202 0 j = ga σ 0 j) ∧ ((gi σ202 11).toInt = (gi σ 11).toInt) ∧ ((gi σ 14).toInt ≤ (gi σ202 14).toInt) ∧ (PFr σ σ202) ∧ (0 ≤ (gi σ202 13).toInt ∧ (gi σ202 13).toInt ≤ (gi σ202 14).toInt) ∧ ((gi σ 14).toInt ≤ (gi σ202 13).toInt) ∧ ((gi σ202 13).toInt < (gi σ202 14).toInt) := ⟨(by rw [eσ202] <;> exact hsz), (by rw [eσ202] <;> exact hen), (by rw [eσ202] <;> exact hA0), (by rw [eσ202] <;> exact hsm), (by rw [eσ202] <;> exact hme), (by rw [eσ202]; exact (Fr_si (by decide) hFR)), (by rw [eσ202] <;> exact hfr), (by rw [eσ202] <;> exact hmf), (by rw [eσ202] <;> exact hlt)⟩
          obtain ⟨hsz, hen, hA0, hsm, hme, hFR, hfr, hmf, hlt⟩ := hNEW
          have htk : Hd (¬ (gi σ202 12).toInt = 0 → (gi σ202 13).toInt < (gi σ202 14).toInt) := (fun _ => hlt)
          refine lv_goto (tgt := 251) hx hb dX6_ahead_205 (by decide) ?_
          have he : f_X6_ahead σ = σ202 := (by have eσL0e := eσL0e.symm; subst eσL0e; have eσ44 := eσ44.symm; subst eσ44; have er52 := er52.symm; subst er52; have eσ58 := eσ58.symm; subst eσ58; have er75 := er75.symm; subst er75; have er117 := er117.symm; subst er117; have eσ125 := eσ125.symm; subst eσ125; have eσL128e := eσL128e.symm; subst eσL128e; have et0_202 := et0_202.symm; subst et0_202; have eσ202 := eσ202.symm; subst eσ202; exact ((if_neg c63).trans ((if_pos c78).trans ((if_neg c120).trans rfl))))
          exact M_retv C h hr hlocks he ⟨hA0, hsm, hFR, (by first | assumption | omega | (unfold Hd; omega)), (by first | assumption | omega | (unfold Hd; omega)), (by first | assumption | omega | (unfold Hd; omega)), (by first | assumption | omega | (unfold Hd; omega)), (by first | assumption | omega | (unfold Hd; omega))⟩ dX6_ahead_251
        refine lv_icmp_le (tgt := 201) hx hb dX6_ahead_194 (by decide) (fun c194 => ?_) (fun c194 => ?_)
        · have i194 := c_le c194
          refine lv_iconst (v := 3) hx hb dX6_ahead_201 (by decide) ?_
          exact j202 _ _ _ _ (by exact ((if_pos c194).trans rfl)) h (lv_sub hl [] rfl)
        · have i194 := c_nle c194
          refine lv_iconst (v := 1) hx hb dX6_ahead_197 (by decide) ?_
          refine lv_goto (tgt := 202) hx hb dX6_ahead_198 (by decide) ?_
          exact j202 _ _ _ _ (by exact ((if_neg c194).trans rfl)) h (lv_sub hl [] rfl)
    · have i78 := c_ne c78
      have okr75 := isSmall_ok er75 c78
      have hL81 : ∀ (n : Nat) (σL81 : MS) (H : Heap) (locs : List Loc) (ls : Array Slot), (0 ≤ (gi σL81 11).toInt ∧ (gi σL81 11).toInt ≤ 900) → (0 ≤ (gi σL81 14).toInt ∧ (gi σL81 14).toInt ≤ (gi σL81 11).toInt) → (∀ j : Int32, ga σL81 0 j = ga σ 0 j) → ((gi σL81 11).toInt = (gi σ 11).toInt) → ((gi σ 14).toInt ≤ (gi σL81 14).toInt) → (PFr σ σL81) → (0 ≤ (gi σL81 13).toInt ∧ (gi σL81 13).toInt ≤ (gi σL81 14).toInt) → ((gi σ 14).toInt ≤ (gi σL81 13).toInt) → (((gi σL81 13).toInt < (gi σL81 14).toInt) ∨ ((gi σL81 14).toInt = (gi σL81 13).toInt ∧ f_X6_byteAt σL81 (gi σL81 14) = r52)) → ((gi σL81 11).toInt - (gi σL81 14).toInt).toNat < n → MH g σL81 s H locs → lv_has ls 2 [(0, .ref (g.2.1 99))] → (∀ (σL81' : MS) (H : Heap) (locs : List Loc) (ls : Array Slot), f_X6_ahead_L81 n σL81 = σL81' → (0 ≤ (gi σL81' 11).toInt ∧ (gi σL81' 11).toInt ≤ 900) → (0 ≤ (gi σL81' 14).toInt ∧ (gi σL81' 14).toInt ≤ (gi σL81' 11).toInt) → (∀ j : Int32, ga σL81' 0 j = ga σ 0 j) → ((gi σL81' 11).toInt = (gi σ 11).toInt) → ((gi σ 14).toInt ≤ (gi σL81' 14).toInt) → (PFr σ σL81') → (0 ≤ (gi σL81' 13).toInt ∧ (gi σL81' 13).toInt ≤ (gi σL81' 14).toInt) → ((gi σ 14).toInt ≤ (gi σL81' 13).toInt) → ((gi σL81' 13).toInt < (gi σL81' 14).toInt) → MH g σL81' s H locs → lv_has ls 2 [(0, .ref (g.2.1 99))] → W p l e ({ frames := 1, cells := 0, slots := 0, locals := 23 } : Room) s m args below meth c H locs 0 0 (MQ below (mQv g (f_X6_ahead σ) (fun u => (∀ j : Int32, ga u 0 j = ga σ 0 j) ∧ ((gi u 11).toInt = (gi σ 11).toInt) ∧ (PFr σ u) ∧ (0 ≤ (gi u 11).toInt ∧ (gi u 11).toInt ≤ 900) ∧ (0 ≤ (gi u 14).toInt ∧ (gi u 14).toInt ≤ (gi u 11).toInt) ∧ (0 ≤ (gi u 13).toInt ∧ (gi u 13).toInt ≤ (gi u 14).toInt) ∧ (Hd (¬ (gi u 12).toInt = 0 → (gi u 13).toInt < (gi u 14).toInt)) ∧ ((gi σ 14).toInt ≤ (gi u 13).toInt))) args s 0 0 (mA g)) (F0 m 108 ls [])) → W p l e ({ frames := 1, cells := 0, slots := 0, locals := 23 } : Room) s m args below meth c H locs 0 0 (MQ below (mQv g (f_X6_ahead σ) (fun u => (∀ j : Int32, ga u 0 j = ga σ 0 j) ∧ ((gi u 11).toInt = (gi σ 11).toInt) ∧ (PFr σ u) ∧ (0 ≤ (gi u 11).toInt ∧ (gi u 11).toInt ≤ 900) ∧ (0 ≤ (gi u 14).toInt ∧ (gi u 14).toInt ≤ (gi u 11).toInt) ∧ (0 ≤ (gi u 13).toInt ∧ (gi u 13).toInt ≤ (gi u 14).toInt) ∧ (Hd (¬ (gi u 12).toInt = 0 → (gi u 13).toInt < (gi u 14).toInt)) ∧ ((gi σ 14).toInt ≤ (gi u 13).toInt))) args s 0 0 (mA g)) (F0 m 81 ls []) := by
        intro n
        induction n with
        | zero =>
          intro σL81 H locs ls hsz hen hA0 hsm hme hFR hfr hmf _ hm; exact absurd hm (Nat.not_lt_zero _)
        | succ n ih =>
          intro σL81 H locs ls hsz hen hA0 hsm hme hFR hfr hmf hI81 hm h hl kk
          refine lv_aload_n hx hb dX6_ahead_81 rfl (lv_at hl 0 rfl) ?_
          refine lv_aload_n hx hb dX6_ahead_82 rfl (lv_at hl 0 rfl) ?_
          refine Mg_14 C h dX6_ahead_83 ?_
          refine M_calli (As := [.int (gi σL81 14)]) (rest := []) 1 C h (k_X6_byteAt l g σL81 (gi σL81 14) (by first | assumption | omega) (by first | assumption | omega)) (lw_V q1711 q1713 qs70 q152 q1714) rfl rfl (by decide +kernel) ⟨Nat.le_of_ble_eq_true rfl, Nat.le_of_ble_eq_true rfl⟩ rfl hl.1 rfl (Nat.le_of_ble_eq_true rfl) ⟨Nat.le_of_ble_eq_true rfl, Nat.le_of_ble_eq_true rfl⟩ dX6_ahead_86 (fun r86 σ86 H locs eσ86 er86 hE86 h => ?_)
          rw [eσ86] at h
          rw [eσ86] at hE86
          have hE86 : ((¬ r86.toInt = -1 → (gi σL81 14).toInt < (gi σL81 11).toInt) ∧ -1 ≤ r86.toInt ∧ r86.toInt ≤ 255) := hE86
          have bk_86 := hE86
          clear eσ86
          refine s_callz (As := [.int r86]) (rest := []) 1 C.1 (k_X6_isSmall l r86) (lw_S q1715 q1716 q152 q1717) rfl rfl (by decide +kernel) ⟨Nat.le_of_ble_eq_true rfl, Nat.le_of_ble_eq_true rfl⟩ rfl hl.1 rfl (Nat.le_of_ble_eq_true rfl) ⟨Nat.le_of_ble_eq_true rfl, Nat.le_of_ble_eq_true rfl⟩ dX6_ahead_89 h.2.2 (fun r89 H locs er89 br89 hz1 hk1 hS1 => ?_)
          have h := h.same hk1 hS1
          clear hz1 hk1 hS1
          refine lv_if_eq (tgt := 108) hx hb dX6_ahead_92 (by decide) (fun c92 => ?_) (fun c92 => ?_)
          · have i92 := c_eq c92
            exact kk σL81 _ _ _ (show f_X6_ahead_L81 (n + 1) σL81 = σL81 from (by have er86 := er86.symm; subst er86; have er89 := er89.symm; subst er89; exact ((if_pos c92).trans rfl))) hsz hen hA0 hsm hme hFR hfr hmf (hI81.elim id (fun q => absurd (by rw [er75, ← q.2, ← er86, ← er89]; exact c92) c78)) h hl
          · have i92 := c_ne c92
            have okr89 := isSmall_ok er89 c92
            refine lv_aload_n hx hb dX6_ahead_95 rfl (lv_at hl 0 rfl) ?_
            refine lv_dup hx hb dX6_ahead_96 rfl ?_
            refine Mg_14 C h dX6_ahead_97 ?_
            refine lv_iconst (v := 1) hx hb dX6_ahead_100 (by decide) ?_
            refine lv_iadd hx hb dX6_ahead_101 ?_
            refine Mp_14 C h dX6_ahead_102 (fun σ102 H locs eσ102 h => ?_)
            have hNEW : (0 ≤ (gi σ102 11).toInt ∧ (gi σ102 11).toInt ≤ 900) ∧ (0 ≤ (gi σ102 14).toInt ∧ (gi σ102 14).toInt ≤ (gi σ102 11).toInt) ∧ (∀ j : Int32, ga σ102 0 j = ga σ 0 j) ∧ ((gi σ102 11).toInt = (gi σ 11).toInt) ∧ ((gi σ 14).toInt ≤ (gi σ102 14).toInt) ∧ (PFr σ σ102) ∧ (0 ≤ (gi σ102 13).toInt ∧ (gi σ102 13).toInt ≤ (gi σ102 14).toInt) ∧ ((gi σ 14).toInt ≤ (gi σ102 13).toInt) := ⟨(by rw [eσ102] <;> exact hsz), (by have q := end_inc eσ102 (by omega); omega), (by rw [eσ102] <;> exact hA0), (by have q := end_inc eσ102 (by omega); omega), (by have q := end_inc eσ102 (by omega); omega), (by rw [eσ102]; exact (Fr_si (by decide) hFR)), (by have q := end_inc eσ102 (by omega); omega), (by have q := end_inc eσ102 (by omega); omega)⟩
            obtain ⟨hsz, hen, hA0, hsm, hme, hFR, hfr, hmf⟩ := hNEW
            have q102 := end_inc eσ102 (by omega)
            refine lv_goto (tgt := 81) hx hb dX6_ahead_105 (by decide) ?_
            exact ih σ102 _ _ _ hsz hen hA0 hsm hme hFR hfr hmf (Or.inl (by omega)) (by omega) h hl (fun σL81' H locs ls en hsz hen hA0 hsm hme hFR hfr hmf hI h hl => kk σL81' H locs ls ((show f_X6_ahead_L81 (n + 1) σL81 = f_X6_ahead_L81 n σ102 from (by have er86 := er86.symm; subst er86; have er89 := er89.symm; subst er89; have eσ102 := eσ102.symm; subst eσ102; exact ((if_neg c92).trans rfl))).trans en) hsz hen hA0 hsm hme hFR hfr hmf hI h hl)
      refine hL81 (901) σ58 _ _ _ hsz hen hA0 hsm hme hFR hfr hmf (Or.inr ⟨by omega, b58⟩) (by omega) h (lv_sub hl [1] rfl) (fun σL81e H locs ls eL81 hsz hen hA0 hsm hme hFR hfr hmf hI81 h hl => ?_)
      have eσL81e : σL81e = (f_X6_ahead_L81 (901) σ58) := by rw [eL81]
      refine lv_aload_n hx hb dX6_ahead_108 rfl (lv_at hl 0 rfl) ?_
      refine lv_iconst (v := 2) hx hb dX6_ahead_109 (by decide) ?_
      have hlt : (gi σL81e 13).toInt < (gi σL81e 14).toInt := hI81
      refine Mp_12 C h dX6_ahead_110 (fun σ110 H locs eσ110 h => ?_)
      have hNEW : (0 ≤ (gi σ110 11).toInt ∧ (gi σ110 11).toInt ≤ 900) ∧ (0 ≤ (gi σ110 14).toInt ∧ (gi σ110 14).toInt ≤ (gi σ110 11).toInt) ∧ (∀ j : Int32, ga σ110 0 j = ga σ 0 j) ∧ ((gi σ110 11).toInt = (gi σ 11).toInt) ∧ ((gi σ 14).toInt ≤ (gi σ110 14).toInt) ∧ (PFr σ σ110) ∧ (0 ≤ (gi σ110 13).toInt ∧ (gi σ110 13).toInt ≤ (gi σ110 14).toInt) ∧ ((gi σ 14).toInt ≤ (gi σ110 13).toInt) ∧ ((gi σ110 13).toInt < (gi σ110 14).toInt) := ⟨(by rw [eσ110] <;> exact hsz), (by rw [eσ110] <;> exact hen), (by rw [eσ110] <;> exact hA0), (by rw [eσ110] <;> exact hsm), (by rw [eσ110] <;> exact hme), (by rw [eσ110]; exact (Fr_si (by decide) hFR)), (by rw [eσ110] <;> exact hfr), (by rw [eσ110] <;> exact hmf), (by rw [eσ110] <;> exact hlt)⟩
      obtain ⟨hsz, hen, hA0, hsm, hme, hFR, hfr, hmf, hlt⟩ := hNEW
      have htk : Hd (¬ (gi σ110 12).toInt = 0 → (gi σ110 13).toInt < (gi σ110 14).toInt) := (fun _ => hlt)
      refine lv_goto (tgt := 251) hx hb dX6_ahead_113 (by decide) ?_
      have he : f_X6_ahead σ = σ110 := (by have eσL0e := eσL0e.symm; subst eσL0e; have eσ44 := eσ44.symm; subst eσ44; have er52 := er52.symm; subst er52; have eσ58 := eσ58.symm; subst eσ58; have er75 := er75.symm; subst er75; have eσL81e := eσL81e.symm; subst eσL81e; have eσ110 := eσ110.symm; subst eσ110; exact ((if_neg c63).trans ((if_neg c78).trans rfl)))
      exact M_retv C h hr hlocks he ⟨hA0, hsm, hFR, (by first | assumption | omega | (unfold Hd; omega)), (by first | assumption | omega | (unfold Hd; omega)), (by first | assumption | omega | (unfold Hd; omega)), (by first | assumption | omega | (unfold Hd; omega)), (by first | assumption | omega | (unfold Hd; omega))⟩ dX6_ahead_251
  · have i63 := c_eq c63
    refine lv_aload_n hx hb dX6_ahead_66 rfl (lv_at hl 1 rfl) ?_
    refine lv_iconst (v := 0) hx hb dX6_ahead_67 (by decide) ?_
    refine Mp_12 C h dX6_ahead_68 (fun σ68 H locs eσ68 h => ?_)
    have hNEW : (0 ≤ (gi σ68 11).toInt ∧ (gi σ68 11).toInt ≤ 900) ∧ (0 ≤ (gi σ68 14).toInt ∧ (gi σ68 14).toInt ≤ (gi σ68 11).toInt) ∧ (∀ j : Int32, ga σ68 0 j = ga σ 0 j) ∧ ((gi σ68 11).toInt = (gi σ 11).toInt) ∧ ((gi σ 14).toInt ≤ (gi σ68 14).toInt) ∧ (PFr σ σ68) ∧ (0 ≤ (gi σ68 13).toInt ∧ (gi σ68 13).toInt ≤ (gi σ68 14).toInt) ∧ ((gi σ 14).toInt ≤ (gi σ68 13).toInt) := ⟨(by rw [eσ68] <;> exact hsz), (by rw [eσ68] <;> exact hen), (by rw [eσ68] <;> exact hA0), (by rw [eσ68] <;> exact hsm), (by rw [eσ68] <;> exact hme), (by rw [eσ68]; exact (Fr_si (by decide) hFR)), (by rw [eσ68] <;> exact hfr), (by rw [eσ68] <;> exact hmf)⟩
    clear hsz hen hA0 hsm hme hFR hfr hmf
    obtain ⟨hsz, hen, hA0, hsm, hme, hFR, hfr, hmf⟩ := hNEW
    have htk : Hd (¬ (gi σ68 12).toInt = 0 → (gi σ68 13).toInt < (gi σ68 14).toInt) := (fun q => absurd (by rw [eσ68]; rfl) q)
    refine lv_goto (tgt := 251) hx hb dX6_ahead_71 (by decide) ?_
    have he : f_X6_ahead σ = σ68 := (by have eσL0e := eσL0e.symm; subst eσL0e; have eσ44 := eσ44.symm; subst eσ44; have er52 := er52.symm; subst er52; have eσ58 := eσ58.symm; subst eσ58; have eσ68 := eσ68.symm; subst eσ68; exact ((if_pos c63).trans rfl))
    exact M_retv C h hr hlocks he ⟨hA0, hsm, hFR, (by first | assumption | omega | (unfold Hd; omega)), (by first | assumption | omega | (unfold Hd; omega)), (by first | assumption | omega | (unfold Hd; omega)), (by first | assumption | omega | (unfold Hd; omega)), (by first | assumption | omega | (unfold Hd; omega))⟩ dX6_ahead_251
def f_X6_begins_L26 (y1_26 : Int32) : Nat → Int32 → MS → Int32 × MS
  | 0, x3_26, σL26 => (x3_26, σL26)
  | n + 1, x3_26, σL26 => if y1_26 ≤ x3_26 then ((x3_26, σL26)) else ((let σ42 := sa σL26 9 x3_26 (vp_nar .byte (ga σL26 8 x3_26)); f_X6_begins_L26 y1_26 n (x3_26 + (1 : Int32)) σ42))
def f_X6_begins (σ : MS) (p1 : Int32) (p2 : Int32) : MS × Int32 := if p1 < (0 : Int32) then ((σ, (0 : Int32))) else (if (gi σ 10) < p1 then ((σ, (0 : Int32))) else (if p1 ≤ p2 then ((let σ21 := si σ 11 p1; (let zL26 := f_X6_begins_L26 p1 (901) (0 : Int32) σ21; let x3_26e := zL26.1; let σL26e := zL26.2; (let σ51 := si σL26e 10 (0 : Int32); let σ56 := si σ51 18 (0 : Int32); let σ61 := si σ56 17 (-1 : Int32); let σ66 := si σ61 14 (0 : Int32); let σ71 := si σ66 19 (0 : Int32); let σ75 := (f_X6_ahead σ71); (σ75, (1 : Int32)))))) else ((σ, (0 : Int32)))))
set_option maxHeartbeats 4000000 in
set_option maxRecDepth 100000 in
theorem k_X6_begins (l : Launch) (g : GE) (σ : MS) (p1 : Int32) (p2 : Int32) (ht0 : 0 ≤ (gi σ 10).toInt ∧ (gi σ 10).toInt ≤ 900) : Met l yX6_begins (ws_ yX6_begins cX6_begins 4 (some .boolean)) ({ frames := 2, cells := 0, slots := 0, locals := 44 } : Room) (mPc g σ [.int p1, .int p2]) (mQz g (f_X6_begins σ p1 p2).1 (f_X6_begins σ p1 p2).2 (fun u r => (∀ j : Int32, ga u 0 j = ga σ 0 j) ∧ (BFr σ u) ∧ (Hd (¬ r.toInt = 0 → (0 ≤ (gi u 11).toInt ∧ (gi u 11).toInt ≤ 900) ∧ (0 ≤ (gi u 14).toInt ∧ (gi u 14).toInt ≤ (gi u 11).toInt) ∧ (0 ≤ (gi u 13).toInt ∧ (gi u 13).toInt ≤ (gi u 14).toInt) ∧ Hd (¬ (gi u 12).toInt = 0 → (gi u 13).toInt < (gi u 14).toInt))))) 0 0 (mA g) := by
  refine met_M (by decide) rfl (Nat.le_of_ble_eq_true rfl) ?_
  intro p e s m args below meth c C hr hlocks h ls hl
  have hx := C.1.1
  have hb := C.1.2.1
  have hml := C.1.2.2.1
  have hown := C.1.2.2.2.1
  have hts := C.1.2.2.2.2
  have hl : lv_has ls 4 [(0, .ref (g.2.1 99)), (1, .int p1), (2, .int p2)] := hl
  have hA0 : ∀ j : Int32, ga σ 0 j = ga σ 0 j := fun _ => rfl
  have hFB : BFr σ σ := Fr.rf
  have zlm1 : (-1 : Int32).toInt = -1 := rfl
  have zl0 : (0 : Int32).toInt = 0 := rfl
  have zl1 : (1 : Int32).toInt = 1 := rfl
  refine lv_iload_n hx hb dX6_begins_0 rfl (lv_at hl 1 rfl) ?_
  refine lv_if_lt (tgt := 17) hx hb dX6_begins_1 (by decide) (fun c1 => ?_) (fun c1 => ?_)
  · have i1 := c_lt c1
    refine lv_iconst (v := 0) hx hb dX6_begins_17 (by decide) ?_
    have he : f_X6_begins σ p1 p2 = (σ, (0 : Int32)) := (by exact ((if_pos c1).trans rfl))
    exact M_retz C h hr hlocks (congrArg Prod.fst he) (congrArg Prod.snd he) (Or.inl rfl) ⟨hA0, hFB, (by first | exact (fun q => absurd zl0 q) | exact (fun _ => ⟨hsz, hen, hfr_75, htk_75⟩))⟩ dX6_begins_18
  · have i1 := c_nlt c1
    refine lv_iload_n hx hb dX6_begins_4 rfl (lv_at hl 1 rfl) ?_
    refine lv_aload_n hx hb dX6_begins_5 rfl (lv_at hl 0 rfl) ?_
    refine Mg_10 C h dX6_begins_6 ?_
    refine lv_icmp_gt (tgt := 17) hx hb dX6_begins_9 (by decide) (fun c9 => ?_) (fun c9 => ?_)
    · have i9 := c_lt c9
      refine lv_iconst (v := 0) hx hb dX6_begins_17 (by decide) ?_
      have he : f_X6_begins σ p1 p2 = (σ, (0 : Int32)) := (by exact ((if_neg c1).trans ((if_pos c9).trans rfl)))
      exact M_retz C h hr hlocks (congrArg Prod.fst he) (congrArg Prod.snd he) (Or.inl rfl) ⟨hA0, hFB, (by first | exact (fun q => absurd zl0 q) | exact (fun _ => ⟨hsz, hen, hfr_75, htk_75⟩))⟩ dX6_begins_18
    · have i9 := c_nlt c9
      refine lv_iload_n hx hb dX6_begins_12 rfl (lv_at hl 1 rfl) ?_
      refine lv_iload_n hx hb dX6_begins_13 rfl (lv_at hl 2 rfl) ?_
      refine lv_icmp_le (tgt := 19) hx hb dX6_begins_14 (by decide) (fun c14 => ?_) (fun c14 => ?_)
      · have i14 := c_le c14
        refine lv_aload_n hx hb dX6_begins_19 rfl (lv_at hl 0 rfl) ?_
        refine lv_iload_n hx hb dX6_begins_20 rfl (lv_at hl 1 rfl) ?_
        refine Mp_11 C h dX6_begins_21 (fun σ21 H locs eσ21 h => ?_)
        have hNEW : (∀ j : Int32, ga σ21 0 j = ga σ 0 j) ∧ (BFr σ σ21) := ⟨(by rw [eσ21] <;> exact hA0), (by rw [eσ21]; exact (Fr_si (by decide) hFB))⟩
        obtain ⟨hA0, hFB⟩ := hNEW
        have hsz : 0 ≤ (gi σ21 11).toInt ∧ (gi σ21 11).toInt ≤ 900 := (by rw [eσ21]; show 0 ≤ p1.toInt ∧ p1.toInt ≤ 900; omega)
        refine lv_iconst (v := 0) hx hb dX6_begins_24 (by decide) ?_
        refine lv_istore_n (lv' := [(3, .int (0 : Int32)), (0, .ref (g.2.1 99)), (1, .int p1), (2, .int p2)]) hx hb dX6_begins_25 rfl hl (by decide) rfl (fun ls hl => ?_)
        have hL26 : ∀ (n : Nat) (x3_26 : Int32) (σL26 : MS) (H : Heap) (locs : List Loc) (ls : Array Slot), (∀ j : Int32, ga σL26 0 j = ga σ 0 j) → (BFr σ σL26) → (0 ≤ (gi σL26 11).toInt ∧ (gi σL26 11).toInt ≤ 900) → (0 ≤ x3_26.toInt ∧ x3_26.toInt ≤ p1.toInt) → (p1.toInt - x3_26.toInt).toNat < n → MH g σL26 s H locs → lv_has ls 4 [(0, .ref (g.2.1 99)), (1, .int p1), (3, .int x3_26)] → (∀ (x3_26' : Int32) (σL26' : MS) (H : Heap) (locs : List Loc) (ls : Array Slot), f_X6_begins_L26 p1 n x3_26 σL26 = (x3_26', σL26') → (∀ j : Int32, ga σL26' 0 j = ga σ 0 j) → (BFr σ σL26') → (0 ≤ (gi σL26' 11).toInt ∧ (gi σL26' 11).toInt ≤ 900) → (0 ≤ x3_26'.toInt ∧ x3_26'.toInt ≤ p1.toInt) → MH g σL26' s H locs → lv_has ls 4 [(0, .ref (g.2.1 99))] → W p l e ({ frames := 2, cells := 0, slots := 0, locals := 44 } : Room) s m args below meth c H locs 0 0 (MQ below (mQz g (f_X6_begins σ p1 p2).1 (f_X6_begins σ p1 p2).2 (fun u r => (∀ j : Int32, ga u 0 j = ga σ 0 j) ∧ (BFr σ u) ∧ (Hd (¬ r.toInt = 0 → (0 ≤ (gi u 11).toInt ∧ (gi u 11).toInt ≤ 900) ∧ (0 ≤ (gi u 14).toInt ∧ (gi u 14).toInt ≤ (gi u 11).toInt) ∧ (0 ≤ (gi u 13).toInt ∧ (gi u 13).toInt ≤ (gi u 14).toInt) ∧ Hd (¬ (gi u 12).toInt = 0 → (gi u 13).toInt < (gi u 14).toInt))))) args s 0 0 (mA g)) (F0 m 49 ls [])) → W p l e ({ frames := 2, cells := 0, slots := 0, locals := 44 } : Room) s m args below meth c H locs 0 0 (MQ below (mQz g (f_X6_begins σ p1 p2).1 (f_X6_begins σ p1 p2).2 (fun u r => (∀ j : Int32, ga u 0 j = ga σ 0 j) ∧ (BFr σ u) ∧ (Hd (¬ r.toInt = 0 → (0 ≤ (gi u 11).toInt ∧ (gi u 11).toInt ≤ 900) ∧ (0 ≤ (gi u 14).toInt ∧ (gi u 14).toInt ≤ (gi u 11).toInt) ∧ (0 ≤ (gi u 13).toInt ∧ (gi u 13).toInt ≤ (gi u 14).toInt) ∧ Hd (¬ (gi u 12).toInt = 0 → (gi u 13).toInt < (gi u 14).toInt))))) args s 0 0 (mA g)) (F0 m 26 ls []) := by
          intro n
          induction n with
          | zero =>
            intro x3_26 σL26 H locs ls hA0 hFB hsz _ hm; exact absurd hm (Nat.not_lt_zero _)
          | succ n ih =>
            intro x3_26 σL26 H locs ls hA0 hFB hsz hI26 hm h hl kk
            refine lv_iload_n hx hb dX6_begins_26 rfl (lv_at hl 2 rfl) ?_
            refine lv_iload_n hx hb dX6_begins_27 rfl (lv_at hl 1 rfl) ?_
            refine lv_icmp_ge (tgt := 49) hx hb dX6_begins_28 (by decide) (fun c28 => ?_) (fun c28 => ?_)
            · have i28 := c_le c28
              exact kk x3_26 σL26 _ _ _ (show f_X6_begins_L26 p1 (n + 1) x3_26 σL26 = (x3_26, σL26) from (by exact ((if_pos c28).trans rfl))) hA0 hFB hsz (by first | assumption | omega) h (lv_sub hl [0] rfl)
            · have i28 := c_nle c28
              refine lv_aload_n hx hb dX6_begins_31 rfl (lv_at hl 0 rfl) ?_
              refine Mg_9 C h dX6_begins_32 ?_
              refine lv_iload_n hx hb dX6_begins_35 rfl (lv_at hl 2 rfl) ?_
              refine lv_aload_n hx hb dX6_begins_36 rfl (lv_at hl 0 rfl) ?_
              refine Mg_8 C h dX6_begins_37 ?_
              refine lv_iload_n hx hb dX6_begins_40 rfl (lv_at hl 2 rfl) ?_
              refine Ml_8 C h (ix_of (rfl : x3_26.toInt = x3_26.toInt) (by omega)) dX6_begins_41 ?_
              refine Ms_9 C h (ix_of (rfl : x3_26.toInt = x3_26.toInt) (by omega)) dX6_begins_42 (fun σ42 H locs eσ42 h => ?_)
              have hNEW : (∀ j : Int32, ga σ42 0 j = ga σ 0 j) ∧ (BFr σ σ42) ∧ (0 ≤ (gi σ42 11).toInt ∧ (gi σ42 11).toInt ≤ 900) := ⟨(by rw [eσ42] <;> exact hA0), (by rw [eσ42]; exact (Fr_xa (by decide) (by decide) hFB)), (by rw [eσ42] <;> exact hsz)⟩
              obtain ⟨hA0, hFB, hsz⟩ := hNEW
              refine lv_iinc (v := (x3_26 + (1 : Int32))) (lv' := [(3, .int (x3_26 + (1 : Int32))), (0, .ref (g.2.1 99)), (1, .int p1)]) hx hb dX6_begins_43 hl (k := 2) rfl rfl (by decide) rfl (fun ls hl => ?_)
              refine lv_goto (tgt := 26) hx hb dX6_begins_46 (by decide) ?_
              have tt3 : (x3_26 + (1 : Int32)).toInt = (x3_26.toInt + (1)) := (i_add (rfl : x3_26.toInt = x3_26.toInt) zl1 (by omega))
              exact ih (x3_26 + (1 : Int32)) σ42 _ _ _ hA0 hFB hsz (by first | assumption | omega) (by omega) h (lv_sub hl [1, 2, 0] rfl) (fun x3_26' σL26' H locs ls en hA0 hFB hsz hI h hl => kk x3_26' σL26' H locs ls ((show f_X6_begins_L26 p1 (n + 1) x3_26 σL26 = f_X6_begins_L26 p1 n (x3_26 + (1 : Int32)) σ42 from (by have eσ42 := eσ42.symm; subst eσ42; exact ((if_neg c28).trans rfl))).trans en) hA0 hFB hsz hI h hl)
        refine hL26 (901) (0 : Int32) σ21 _ _ _ hA0 hFB hsz (by first | assumption | omega) (by omega) h (lv_sub hl [1, 2, 0] rfl) (fun x3_26e σL26e H locs ls eL26 hA0 hFB hsz hI26 h hl => ?_)
        have ex3_26e : x3_26e = (f_X6_begins_L26 p1 (901) (0 : Int32) σ21).1 := by rw [eL26]
        have eσL26e : σL26e = (f_X6_begins_L26 p1 (901) (0 : Int32) σ21).2 := by rw [eL26]
        refine lv_aload_n hx hb dX6_begins_49 rfl (lv_at hl 0 rfl) ?_
        refine lv_iconst (v := 0) hx hb dX6_begins_50 (by decide) ?_
        refine Mp_10 C h dX6_begins_51 (fun σ51 H locs eσ51 h => ?_)
        have hNEW : (∀ j : Int32, ga σ51 0 j = ga σ 0 j) ∧ (BFr σ σ51) ∧ (0 ≤ (gi σ51 11).toInt ∧ (gi σ51 11).toInt ≤ 900) := ⟨(by rw [eσ51] <;> exact hA0), (by rw [eσ51]; exact (Fr_si (by decide) hFB)), (by rw [eσ51] <;> exact hsz)⟩
        obtain ⟨hA0, hFB, hsz⟩ := hNEW
        refine lv_aload_n hx hb dX6_begins_54 rfl (lv_at hl 0 rfl) ?_
        refine lv_iconst (v := 0) hx hb dX6_begins_55 (by decide) ?_
        refine Mp_18 C h dX6_begins_56 (fun σ56 H locs eσ56 h => ?_)
        have hNEW : (∀ j : Int32, ga σ56 0 j = ga σ 0 j) ∧ (BFr σ σ56) ∧ (0 ≤ (gi σ56 11).toInt ∧ (gi σ56 11).toInt ≤ 900) := ⟨(by rw [eσ56] <;> exact hA0), (by rw [eσ56]; exact (Fr_si (by decide) hFB)), (by rw [eσ56] <;> exact hsz)⟩
        clear hA0 hFB hsz
        obtain ⟨hA0, hFB, hsz⟩ := hNEW
        refine lv_aload_n hx hb dX6_begins_59 rfl (lv_at hl 0 rfl) ?_
        refine lv_iconst (v := -1) hx hb dX6_begins_60 (by decide) ?_
        refine Mp_17 C h dX6_begins_61 (fun σ61 H locs eσ61 h => ?_)
        have hNEW : (∀ j : Int32, ga σ61 0 j = ga σ 0 j) ∧ (BFr σ σ61) ∧ (0 ≤ (gi σ61 11).toInt ∧ (gi σ61 11).toInt ≤ 900) := ⟨(by rw [eσ61] <;> exact hA0), (by rw [eσ61]; exact (Fr_si (by decide) hFB)), (by rw [eσ61] <;> exact hsz)⟩
        clear hA0 hFB hsz
        obtain ⟨hA0, hFB, hsz⟩ := hNEW
        refine lv_aload_n hx hb dX6_begins_64 rfl (lv_at hl 0 rfl) ?_
        refine lv_iconst (v := 0) hx hb dX6_begins_65 (by decide) ?_
        refine Mp_14 C h dX6_begins_66 (fun σ66 H locs eσ66 h => ?_)
        have hNEW : (∀ j : Int32, ga σ66 0 j = ga σ 0 j) ∧ (BFr σ σ66) ∧ (0 ≤ (gi σ66 11).toInt ∧ (gi σ66 11).toInt ≤ 900) := ⟨(by rw [eσ66] <;> exact hA0), (by rw [eσ66]; exact (Fr_si (by decide) hFB)), (by rw [eσ66] <;> exact hsz)⟩
        clear hA0 hFB hsz
        obtain ⟨hA0, hFB, hsz⟩ := hNEW
        have hen : 0 ≤ (gi σ66 14).toInt ∧ (gi σ66 14).toInt ≤ (gi σ66 11).toInt := (by have q : (gi σ66 14).toInt = 0 ∧ (gi σ66 11).toInt = (gi σ61 11).toInt := by { rw [eσ66]; exact ⟨rfl, rfl⟩ }; omega)
        refine lv_aload_n hx hb dX6_begins_69 rfl (lv_at hl 0 rfl) ?_
        refine lv_iconst (v := 0) hx hb dX6_begins_70 (by decide) ?_
        refine Mp_19 C h dX6_begins_71 (fun σ71 H locs eσ71 h => ?_)
        have hNEW : (∀ j : Int32, ga σ71 0 j = ga σ 0 j) ∧ (BFr σ σ71) ∧ (0 ≤ (gi σ71 11).toInt ∧ (gi σ71 11).toInt ≤ 900) ∧ (0 ≤ (gi σ71 14).toInt ∧ (gi σ71 14).toInt ≤ (gi σ71 11).toInt) := ⟨(by rw [eσ71] <;> exact hA0), (by rw [eσ71]; exact (Fr_si (by decide) hFB)), (by rw [eσ71] <;> exact hsz), (by rw [eσ71] <;> exact hen)⟩
        clear hA0 hFB hsz
        obtain ⟨hA0, hFB, hsz, hen⟩ := hNEW
        refine lv_aload_n hx hb dX6_begins_74 rfl (lv_at hl 0 rfl) ?_
        refine M_callv (As := []) (rest := []) 0 C h (k_X6_ahead l g σ71 (by first | assumption | omega) (by first | assumption | omega)) (lw_V q1707 q1709 qs69 q152 q1710) rfl rfl (by decide +kernel) ⟨Nat.le_of_ble_eq_true rfl, Nat.le_of_ble_eq_true rfl⟩ rfl hl.1 rfl (Nat.le_of_ble_eq_true rfl) ⟨Nat.le_of_ble_eq_true rfl, Nat.le_of_ble_eq_true rfl⟩ dX6_begins_75 (fun σ75 H locs eσ75 hE75 h => ?_)
        have hE75 : (∀ j : Int32, ga σ75 0 j = ga σ71 0 j) ∧ ((gi σ75 11).toInt = (gi σ71 11).toInt) ∧ (PFr σ71 σ75) ∧ (0 ≤ (gi σ75 11).toInt ∧ (gi σ75 11).toInt ≤ 900) ∧ (0 ≤ (gi σ75 14).toInt ∧ (gi σ75 14).toInt ≤ (gi σ75 11).toInt) ∧ (0 ≤ (gi σ75 13).toInt ∧ (gi σ75 13).toInt ≤ (gi σ75 14).toInt) ∧ (Hd (¬ (gi σ75 12).toInt = 0 → (gi σ75 13).toInt < (gi σ75 14).toInt)) ∧ ((gi σ71 14).toInt ≤ (gi σ75 13).toInt) := hE75
        obtain ⟨hA0_75, hsm_75, hFR_75, hsz_75, hen_75, hfr_75, htk_75, hmf_75⟩ := hE75
        have hNEW : (∀ j : Int32, ga σ75 0 j = ga σ 0 j) ∧ (BFr σ σ75) ∧ (0 ≤ (gi σ75 11).toInt ∧ (gi σ75 11).toInt ≤ 900) ∧ (0 ≤ (gi σ75 14).toInt ∧ (gi σ75 14).toInt ≤ (gi σ75 11).toInt) := ⟨(fun j => (hA0_75 j).trans (hA0 j)), (Fr.tr2 hFB hFR_75 (by decide) (by decide) (fun _ q => q) (fun _ q => q)), (by first | assumption | omega), (by first | assumption | omega)⟩
        clear hA0 hFB hsz hen
        obtain ⟨hA0, hFB, hsz, hen⟩ := hNEW
        clear hsz_75 hen_75
        refine lv_iconst (v := 1) hx hb dX6_begins_78 (by decide) ?_
        have he : f_X6_begins σ p1 p2 = (σ75, (1 : Int32)) := (by have eσ21 := eσ21.symm; subst eσ21; have ex3_26e := ex3_26e.symm; subst ex3_26e; have eσL26e := eσL26e.symm; subst eσL26e; have eσ51 := eσ51.symm; subst eσ51; have eσ56 := eσ56.symm; subst eσ56; have eσ61 := eσ61.symm; subst eσ61; have eσ66 := eσ66.symm; subst eσ66; have eσ71 := eσ71.symm; subst eσ71; have eσ75 := eσ75.symm; subst eσ75; exact ((if_neg c1).trans ((if_neg c9).trans ((if_pos c14).trans rfl))))
        exact M_retz C h hr hlocks (congrArg Prod.fst he) (congrArg Prod.snd he) (Or.inr rfl) ⟨hA0, hFB, (by first | exact (fun q => absurd zl0 q) | exact (fun _ => ⟨hsz, hen, hfr_75, htk_75⟩))⟩ dX6_begins_79
      · have i14 := c_nle c14
        refine lv_iconst (v := 0) hx hb dX6_begins_17 (by decide) ?_
        have he : f_X6_begins σ p1 p2 = (σ, (0 : Int32)) := (by exact ((if_neg c1).trans ((if_neg c9).trans ((if_neg c14).trans rfl))))
        exact M_retz C h hr hlocks (congrArg Prod.fst he) (congrArg Prod.snd he) (Or.inl rfl) ⟨hA0, hFB, (by first | exact (fun q => absurd zl0 q) | exact (fun _ => ⟨hsz, hen, hfr_75, htk_75⟩))⟩ dX6_begins_18
def f_X6_nameHere_L7 (σ : MS) : Nat → Int64 → Int32 → Int64 × Int32
  | 0, x1_7, x3_7 => (x1_7, x3_7)
  | n + 1, x1_7, x3_7 => if (gi σ 14) ≤ x3_7 then ((x1_7, x3_7)) else ((let r21 := (f_X6_byteAt σ x3_7); let v26 := ((x1_7 <<< ((8 : Int32).toInt64 &&& (63 : Int64))) ||| r21.toInt64); f_X6_nameHere_L7 σ n v26 (x3_7 + (1 : Int32))))
def f_X6_nameHere (σ : MS) : Int64 := (let v6 := (gi σ 13); (let zL7 := f_X6_nameHere_L7 σ (901) (0 : Int64) v6; let x1_7e := zL7.1; let x3_7e := zL7.2; x1_7e))
set_option maxHeartbeats 4000000 in
set_option maxRecDepth 100000 in
theorem k_X6_nameHere (l : Launch) (g : GE) (σ : MS) (hsz : 0 ≤ (gi σ 11).toInt ∧ (gi σ 11).toInt ≤ 900) (hen : 0 ≤ (gi σ 14).toInt ∧ (gi σ 14).toInt ≤ (gi σ 11).toInt) (hfr : 0 ≤ (gi σ 13).toInt ∧ (gi σ 13).toInt ≤ (gi σ 14).toInt) (htk : Hd (¬ (gi σ 12).toInt = 0 → (gi σ 13).toInt < (gi σ 14).toInt)) : Met l yX6_nameHere (ws_ yX6_nameHere cX6_nameHere 4 (some .long)) ({ frames := 1, cells := 0, slots := 0, locals := 21 } : Room) (mPc g σ []) (mQl g σ (f_X6_nameHere σ) (fun u r => True)) 0 0 (mA g) := by
  refine met_M (by decide) rfl (Nat.le_of_ble_eq_true rfl) ?_
  intro p e s m args below meth c C hr hlocks h ls hl
  have hx := C.1.1
  have hb := C.1.2.1
  have hml := C.1.2.2.1
  have hown := C.1.2.2.2.1
  have hts := C.1.2.2.2.2
  have hl : lv_has ls 4 [(0, .ref (g.2.1 99))] := hl
  have zl1 : (1 : Int32).toInt = 1 := rfl
  have zl8 : (8 : Int32).toInt = 8 := rfl
  refine lv_lconst (v := 0) hx hb dX6_nameHere_0 (by decide) ?_
  refine lv_lstore_n (lv' := [(1, .long (0 : Int64)), (0, .ref (g.2.1 99))]) hx hb dX6_nameHere_1 rfl hl (by decide) rfl (fun ls hl => ?_)
  refine lv_aload_n hx hb dX6_nameHere_2 rfl (lv_at hl 1 rfl) ?_
  refine Mg_13 C h dX6_nameHere_3 ?_
  refine lv_topi (fun v6 ev6 => ?_)
  refine lv_istore_n (lv' := [(3, .int v6), (1, .long (0 : Int64)), (0, .ref (g.2.1 99))]) hx hb dX6_nameHere_6 rfl hl (by decide) rfl (fun ls hl => ?_)
  have w6 : v6.toInt = (gi σ 13).toInt := by rw [ev6]
  have hL7 : ∀ (n : Nat) (x1_7 : Int64) (x3_7 : Int32) (H : Heap) (locs : List Loc) (ls : Array Slot), (0 ≤ x3_7.toInt ∧ x3_7.toInt ≤ (gi σ 14).toInt) → ((gi σ 14).toInt - x3_7.toInt).toNat < n → MH g σ s H locs → lv_has ls 4 [(0, .ref (g.2.1 99)), (1, .long x1_7), (3, .int x3_7)] → (∀ (x1_7' : Int64) (x3_7' : Int32) (H : Heap) (locs : List Loc) (ls : Array Slot), f_X6_nameHere_L7 σ n x1_7 x3_7 = (x1_7', x3_7') → (0 ≤ x3_7'.toInt ∧ x3_7'.toInt ≤ (gi σ 14).toInt) → MH g σ s H locs → lv_has ls 4 [(1, .long x1_7')] → W p l e ({ frames := 1, cells := 0, slots := 0, locals := 21 } : Room) s m args below meth c H locs 0 0 (MQ below (mQl g σ (f_X6_nameHere σ) (fun u r => True)) args s 0 0 (mA g)) (F0 m 33 ls [])) → W p l e ({ frames := 1, cells := 0, slots := 0, locals := 21 } : Room) s m args below meth c H locs 0 0 (MQ below (mQl g σ (f_X6_nameHere σ) (fun u r => True)) args s 0 0 (mA g)) (F0 m 7 ls []) := by
    intro n
    induction n with
    | zero =>
      intro x1_7 x3_7 H locs ls _ hm; exact absurd hm (Nat.not_lt_zero _)
    | succ n ih =>
      intro x1_7 x3_7 H locs ls hI7 hm h hl kk
      refine lv_iload_n hx hb dX6_nameHere_7 rfl (lv_at hl 2 rfl) ?_
      refine lv_aload_n hx hb dX6_nameHere_8 rfl (lv_at hl 0 rfl) ?_
      refine Mg_14 C h dX6_nameHere_9 ?_
      refine lv_icmp_ge (tgt := 33) hx hb dX6_nameHere_12 (by decide) (fun c12 => ?_) (fun c12 => ?_)
      · have i12 := c_le c12
        exact kk x1_7 x3_7 _ _ _ (show f_X6_nameHere_L7 σ (n + 1) x1_7 x3_7 = (x1_7, x3_7) from (by exact ((if_pos c12).trans rfl)))  (by first | assumption | omega) h (lv_sub hl [1] rfl)
      · have i12 := c_nle c12
        refine lv_lload_n hx hb dX6_nameHere_15 rfl (lv_at hl 1 rfl) ?_
        refine lv_bipush (v := 8) hx hb dX6_nameHere_16 (by decide) ?_
        refine lv_lshl (v := (x1_7 <<< ((8 : Int32).toInt64 &&& (63 : Int64)))) hx hb dX6_nameHere_18 rfl ?_
        refine lv_aload_n hx hb dX6_nameHere_19 rfl (lv_at hl 0 rfl) ?_
        refine lv_iload_n hx hb dX6_nameHere_20 rfl (lv_at hl 2 rfl) ?_
        refine M_calli (As := [.int x3_7]) (rest := [.long (x1_7 <<< ((8 : Int32).toInt64 &&& (63 : Int64)))]) 1 C h (k_X6_byteAt l g σ x3_7 (by first | assumption | omega) (by first | assumption | omega)) (lw_V q1711 q1713 qs70 q152 q1714) rfl rfl (by decide +kernel) ⟨Nat.le_of_ble_eq_true rfl, Nat.le_of_ble_eq_true rfl⟩ rfl hl.1 rfl (Nat.le_of_ble_eq_true rfl) ⟨Nat.le_of_ble_eq_true rfl, Nat.le_of_ble_eq_true rfl⟩ dX6_nameHere_21 (fun r21 σ21 H locs eσ21 er21 hE21 h => ?_)
        rw [eσ21] at h
        rw [eσ21] at hE21
        have hE21 : ((¬ r21.toInt = -1 → x3_7.toInt < (gi σ 11).toInt) ∧ -1 ≤ r21.toInt ∧ r21.toInt ≤ 255) := hE21
        have bk_21 := hE21
        clear eσ21
        refine lv_i2l (v := r21.toInt64) hx hb dX6_nameHere_24 rfl ?_
        refine lv_lor hx hb dX6_nameHere_25 ?_
        refine lv_topl (fun v26 ev26 => ?_)
        refine lv_lstore_n (lv' := [(1, .long v26), (0, .ref (g.2.1 99)), (3, .int x3_7)]) hx hb dX6_nameHere_26 rfl hl (by decide) rfl (fun ls hl => ?_)
        refine lv_iinc (v := (x3_7 + (1 : Int32))) (lv' := [(3, .int (x3_7 + (1 : Int32))), (1, .long v26), (0, .ref (g.2.1 99))]) hx hb dX6_nameHere_27 hl (k := 2) rfl rfl (by decide) rfl (fun ls hl => ?_)
        refine lv_goto (tgt := 7) hx hb dX6_nameHere_30 (by decide) ?_
        have tt3 : (x3_7 + (1 : Int32)).toInt = (x3_7.toInt + (1)) := (i_add (rfl : x3_7.toInt = x3_7.toInt) zl1 (by omega))
        exact ih v26 (x3_7 + (1 : Int32)) _ _ _  (by first | assumption | omega) (by omega) h (lv_sub hl [2, 1, 0] rfl) (fun x1_7' x3_7' H locs ls en hI h hl => kk x1_7' x3_7' H locs ls ((show f_X6_nameHere_L7 σ (n + 1) x1_7 x3_7 = f_X6_nameHere_L7 σ n v26 (x3_7 + (1 : Int32)) from (by have er21 := er21.symm; subst er21; have ev26 := ev26.symm; subst ev26; exact ((if_neg c12).trans rfl))).trans en) hI h hl)
  refine hL7 (901) (0 : Int64) v6 _ _ _  (by first | assumption | omega) (by omega) h (lv_sub hl [2, 1, 0] rfl) (fun x1_7e x3_7e H locs ls eL7 hI7 h hl => ?_)
  have ex1_7e : x1_7e = (f_X6_nameHere_L7 σ (901) (0 : Int64) v6).1 := by rw [eL7]
  have ex3_7e : x3_7e = (f_X6_nameHere_L7 σ (901) (0 : Int64) v6).2 := by rw [eL7]
  refine lv_lload_n hx hb dX6_nameHere_33 rfl (lv_at hl 0 rfl) ?_
  have he : f_X6_nameHere σ = x1_7e := (by have ev6 := ev6.symm; subst ev6; have ex1_7e := ex1_7e.symm; subst ex1_7e; have ex3_7e := ex3_7e.symm; subst ex3_7e; exact rfl)
  exact M_retl C h hr hlocks rfl he trivial dX6_nameHere_34
def f_X6_findHere_L2 (σ : MS) (y1_2 : Int32) (y2_2 : Int32) : Nat → Int32 → Int32
  | 0, x3_2 => 0
  | n + 1, x3_2 => if y2_2 ≤ x3_2 then ((-1 : Int32)) else ((let r16 := (f_X6_nameHere σ); if (lg_cmp (gb σ 1 (y1_2 + x3_2)) r16) = (0 : Int32) then (x3_2) else (f_X6_findHere_L2 σ y1_2 y2_2 n (x3_2 + (1 : Int32)))))
def f_X6_findHere (σ : MS) (p1 : Int32) (p2 : Int32) : Int32 := f_X6_findHere_L2 σ p1 p2 (7) (0 : Int32)
set_option maxHeartbeats 4000000 in
set_option maxRecDepth 100000 in
theorem k_X6_findHere (l : Launch) (g : GE) (σ : MS) (p1 : Int32) (p2 : Int32) (hsz : 0 ≤ (gi σ 11).toInt ∧ (gi σ 11).toInt ≤ 900) (hen : 0 ≤ (gi σ 14).toInt ∧ (gi σ 14).toInt ≤ (gi σ 11).toInt) (hfr : 0 ≤ (gi σ 13).toInt ∧ (gi σ 13).toInt ≤ (gi σ 14).toInt) (htk : Hd (¬ (gi σ 12).toInt = 0 → (gi σ 13).toInt < (gi σ 14).toInt)) (hb0 : 0 ≤ p1.toInt ∧ p1.toInt ≤ 24) (hb1 : p2.toInt ≤ 6) : Met l yX6_findHere (ws_ yX6_findHere cX6_findHere 4 (some .int)) ({ frames := 2, cells := 0, slots := 0, locals := 44 } : Room) (mPc g σ [.int p1, .int p2]) (mQi g σ (f_X6_findHere σ p1 p2) (fun u r => (-1 ≤ r.toInt ∧ (r.toInt < p2.toInt ∨ r.toInt = -1)))) 0 0 (mA g) := by
  refine met_M (by decide) rfl (Nat.le_of_ble_eq_true rfl) ?_
  intro p e s m args below meth c C hr hlocks h ls hl
  have hx := C.1.1
  have hb := C.1.2.1
  have hml := C.1.2.2.1
  have hown := C.1.2.2.2.1
  have hts := C.1.2.2.2.2
  have hl : lv_has ls 4 [(0, .ref (g.2.1 99)), (1, .int p1), (2, .int p2)] := hl
  have zlm1 : (-1 : Int32).toInt = -1 := rfl
  have zl0 : (0 : Int32).toInt = 0 := rfl
  have zl1 : (1 : Int32).toInt = 1 := rfl
  refine lv_iconst (v := 0) hx hb dX6_findHere_0 (by decide) ?_
  refine lv_istore_n (lv' := [(3, .int (0 : Int32)), (0, .ref (g.2.1 99)), (1, .int p1), (2, .int p2)]) hx hb dX6_findHere_1 rfl hl (by decide) rfl (fun ls hl => ?_)
  have hL2 : ∀ (n : Nat) (x3_2 : Int32) (H : Heap) (locs : List Loc) (ls : Array Slot), (0 ≤ x3_2.toInt ∧ x3_2.toInt ≤ 6) → (6 - x3_2.toInt).toNat < n → f_X6_findHere σ p1 p2 = f_X6_findHere_L2 σ p1 p2 n x3_2 → MH g σ s H locs → lv_has ls 4 [(0, .ref (g.2.1 99)), (1, .int p1), (2, .int p2), (3, .int x3_2)] → W p l e ({ frames := 2, cells := 0, slots := 0, locals := 44 } : Room) s m args below meth c H locs 0 0 (MQ below (mQi g σ (f_X6_findHere σ p1 p2) (fun u r => (-1 ≤ r.toInt ∧ (r.toInt < p2.toInt ∨ r.toInt = -1)))) args s 0 0 (mA g)) (F0 m 2 ls []) := by
    intro n
    induction n with
    | zero =>
      intro x3_2 H locs ls _ hm; exact absurd hm (Nat.not_lt_zero _)
    | succ n ih =>
      intro x3_2 H locs ls hI2 hm hf2 h hl
      refine lv_iload_n hx hb dX6_findHere_2 rfl (lv_at hl 3 rfl) ?_
      refine lv_iload_n hx hb dX6_findHere_3 rfl (lv_at hl 2 rfl) ?_
      refine lv_icmp_ge (tgt := 31) hx hb dX6_findHere_4 (by decide) (fun c4 => ?_) (fun c4 => ?_)
      · have i4 := c_le c4
        refine lv_iconst (v := -1) hx hb dX6_findHere_31 (by decide) ?_
        have he : f_X6_findHere σ p1 p2 = (-1 : Int32) := (by exact (hf2.trans ((if_pos c4).trans rfl)))
        exact M_reti C h hr hlocks rfl he (by first | assumption | omega | (unfold Hd; omega)) dX6_findHere_32
      · have i4 := c_nle c4
        refine lv_aload_n hx hb dX6_findHere_7 rfl (lv_at hl 0 rfl) ?_
        refine Mg_1 C h dX6_findHere_8 ?_
        refine lv_iload_n hx hb dX6_findHere_11 rfl (lv_at hl 1 rfl) ?_
        refine lv_iload_n hx hb dX6_findHere_12 rfl (lv_at hl 3 rfl) ?_
        refine lv_iadd hx hb dX6_findHere_13 ?_
        refine Ml_1 C h (ix_of (i_add (rfl : p1.toInt = p1.toInt) (rfl : x3_2.toInt = x3_2.toInt) (by omega)) (by omega)) dX6_findHere_14 ?_
        refine lv_aload_n hx hb dX6_findHere_15 rfl (lv_at hl 0 rfl) ?_
        refine M_calll (As := []) (rest := [.long (gb σ 1 (p1 + x3_2))]) 0 C h (k_X6_nameHere l g σ (by first | assumption | omega) (by first | assumption | omega) (by first | assumption | omega) (by first | assumption | omega)) (lw_V q1754 q1756 qs78 q152 q1757) rfl rfl (by decide +kernel) ⟨Nat.le_of_ble_eq_true rfl, Nat.le_of_ble_eq_true rfl⟩ rfl hl.1 rfl (Nat.le_of_ble_eq_true rfl) ⟨Nat.le_of_ble_eq_true rfl, Nat.le_of_ble_eq_true rfl⟩ dX6_findHere_16 (fun r16 σ16 H locs eσ16 er16 hE16 h => ?_)
        rw [eσ16] at h
        clear hE16
        clear eσ16
        refine W.lcmp hx hb dX6_findHere_19 ?_
        refine lv_if_ne (tgt := 25) hx hb dX6_findHere_20 (by decide) (fun c20 => ?_) (fun c20 => ?_)
        · have i20 := c_ne c20
          refine lv_iinc (v := (x3_2 + (1 : Int32))) (lv' := [(3, .int (x3_2 + (1 : Int32))), (0, .ref (g.2.1 99)), (1, .int p1), (2, .int p2)]) hx hb dX6_findHere_25 hl (k := 3) rfl rfl (by decide) rfl (fun ls hl => ?_)
          refine lv_goto (tgt := 2) hx hb dX6_findHere_28 (by decide) ?_
          have tt3 : (x3_2 + (1 : Int32)).toInt = (x3_2.toInt + (1)) := (i_add (rfl : x3_2.toInt = x3_2.toInt) zl1 (by omega))
          exact ih (x3_2 + (1 : Int32)) _ _ _  (by first | assumption | omega) (by omega) (by have er16 := er16.symm; subst er16; exact (hf2.trans ((if_neg c4).trans ((if_neg c20).trans rfl)))) h (lv_sub hl [1, 2, 3, 0] rfl)
        · have i20 := c_eq c20
          refine lv_iload_n hx hb dX6_findHere_23 rfl (lv_at hl 3 rfl) ?_
          have he : f_X6_findHere σ p1 p2 = x3_2 := (by have er16 := er16.symm; subst er16; exact (hf2.trans ((if_neg c4).trans ((if_pos c20).trans rfl))))
          exact M_reti C h hr hlocks rfl he (by first | assumption | omega | (unfold Hd; omega)) dX6_findHere_24
  exact hL2 (7) (0 : Int32) _ _ _  (by first | assumption | omega) (by omega) (by exact rfl) h (lv_sub hl [1, 2, 3, 0] rfl)
def f_X6_wantSign (σ : MS) (p1 : Int32) : MS × Int32 := (let r2 := (f_X6_isSign σ p1); if r2 = (0 : Int32) then ((let z10 := (f_X6_fails σ (2 : Int32)); let σ10 := z10.1; let r10 := z10.2; (σ10, r10))) else ((let σ15 := (f_X6_ahead σ); (σ15, (1 : Int32)))))
set_option maxHeartbeats 4000000 in
set_option maxRecDepth 100000 in
theorem k_X6_wantSign (l : Launch) (g : GE) (σ : MS) (p1 : Int32) (hsz : 0 ≤ (gi σ 11).toInt ∧ (gi σ 11).toInt ≤ 900) (hen : 0 ≤ (gi σ 14).toInt ∧ (gi σ 14).toInt ≤ (gi σ 11).toInt) (hfr : 0 ≤ (gi σ 13).toInt ∧ (gi σ 13).toInt ≤ (gi σ 14).toInt) (htk : Hd (¬ (gi σ 12).toInt = 0 → (gi σ 13).toInt < (gi σ 14).toInt)) : Met l yX6_wantSign (ws_ yX6_wantSign cX6_wantSign 2 (some .boolean)) ({ frames := 2, cells := 0, slots := 0, locals := 44 } : Room) (mPc g σ [.int p1]) (mQz g (f_X6_wantSign σ p1).1 (f_X6_wantSign σ p1).2 (fun u r => (∀ j : Int32, ga u 0 j = ga σ 0 j) ∧ ((gi u 11).toInt = (gi σ 11).toInt) ∧ ((gi σ 13).toInt ≤ (gi u 13).toInt) ∧ (PFr σ u) ∧ (0 ≤ (gi u 11).toInt ∧ (gi u 11).toInt ≤ 900) ∧ (0 ≤ (gi u 14).toInt ∧ (gi u 14).toInt ≤ (gi u 11).toInt) ∧ (0 ≤ (gi u 13).toInt ∧ (gi u 13).toInt ≤ (gi u 14).toInt) ∧ (Hd (¬ (gi u 12).toInt = 0 → (gi u 13).toInt < (gi u 14).toInt)) ∧ (Hd (¬ r.toInt = 0 → (gi σ 13).toInt < (gi u 13).toInt)))) 0 0 (mA g) := by
  refine met_M (by decide) rfl (Nat.le_of_ble_eq_true rfl) ?_
  intro p e s m args below meth c C hr hlocks h ls hl
  have hx := C.1.1
  have hb := C.1.2.1
  have hml := C.1.2.2.1
  have hown := C.1.2.2.2.1
  have hts := C.1.2.2.2.2
  have hl : lv_has ls 2 [(0, .ref (g.2.1 99)), (1, .int p1)] := hl
  have hA0 : ∀ j : Int32, ga σ 0 j = ga σ 0 j := fun _ => rfl
  have hsm : (gi σ 11).toInt = (gi σ 11).toInt := rfl
  have hmo : (gi σ 13).toInt ≤ (gi σ 13).toInt := Int.le_refl _
  have hFR : PFr σ σ := Fr.rf
  have zl0 : (0 : Int32).toInt = 0 := rfl
  have zl1 : (1 : Int32).toInt = 1 := rfl
  have zl2 : (2 : Int32).toInt = 2 := rfl
  refine lv_aload_n hx hb dX6_wantSign_0 rfl (lv_at hl 0 rfl) ?_
  refine lv_iload_n hx hb dX6_wantSign_1 rfl (lv_at hl 1 rfl) ?_
  refine M_callz (As := [.int p1]) (rest := []) 1 C h (k_X6_isSign l g σ p1) (lw_V q1798 q1800 qs89 q152 q1801) rfl rfl (by decide +kernel) ⟨Nat.le_of_ble_eq_true rfl, Nat.le_of_ble_eq_true rfl⟩ rfl hl.1 rfl (Nat.le_of_ble_eq_true rfl) ⟨Nat.le_of_ble_eq_true rfl, Nat.le_of_ble_eq_true rfl⟩ dX6_wantSign_2 (fun r2 σ2 H locs eσ2 er2 br2 hE2 h => ?_)
  rw [eσ2] at h
  clear hE2
  clear eσ2
  refine lv_if_ne (tgt := 14) hx hb dX6_wantSign_5 (by decide) (fun c5 => ?_) (fun c5 => ?_)
  · have i5 := c_ne c5
    have okr2 := isSign_ok er2 c5
    have hlt0 := htk (by omega)
    refine lv_aload_n hx hb dX6_wantSign_14 rfl (lv_at hl 0 rfl) ?_
    refine M_callv (As := []) (rest := []) 0 C h (k_X6_ahead l g σ (by first | assumption | omega) (by first | assumption | omega)) (lw_V q1707 q1709 qs69 q152 q1710) rfl rfl (by decide +kernel) ⟨Nat.le_of_ble_eq_true rfl, Nat.le_of_ble_eq_true rfl⟩ rfl hl.1 rfl (Nat.le_of_ble_eq_true rfl) ⟨Nat.le_of_ble_eq_true rfl, Nat.le_of_ble_eq_true rfl⟩ dX6_wantSign_15 (fun σ15 H locs eσ15 hE15 h => ?_)
    have hE15 : (∀ j : Int32, ga σ15 0 j = ga σ 0 j) ∧ ((gi σ15 11).toInt = (gi σ 11).toInt) ∧ (PFr σ σ15) ∧ (0 ≤ (gi σ15 11).toInt ∧ (gi σ15 11).toInt ≤ 900) ∧ (0 ≤ (gi σ15 14).toInt ∧ (gi σ15 14).toInt ≤ (gi σ15 11).toInt) ∧ (0 ≤ (gi σ15 13).toInt ∧ (gi σ15 13).toInt ≤ (gi σ15 14).toInt) ∧ (Hd (¬ (gi σ15 12).toInt = 0 → (gi σ15 13).toInt < (gi σ15 14).toInt)) ∧ ((gi σ 14).toInt ≤ (gi σ15 13).toInt) := hE15
    obtain ⟨hA0_15, hsm_15, hFR_15, hsz_15, hen_15, hfr_15, htk_15, hmf_15⟩ := hE15
    have hNEW : (0 ≤ (gi σ15 11).toInt ∧ (gi σ15 11).toInt ≤ 900) ∧ (0 ≤ (gi σ15 14).toInt ∧ (gi σ15 14).toInt ≤ (gi σ15 11).toInt) ∧ (0 ≤ (gi σ15 13).toInt ∧ (gi σ15 13).toInt ≤ (gi σ15 14).toInt) ∧ (Hd (¬ (gi σ15 12).toInt = 0 → (gi σ15 13).toInt < (gi σ15 14).toInt)) ∧ (∀ j : Int32, ga σ15 0 j = ga σ 0 j) ∧ ((gi σ15 11).toInt = (gi σ 11).toInt) ∧ ((gi σ 13).toInt ≤ (gi σ15 13).toInt) ∧ (PFr σ σ15) := ⟨(by first | assumption | omega), (by first | assumption | omega), (by first | assumption | omega), (by first | assumption | omega), (fun j => (hA0_15 j).trans (hA0 j)), (by first | assumption | omega), (by first | assumption | omega), (Fr.tr hFR hFR_15)⟩
    obtain ⟨hsz, hen, hfr, htk, hA0, hsm, hmo, hFR⟩ := hNEW
    clear hsm_15 hsz_15 hen_15 hfr_15 htk_15
    refine lv_iconst (v := 1) hx hb dX6_wantSign_18 (by decide) ?_
    have he : f_X6_wantSign σ p1 = (σ15, (1 : Int32)) := (by have er2 := er2.symm; subst er2; have eσ15 := eσ15.symm; subst eσ15; exact ((if_neg c5).trans rfl))
    exact M_retz C h hr hlocks (congrArg Prod.fst he) (congrArg Prod.snd he) (Or.inr rfl) ⟨hA0, hsm, hmo, hFR, (by first | assumption | omega | (unfold Hd; omega)), (by first | assumption | omega | (unfold Hd; omega)), (by first | assumption | omega | (unfold Hd; omega)), (by first | assumption | omega | (unfold Hd; omega)), (by first | assumption | omega | (unfold Hd; omega))⟩ dX6_wantSign_19
  · have i5 := c_eq c5
    refine lv_aload_n hx hb dX6_wantSign_8 rfl (lv_at hl 0 rfl) ?_
    refine lv_iconst (v := 2) hx hb dX6_wantSign_9 (by decide) ?_
    refine M_callz (As := [.int (2 : Int32)]) (rest := []) 1 C h (k_X6_fails l g σ (2 : Int32) (by first | assumption | omega) (by first | assumption | omega) (by first | assumption | omega) (by first | assumption | omega)) (lw_V q1742 q1744 qs75 q152 q1745) rfl rfl (by decide +kernel) ⟨Nat.le_of_ble_eq_true rfl, Nat.le_of_ble_eq_true rfl⟩ rfl hl.1 rfl (Nat.le_of_ble_eq_true rfl) ⟨Nat.le_of_ble_eq_true rfl, Nat.le_of_ble_eq_true rfl⟩ dX6_wantSign_10 (fun r10 σ10 H locs eσ10 er10 br10 hE10 h => ?_)
    have hE10 : (∀ j : Int32, ga σ10 0 j = ga σ 0 j) ∧ ((gi σ10 11).toInt = (gi σ 11).toInt) ∧ ((gi σ 13).toInt ≤ (gi σ10 13).toInt) ∧ (PFr σ σ10) ∧ (0 ≤ (gi σ10 11).toInt ∧ (gi σ10 11).toInt ≤ 900) ∧ (0 ≤ (gi σ10 14).toInt ∧ (gi σ10 14).toInt ≤ (gi σ10 11).toInt) ∧ (0 ≤ (gi σ10 13).toInt ∧ (gi σ10 13).toInt ≤ (gi σ10 14).toInt) ∧ (Hd (¬ (gi σ10 12).toInt = 0 → (gi σ10 13).toInt < (gi σ10 14).toInt)) ∧ (r10.toInt = 0) := hE10
    obtain ⟨hA0_10, hsm_10, hmo_10, hFR_10, hsz_10, hen_10, hfr_10, htk_10, fz_10⟩ := hE10
    have hNEW : (0 ≤ (gi σ10 11).toInt ∧ (gi σ10 11).toInt ≤ 900) ∧ (0 ≤ (gi σ10 14).toInt ∧ (gi σ10 14).toInt ≤ (gi σ10 11).toInt) ∧ (0 ≤ (gi σ10 13).toInt ∧ (gi σ10 13).toInt ≤ (gi σ10 14).toInt) ∧ (Hd (¬ (gi σ10 12).toInt = 0 → (gi σ10 13).toInt < (gi σ10 14).toInt)) ∧ (∀ j : Int32, ga σ10 0 j = ga σ 0 j) ∧ ((gi σ10 11).toInt = (gi σ 11).toInt) ∧ ((gi σ 13).toInt ≤ (gi σ10 13).toInt) ∧ (PFr σ σ10) := ⟨(by first | assumption | omega), (by first | assumption | omega), (by first | assumption | omega), (by first | assumption | omega), (fun j => (hA0_10 j).trans (hA0 j)), (by first | assumption | omega), (by first | assumption | omega), (Fr.tr hFR hFR_10)⟩
    obtain ⟨hsz, hen, hfr, htk, hA0, hsm, hmo, hFR⟩ := hNEW
    clear hsm_10 hmo_10 hsz_10 hen_10 hfr_10 htk_10
    have he : f_X6_wantSign σ p1 = (σ10, r10) := (by have er2 := er2.symm; subst er2; have eσ10 := eσ10.symm; subst eσ10; have er10 := er10.symm; subst er10; exact ((if_pos c5).trans rfl))
    exact M_retz C h hr hlocks (congrArg Prod.fst he) (congrArg Prod.snd he) br10 ⟨hA0, hsm, hmo, hFR, (by first | assumption | omega | (unfold Hd; omega)), (by first | assumption | omega | (unfold Hd; omega)), (by first | assumption | omega | (unfold Hd; omega)), (by first | assumption | omega | (unfold Hd; omega)), (by first | assumption | omega | (unfold Hd; omega))⟩ dX6_wantSign_13
theorem keys_last {x : Int32} (h : x.toInt = 160) : kc keysB x = 32 := by
  have e : x = 160 := Int32.toInt_inj.mp h
  rw [e]; decide +kernel
def f_X6_inWords_L25 (σ : MS) (y2_25 : Int32) (y3_25 : Int32) : Nat → Int32 → Int32
  | 0, x4_25 => x4_25
  | n + 1, x4_25 => if (kc keysB x4_25) = (32 : Int32) then (x4_25) else (f_X6_inWords_L25 σ y2_25 y3_25 n (x4_25 + (1 : Int32)))
def f_X6_inWords_L68 (σ : MS) (y2_68 : Int32) (y3_68 : Int32) (y4_68 : Int32) : Nat → Int32 → Int32 → Int32 × Int32
  | 0, x5_68, x6_68 => (x5_68, x6_68)
  | n + 1, x5_68, x6_68 => if y4_68 ≤ x6_68 then ((x5_68, x6_68)) else (if x5_68 = (0 : Int32) then ((x5_68, x6_68)) else ((let r96 := (f_X6_byteAt σ (((gi σ 13) + x6_68) - y3_68)); (let z107_ : Int32 := (if (kc keysB x6_68) = r96 then ((1 : Int32)) else ((0 : Int32))); let t0_107 := z107_; f_X6_inWords_L68 σ y2_68 y3_68 y4_68 n t0_107 (x6_68 + (1 : Int32))))))
def f_X6_inWords_L14 (σ : MS) : Nat → Int32 → Int32 → Int32
  | 0, x2_14, x3_14 => 0
  | n + 1, x2_14, x3_14 => if (161 : Int32) ≤ x3_14 then ((-1 : Int32)) else ((let zL25 := f_X6_inWords_L25 σ x2_14 x3_14 (162) x3_14; let x4_25e := zL25; (let z63_ : Int32 := (if (x4_25e - x3_14) = ((gi σ 14) - (gi σ 13)) then ((1 : Int32)) else ((0 : Int32))); let t0_63 := z63_; (let zL68 := f_X6_inWords_L68 σ x2_14 x3_14 x4_25e (162) t0_63 x3_14; let x5_68e := zL68.1; let x6_68e := zL68.2; if x5_68e = (0 : Int32) then ((let v129 := (x4_25e + (1 : Int32)); f_X6_inWords_L14 σ n (x2_14 + (1 : Int32)) v129)) else (x2_14)))))
def f_X6_inWords (σ : MS) : Int32 := if (gi σ 12) = (2 : Int32) then (f_X6_inWords_L14 σ (162) (0 : Int32) (1 : Int32)) else ((-1 : Int32))
set_option maxHeartbeats 4000000 in
set_option maxRecDepth 100000 in
theorem k_X6_inWords (l : Launch) (g : GE) (σ : MS) (hsz : 0 ≤ (gi σ 11).toInt ∧ (gi σ 11).toInt ≤ 900) (hen : 0 ≤ (gi σ 14).toInt ∧ (gi σ 14).toInt ≤ (gi σ 11).toInt) (hfr : 0 ≤ (gi σ 13).toInt ∧ (gi σ 13).toInt ≤ (gi σ 14).toInt) : Met l yX6_inWords (ws_ yX6_inWords cX6_inWords 7 (some .int)) ({ frames := 4, cells := 0, slots := 0, locals := 85 } : Room) (mPc g σ [.ref (g.2.1 97)]) (mQi g σ (f_X6_inWords σ) (fun u r => True)) 0 0 (mA g) := by
  refine met_M (by decide) rfl (Nat.le_of_ble_eq_true rfl) ?_
  intro p e s m args below meth c C hr hlocks h ls hl
  have hx := C.1.1
  have hb := C.1.2.1
  have hml := C.1.2.2.1
  have hown := C.1.2.2.2.1
  have hts := C.1.2.2.2.2
  have hl : lv_has ls 7 [(0, .ref (g.2.1 99)), (1, .ref (g.2.1 97))] := hl
  have zlm1 : (-1 : Int32).toInt = -1 := rfl
  have zl0 : (0 : Int32).toInt = 0 := rfl
  have zl1 : (1 : Int32).toInt = 1 := rfl
  have zl2 : (2 : Int32).toInt = 2 := rfl
  have zl32 : (32 : Int32).toInt = 32 := rfl
  have zl161 : (161 : Int32).toInt = 161 := rfl
  refine lv_aload_n hx hb dX6_inWords_0 rfl (lv_at hl 0 rfl) ?_
  refine Mg_12 C h dX6_inWords_1 ?_
  refine lv_iconst (v := 2) hx hb dX6_inWords_4 (by decide) ?_
  refine lv_icmp_eq (tgt := 10) hx hb dX6_inWords_5 (by decide) (fun c5 => ?_) (fun c5 => ?_)
  · have i5 := c_eq c5
    refine lv_iconst (v := 0) hx hb dX6_inWords_10 (by decide) ?_
    refine lv_istore_n (lv' := [(2, .int (0 : Int32)), (0, .ref (g.2.1 99)), (1, .ref (g.2.1 97))]) hx hb dX6_inWords_11 rfl hl (by decide) rfl (fun ls hl => ?_)
    refine lv_iconst (v := 1) hx hb dX6_inWords_12 (by decide) ?_
    refine lv_istore_n (lv' := [(3, .int (1 : Int32)), (2, .int (0 : Int32)), (0, .ref (g.2.1 99)), (1, .ref (g.2.1 97))]) hx hb dX6_inWords_13 rfl hl (by decide) rfl (fun ls hl => ?_)
    have hL14 : ∀ (n : Nat) (x2_14 : Int32) (x3_14 : Int32) (H : Heap) (locs : List Loc) (ls : Array Slot), (1 ≤ x3_14.toInt ∧ x3_14.toInt ≤ 161) → (162 - x3_14.toInt).toNat < n → f_X6_inWords σ = f_X6_inWords_L14 σ n x2_14 x3_14 → MH g σ s H locs → lv_has ls 7 [(0, .ref (g.2.1 99)), (1, .ref (g.2.1 97)), (2, .int x2_14), (3, .int x3_14)] → W p l e ({ frames := 4, cells := 0, slots := 0, locals := 85 } : Room) s m args below meth c H locs 0 0 (MQ below (mQi g σ (f_X6_inWords σ) (fun u r => True)) args s 0 0 (mA g)) (F0 m 14 ls []) := by
      intro n
      induction n with
      | zero =>
        intro x2_14 x3_14 H locs ls _ hm; exact absurd hm (Nat.not_lt_zero _)
      | succ n ih =>
        intro x2_14 x3_14 H locs ls hI14 hm hf14 h hl
        refine lv_iload_n hx hb dX6_inWords_14 rfl (lv_at hl 3 rfl) ?_
        refine lv_aload_n hx hb dX6_inWords_15 rfl (lv_at hl 1 rfl) ?_
        refine M_len2 (rest := [.int x3_14]) C h q1736 ⟨Nat.le_of_ble_eq_true rfl, Nat.le_of_ble_eq_true rfl⟩ hl.1 (Nat.le_of_ble_eq_true rfl) ⟨Nat.le_of_ble_eq_true rfl, Nat.le_of_ble_eq_true rfl⟩ dX6_inWords_16 (fun H locs h => ?_)
        refine lv_icmp_ge (tgt := 133) hx hb dX6_inWords_19 (by decide) (fun c19 => ?_) (fun c19 => ?_)
        · have i19 := c_le c19
          refine lv_iconst (v := -1) hx hb dX6_inWords_133 (by decide) ?_
          have he : f_X6_inWords σ = (-1 : Int32) := (by exact (hf14.trans ((if_pos c19).trans rfl)))
          exact M_reti C h hr hlocks rfl he trivial dX6_inWords_134
        · have i19 := c_nle c19
          refine lv_iload_n hx hb dX6_inWords_22 rfl (lv_at hl 3 rfl) ?_
          refine lv_istore (lv' := [(4, .int x3_14), (0, .ref (g.2.1 99)), (1, .ref (g.2.1 97)), (2, .int x2_14), (3, .int x3_14)]) hx hb dX6_inWords_23 hl (by decide) rfl (fun ls hl => ?_)
          have hL25 : ∀ (n : Nat) (x4_25 : Int32) (H : Heap) (locs : List Loc) (ls : Array Slot), (x3_14.toInt ≤ x4_25.toInt ∧ x4_25.toInt ≤ 160) → (161 - x4_25.toInt).toNat < n → MH g σ s H locs → lv_has ls 7 [(0, .ref (g.2.1 99)), (1, .ref (g.2.1 97)), (2, .int x2_14), (3, .int x3_14), (4, .int x4_25)] → (∀ (x4_25' : Int32) (H : Heap) (locs : List Loc) (ls : Array Slot), f_X6_inWords_L25 σ x2_14 x3_14 n x4_25 = x4_25' → (x3_14.toInt ≤ x4_25'.toInt ∧ x4_25'.toInt ≤ 160) → MH g σ s H locs → lv_has ls 7 [(0, .ref (g.2.1 99)), (1, .ref (g.2.1 97)), (2, .int x2_14), (3, .int x3_14), (4, .int x4_25')] → W p l e ({ frames := 4, cells := 0, slots := 0, locals := 85 } : Room) s m args below meth c H locs 0 0 (MQ below (mQi g σ (f_X6_inWords σ) (fun u r => True)) args s 0 0 (mA g)) (F0 m 42 ls [])) → W p l e ({ frames := 4, cells := 0, slots := 0, locals := 85 } : Room) s m args below meth c H locs 0 0 (MQ below (mQi g σ (f_X6_inWords σ) (fun u r => True)) args s 0 0 (mA g)) (F0 m 25 ls []) := by
            intro n
            induction n with
            | zero =>
              intro x4_25 H locs ls _ hm; exact absurd hm (Nat.not_lt_zero _)
            | succ n ih =>
              intro x4_25 H locs ls hI25 hm h hl kk
              refine lv_aload_n hx hb dX6_inWords_25 rfl (lv_at hl 1 rfl) ?_
              refine lv_iload hx hb dX6_inWords_26 (lv_at hl 4 rfl) ?_
              refine M_charAt (rest := []) C h q1737 (ix_of (rfl : x4_25.toInt = x4_25.toInt) (by omega)) ⟨Nat.le_of_ble_eq_true rfl, Nat.le_of_ble_eq_true rfl⟩ hl.1 (Nat.le_of_ble_eq_true rfl) ⟨Nat.le_of_ble_eq_true rfl, Nat.le_of_ble_eq_true rfl⟩ dX6_inWords_28 (fun H locs h => ?_)
              refine lv_bipush (v := 32) hx hb dX6_inWords_31 (by decide) ?_
              refine lv_icmp_eq (tgt := 42) hx hb dX6_inWords_33 (by decide) (fun c33 => ?_) (fun c33 => ?_)
              · have i33 := c_eq c33
                exact kk x4_25 _ _ _ (show f_X6_inWords_L25 σ x2_14 x3_14 (n + 1) x4_25 = x4_25 from (by exact ((if_pos c33).trans rfl)))  (by first | assumption | omega) h hl
              · have i33 := c_ne c33
                refine lv_iinc (v := (x4_25 + (1 : Int32))) (lv' := [(4, .int (x4_25 + (1 : Int32))), (0, .ref (g.2.1 99)), (1, .ref (g.2.1 97)), (2, .int x2_14), (3, .int x3_14)]) hx hb dX6_inWords_36 hl (k := 4) rfl rfl (by decide) rfl (fun ls hl => ?_)
                refine lv_goto (tgt := 25) hx hb dX6_inWords_39 (by decide) ?_
                have tt4 : (x4_25 + (1 : Int32)).toInt = (x4_25.toInt + (1)) := (i_add (rfl : x4_25.toInt = x4_25.toInt) zl1 (by omega))
                have w25 : ¬ x4_25.toInt = 160 := fun q => c33 (keys_last q)
                exact ih (x4_25 + (1 : Int32)) _ _ _  (by first | assumption | omega) (by omega) h (lv_sub hl [1, 2, 3, 4, 0] rfl) (fun x4_25' H locs ls en hI h hl => kk x4_25' H locs ls ((show f_X6_inWords_L25 σ x2_14 x3_14 (n + 1) x4_25 = f_X6_inWords_L25 σ x2_14 x3_14 n (x4_25 + (1 : Int32)) from (by exact ((if_neg c33).trans rfl))).trans en) hI h hl)
          refine hL25 (162) x3_14 _ _ _  (by first | assumption | omega) (by omega) h (lv_sub hl [1, 2, 3, 4, 0] rfl) (fun x4_25e H locs ls eL25 hI25 h hl => ?_)
          have ex4_25e : x4_25e = (f_X6_inWords_L25 σ x2_14 x3_14 (162) x3_14) := by rw [eL25]
          refine lv_iload hx hb dX6_inWords_42 (lv_at hl 4 rfl) ?_
          refine lv_iload_n hx hb dX6_inWords_44 rfl (lv_at hl 3 rfl) ?_
          refine lv_isub hx hb dX6_inWords_45 ?_
          refine lv_aload_n hx hb dX6_inWords_46 rfl (lv_at hl 0 rfl) ?_
          refine Mg_14 C h dX6_inWords_47 ?_
          refine lv_aload_n hx hb dX6_inWords_50 rfl (lv_at hl 0 rfl) ?_
          refine Mg_13 C h dX6_inWords_51 ?_
          refine lv_isub hx hb dX6_inWords_54 ?_
          have j63 : ∀ (t0_63 : Int32) (H : Heap) (locs : List Loc) (ls : Array Slot) (ej63 : (if (x4_25e - x3_14) = ((gi σ 14) - (gi σ 13)) then ((1 : Int32)) else ((0 : Int32))) = t0_63) (bt0_63 : t0_63 = 0 ∨ t0_63 = 1) (h : MH g σ s H locs) (hl : lv_has ls 7 [(0, .ref (g.2.1 99)), (1, .ref (g.2.1 97)), (2, .int x2_14), (3, .int x3_14), (4, .int x4_25e)]), W p l e ({ frames := 4, cells := 0, slots := 0, locals := 85 } : Room) s m args below meth c H locs 0 0 (MQ below (mQi g σ (f_X6_inWords σ) (fun u r => True)) args s 0 0 (mA g)) (F0 m 63 ls [.int t0_63]) := by
            intro t0_63 H locs ls ej63 bt0_63 h hl
            have et0_63 := ej63.symm
            refine lv_istore (lv' := [(5, .int t0_63), (0, .ref (g.2.1 99)), (1, .ref (g.2.1 97)), (2, .int x2_14), (3, .int x3_14), (4, .int x4_25e)]) hx hb dX6_inWords_63 hl (by decide) rfl (fun ls hl => ?_)
            refine lv_iload_n hx hb dX6_inWords_65 rfl (lv_at hl 4 rfl) ?_
            refine lv_istore (lv' := [(6, .int x3_14), (5, .int t0_63), (0, .ref (g.2.1 99)), (1, .ref (g.2.1 97)), (2, .int x2_14), (3, .int x3_14), (4, .int x4_25e)]) hx hb dX6_inWords_66 hl (by decide) rfl (fun ls hl => ?_)
            have hL68 : ∀ (n : Nat) (x5_68 : Int32) (x6_68 : Int32) (H : Heap) (locs : List Loc) (ls : Array Slot), (x3_14.toInt ≤ x6_68.toInt ∧ x6_68.toInt ≤ x4_25e.toInt) → (x4_25e.toInt - x6_68.toInt).toNat < n → MH g σ s H locs → lv_has ls 7 [(0, .ref (g.2.1 99)), (1, .ref (g.2.1 97)), (2, .int x2_14), (3, .int x3_14), (4, .int x4_25e), (5, .int x5_68), (6, .int x6_68)] → (∀ (x5_68' : Int32) (x6_68' : Int32) (H : Heap) (locs : List Loc) (ls : Array Slot), f_X6_inWords_L68 σ x2_14 x3_14 x4_25e n x5_68 x6_68 = (x5_68', x6_68') → (x3_14.toInt ≤ x6_68'.toInt ∧ x6_68'.toInt ≤ x4_25e.toInt) → MH g σ s H locs → lv_has ls 7 [(0, .ref (g.2.1 99)), (1, .ref (g.2.1 97)), (2, .int x2_14), (4, .int x4_25e), (5, .int x5_68')] → W p l e ({ frames := 4, cells := 0, slots := 0, locals := 85 } : Room) s m args below meth c H locs 0 0 (MQ below (mQi g σ (f_X6_inWords σ) (fun u r => True)) args s 0 0 (mA g)) (F0 m 115 ls [])) → W p l e ({ frames := 4, cells := 0, slots := 0, locals := 85 } : Room) s m args below meth c H locs 0 0 (MQ below (mQi g σ (f_X6_inWords σ) (fun u r => True)) args s 0 0 (mA g)) (F0 m 68 ls []) := by
              intro n
              induction n with
              | zero =>
                intro x5_68 x6_68 H locs ls _ hm; exact absurd hm (Nat.not_lt_zero _)
              | succ n ih =>
                intro x5_68 x6_68 H locs ls hI68 hm h hl kk
                refine lv_iload hx hb dX6_inWords_68 (lv_at hl 6 rfl) ?_
                refine lv_iload hx hb dX6_inWords_70 (lv_at hl 4 rfl) ?_
                refine lv_icmp_ge (tgt := 115) hx hb dX6_inWords_72 (by decide) (fun c72 => ?_) (fun c72 => ?_)
                · have i72 := c_le c72
                  exact kk x5_68 x6_68 _ _ _ (show f_X6_inWords_L68 σ x2_14 x3_14 x4_25e (n + 1) x5_68 x6_68 = (x5_68, x6_68) from (by exact ((if_pos c72).trans rfl)))  (by first | assumption | omega) h (lv_sub hl [0, 1, 2, 4, 5] rfl)
                · have i72 := c_nle c72
                  refine lv_iload hx hb dX6_inWords_75 (lv_at hl 5 rfl) ?_
                  refine lv_if_eq (tgt := 115) hx hb dX6_inWords_77 (by decide) (fun c77 => ?_) (fun c77 => ?_)
                  · have i77 := c_eq c77
                    exact kk x5_68 x6_68 _ _ _ (show f_X6_inWords_L68 σ x2_14 x3_14 x4_25e (n + 1) x5_68 x6_68 = (x5_68, x6_68) from (by exact ((if_neg c72).trans ((if_pos c77).trans rfl))))  (by first | assumption | omega) h (lv_sub hl [0, 1, 2, 4, 5] rfl)
                  · have i77 := c_ne c77
                    refine lv_aload_n hx hb dX6_inWords_80 rfl (lv_at hl 1 rfl) ?_
                    refine lv_iload hx hb dX6_inWords_81 (lv_at hl 6 rfl) ?_
                    refine M_charAt (rest := []) C h q1737 (ix_of (rfl : x6_68.toInt = x6_68.toInt) (by omega)) ⟨Nat.le_of_ble_eq_true rfl, Nat.le_of_ble_eq_true rfl⟩ hl.1 (Nat.le_of_ble_eq_true rfl) ⟨Nat.le_of_ble_eq_true rfl, Nat.le_of_ble_eq_true rfl⟩ dX6_inWords_83 (fun H locs h => ?_)
                    refine lv_aload_n hx hb dX6_inWords_86 rfl (lv_at hl 0 rfl) ?_
                    refine lv_aload_n hx hb dX6_inWords_87 rfl (lv_at hl 0 rfl) ?_
                    refine Mg_13 C h dX6_inWords_88 ?_
                    refine lv_iload hx hb dX6_inWords_91 (lv_at hl 6 rfl) ?_
                    refine lv_iadd hx hb dX6_inWords_93 ?_
                    refine lv_iload_n hx hb dX6_inWords_94 rfl (lv_at hl 3 rfl) ?_
                    refine lv_isub hx hb dX6_inWords_95 ?_
                    have ta96_0 : (((gi σ 13) + x6_68) - x3_14).toInt = (((gi σ 13).toInt + x6_68.toInt) - x3_14.toInt) := (i_sub (i_add (rfl : (gi σ 13).toInt = (gi σ 13).toInt) (rfl : x6_68.toInt = x6_68.toInt) (by omega)) (rfl : x3_14.toInt = x3_14.toInt) (by omega))
                    refine M_calli (As := [.int (((gi σ 13) + x6_68) - x3_14)]) (rest := [.int (kc keysB x6_68)]) 1 C h (k_X6_byteAt l g σ (((gi σ 13) + x6_68) - x3_14) (by first | assumption | omega) (by first | assumption | omega)) (lw_V q1711 q1713 qs70 q152 q1714) rfl rfl (by decide +kernel) ⟨Nat.le_of_ble_eq_true rfl, Nat.le_of_ble_eq_true rfl⟩ rfl hl.1 rfl (Nat.le_of_ble_eq_true rfl) ⟨Nat.le_of_ble_eq_true rfl, Nat.le_of_ble_eq_true rfl⟩ dX6_inWords_96 (fun r96 σ96 H locs eσ96 er96 hE96 h => ?_)
                    rw [eσ96] at h
                    rw [eσ96] at hE96
                    have hE96 : ((¬ r96.toInt = -1 → (((gi σ 13) + x6_68) - x3_14).toInt < (gi σ 11).toInt) ∧ -1 ≤ r96.toInt ∧ r96.toInt ≤ 255) := hE96
                    have bk_96 := hE96
                    clear eσ96
                    have j107 : ∀ (t0_107 : Int32) (H : Heap) (locs : List Loc) (ls : Array Slot) (ej107 : (if (kc keysB x6_68) = r96 then ((1 : Int32)) else ((0 : Int32))) = t0_107) (bt0_107 : t0_107 = 0 ∨ t0_107 = 1) (h : MH g σ s H locs) (hl : lv_has ls 7 [(0, .ref (g.2.1 99)), (1, .ref (g.2.1 97)), (2, .int x2_14), (3, .int x3_14), (4, .int x4_25e), (6, .int x6_68)]), W p l e ({ frames := 4, cells := 0, slots := 0, locals := 85 } : Room) s m args below meth c H locs 0 0 (MQ below (mQi g σ (f_X6_inWords σ) (fun u r => True)) args s 0 0 (mA g)) (F0 m 107 ls [.int t0_107]) := by
                      intro t0_107 H locs ls ej107 bt0_107 h hl
                      have et0_107 := ej107.symm
                      refine lv_istore (lv' := [(5, .int t0_107), (0, .ref (g.2.1 99)), (1, .ref (g.2.1 97)), (2, .int x2_14), (3, .int x3_14), (4, .int x4_25e), (6, .int x6_68)]) hx hb dX6_inWords_107 hl (by decide) rfl (fun ls hl => ?_)
                      refine lv_iinc (v := (x6_68 + (1 : Int32))) (lv' := [(6, .int (x6_68 + (1 : Int32))), (5, .int t0_107), (0, .ref (g.2.1 99)), (1, .ref (g.2.1 97)), (2, .int x2_14), (3, .int x3_14), (4, .int x4_25e)]) hx hb dX6_inWords_109 hl (k := 6) rfl rfl (by decide) rfl (fun ls hl => ?_)
                      refine lv_goto (tgt := 68) hx hb dX6_inWords_112 (by decide) ?_
                      have tt6 : (x6_68 + (1 : Int32)).toInt = (x6_68.toInt + (1)) := (i_add (rfl : x6_68.toInt = x6_68.toInt) zl1 (by omega))
                      exact ih t0_107 (x6_68 + (1 : Int32)) _ _ _  (by first | assumption | omega) (by omega) h (lv_sub hl [2, 3, 4, 5, 6, 1, 0] rfl) (fun x5_68' x6_68' H locs ls en hI h hl => kk x5_68' x6_68' H locs ls ((show f_X6_inWords_L68 σ x2_14 x3_14 x4_25e (n + 1) x5_68 x6_68 = f_X6_inWords_L68 σ x2_14 x3_14 x4_25e n t0_107 (x6_68 + (1 : Int32)) from (by have er96 := er96.symm; subst er96; have et0_107 := et0_107.symm; subst et0_107; exact ((if_neg c72).trans ((if_neg c77).trans rfl)))).trans en) hI h hl)
                    refine lv_icmp_ne (tgt := 106) hx hb dX6_inWords_99 (by decide) (fun c99 => ?_) (fun c99 => ?_)
                    · have i99 := c_ne c99
                      refine lv_iconst (v := 0) hx hb dX6_inWords_106 (by decide) ?_
                      exact j107 _ _ _ _ (by exact ((if_neg c99).trans rfl)) (Or.inl rfl) h (lv_sub hl [0, 1, 2, 3, 4, 6] rfl)
                    · have i99 := c_eq c99
                      refine lv_iconst (v := 1) hx hb dX6_inWords_102 (by decide) ?_
                      refine lv_goto (tgt := 107) hx hb dX6_inWords_103 (by decide) ?_
                      exact j107 _ _ _ _ (by exact ((if_pos c99).trans rfl)) (Or.inr rfl) h (lv_sub hl [0, 1, 2, 3, 4, 6] rfl)
            refine hL68 (162) t0_63 x3_14 _ _ _  (by first | assumption | omega) (by omega) h (lv_sub hl [2, 3, 4, 5, 6, 1, 0] rfl) (fun x5_68e x6_68e H locs ls eL68 hI68 h hl => ?_)
            have ex5_68e : x5_68e = (f_X6_inWords_L68 σ x2_14 x3_14 x4_25e (162) t0_63 x3_14).1 := by rw [eL68]
            have ex6_68e : x6_68e = (f_X6_inWords_L68 σ x2_14 x3_14 x4_25e (162) t0_63 x3_14).2 := by rw [eL68]
            refine lv_iload hx hb dX6_inWords_115 (lv_at hl 4 rfl) ?_
            refine lv_if_eq (tgt := 122) hx hb dX6_inWords_117 (by decide) (fun c117 => ?_) (fun c117 => ?_)
            · have i117 := c_eq c117
              refine lv_iinc (v := (x2_14 + (1 : Int32))) (lv' := [(2, .int (x2_14 + (1 : Int32))), (0, .ref (g.2.1 99)), (1, .ref (g.2.1 97)), (4, .int x4_25e), (5, .int x5_68e)]) hx hb dX6_inWords_122 hl (k := 2) rfl rfl (by decide) rfl (fun ls hl => ?_)
              refine lv_iload hx hb dX6_inWords_125 (lv_at hl 3 rfl) ?_
              refine lv_iconst (v := 1) hx hb dX6_inWords_127 (by decide) ?_
              refine lv_iadd hx hb dX6_inWords_128 ?_
              refine lv_topi (fun v129 ev129 => ?_)
              have tv129 : v129.toInt = (x4_25e.toInt + (1)) := by rw [ev129]; exact (i_add (rfl : x4_25e.toInt = x4_25e.toInt) zl1 (by omega))
              refine lv_istore_n (lv' := [(3, .int v129), (2, .int (x2_14 + (1 : Int32))), (0, .ref (g.2.1 99)), (1, .ref (g.2.1 97)), (4, .int x4_25e), (5, .int x5_68e)]) hx hb dX6_inWords_129 rfl hl (by decide) rfl (fun ls hl => ?_)
              refine lv_goto (tgt := 14) hx hb dX6_inWords_130 (by decide) ?_
              exact ih (x2_14 + (1 : Int32)) v129 _ _ _  (by first | assumption | omega) (by omega) (by have ex4_25e := ex4_25e.symm; subst ex4_25e; have et0_63 := et0_63.symm; subst et0_63; have ex5_68e := ex5_68e.symm; subst ex5_68e; have ex6_68e := ex6_68e.symm; subst ex6_68e; have ev129 := ev129.symm; subst ev129; exact (hf14.trans ((if_neg c19).trans ((if_pos c117).trans rfl)))) h (lv_sub hl [2, 3, 1, 0] rfl)
            · have i117 := c_ne c117
              refine lv_iload_n hx hb dX6_inWords_120 rfl (lv_at hl 2 rfl) ?_
              have he : f_X6_inWords σ = x2_14 := (by have ex4_25e := ex4_25e.symm; subst ex4_25e; have et0_63 := et0_63.symm; subst et0_63; have ex5_68e := ex5_68e.symm; subst ex5_68e; have ex6_68e := ex6_68e.symm; subst ex6_68e; exact (hf14.trans ((if_neg c19).trans ((if_neg c117).trans rfl))))
              exact M_reti C h hr hlocks rfl he trivial dX6_inWords_121
          refine lv_icmp_ne (tgt := 62) hx hb dX6_inWords_55 (by decide) (fun c55 => ?_) (fun c55 => ?_)
          · have i55 := c_ne c55
            refine lv_iconst (v := 0) hx hb dX6_inWords_62 (by decide) ?_
            exact j63 _ _ _ _ (by exact ((if_neg c55).trans rfl)) (Or.inl rfl) h hl
          · have i55 := c_eq c55
            refine lv_iconst (v := 1) hx hb dX6_inWords_58 (by decide) ?_
            refine lv_goto (tgt := 63) hx hb dX6_inWords_59 (by decide) ?_
            exact j63 _ _ _ _ (by exact ((if_pos c55).trans rfl)) (Or.inr rfl) h hl
    exact hL14 (162) (0 : Int32) (1 : Int32) _ _ _  (by first | assumption | omega) (by omega) (by exact ((if_pos c5).trans rfl)) h (lv_sub hl [2, 3, 1, 0] rfl)
  · have i5 := c_ne c5
    refine lv_iconst (v := -1) hx hb dX6_inWords_8 (by decide) ?_
    have he : f_X6_inWords σ = (-1 : Int32) := (by exact ((if_neg c5).trans rfl))
    exact M_reti C h hr hlocks rfl he trivial dX6_inWords_9
def f_X6_isName (σ : MS) : Int32 := if (gi σ 12) = (2 : Int32) then (if (8 : Int32) < ((gi σ 14) - (gi σ 13)) then ((0 : Int32)) else ((let r24 := (f_X6_inWords σ); if r24 = (-1 : Int32) then ((1 : Int32)) else ((0 : Int32))))) else ((0 : Int32))
set_option maxHeartbeats 4000000 in
set_option maxRecDepth 100000 in
theorem k_X6_isName (l : Launch) (g : GE) (σ : MS) (hsz : 0 ≤ (gi σ 11).toInt ∧ (gi σ 11).toInt ≤ 900) (hen : 0 ≤ (gi σ 14).toInt ∧ (gi σ 14).toInt ≤ (gi σ 11).toInt) (hfr : 0 ≤ (gi σ 13).toInt ∧ (gi σ 13).toInt ≤ (gi σ 14).toInt) (htk : Hd (¬ (gi σ 12).toInt = 0 → (gi σ 13).toInt < (gi σ 14).toInt)) : Met l yX6_isName (ws_ yX6_isName cX6_isName 2 (some .boolean)) ({ frames := 5, cells := 0, slots := 0, locals := 111 } : Room) (mPc g σ [.ref (g.2.1 97)]) (mQz g σ (f_X6_isName σ) (fun u r => True)) 0 0 (mA g) := by
  refine met_M (by decide) rfl (Nat.le_of_ble_eq_true rfl) ?_
  intro p e s m args below meth c C hr hlocks h ls hl
  have hx := C.1.1
  have hb := C.1.2.1
  have hml := C.1.2.2.1
  have hown := C.1.2.2.2.1
  have hts := C.1.2.2.2.2
  have hl : lv_has ls 2 [(0, .ref (g.2.1 99)), (1, .ref (g.2.1 97))] := hl
  have zlm1 : (-1 : Int32).toInt = -1 := rfl
  have zl0 : (0 : Int32).toInt = 0 := rfl
  have zl1 : (1 : Int32).toInt = 1 := rfl
  have zl2 : (2 : Int32).toInt = 2 := rfl
  have zl8 : (8 : Int32).toInt = 8 := rfl
  refine lv_aload_n hx hb dX6_isName_0 rfl (lv_at hl 0 rfl) ?_
  refine Mg_12 C h dX6_isName_1 ?_
  refine lv_iconst (v := 2) hx hb dX6_isName_4 (by decide) ?_
  refine lv_icmp_ne (tgt := 35) hx hb dX6_isName_5 (by decide) (fun c5 => ?_) (fun c5 => ?_)
  · have i5 := c_ne c5
    refine lv_iconst (v := 0) hx hb dX6_isName_35 (by decide) ?_
    have he : f_X6_isName σ = (0 : Int32) := (by exact ((if_neg c5).trans rfl))
    exact M_retz C h hr hlocks rfl he (Or.inl rfl) trivial dX6_isName_36
  · have i5 := c_eq c5
    refine lv_aload_n hx hb dX6_isName_8 rfl (lv_at hl 0 rfl) ?_
    refine Mg_14 C h dX6_isName_9 ?_
    refine lv_aload_n hx hb dX6_isName_12 rfl (lv_at hl 0 rfl) ?_
    refine Mg_13 C h dX6_isName_13 ?_
    refine lv_isub hx hb dX6_isName_16 ?_
    refine lv_bipush (v := 8) hx hb dX6_isName_17 (by decide) ?_
    refine lv_icmp_gt (tgt := 35) hx hb dX6_isName_19 (by decide) (fun c19 => ?_) (fun c19 => ?_)
    · have i19 := c_lt c19
      refine lv_iconst (v := 0) hx hb dX6_isName_35 (by decide) ?_
      have he : f_X6_isName σ = (0 : Int32) := (by exact ((if_pos c5).trans ((if_pos c19).trans rfl)))
      exact M_retz C h hr hlocks rfl he (Or.inl rfl) trivial dX6_isName_36
    · have i19 := c_nlt c19
      refine lv_aload_n hx hb dX6_isName_22 rfl (lv_at hl 0 rfl) ?_
      refine lv_aload_n hx hb dX6_isName_23 rfl (lv_at hl 1 rfl) ?_
      refine M_calli (As := [.ref (g.2.1 97)]) (rest := []) 1 C h (k_X6_inWords l g σ (by first | assumption | omega) (by first | assumption | omega) (by first | assumption | omega)) (lw_V q1732 q1734 qs73 q152 q1735) rfl rfl (by decide +kernel) ⟨Nat.le_of_ble_eq_true rfl, Nat.le_of_ble_eq_true rfl⟩ rfl hl.1 rfl (Nat.le_of_ble_eq_true rfl) ⟨Nat.le_of_ble_eq_true rfl, Nat.le_of_ble_eq_true rfl⟩ dX6_isName_24 (fun r24 σ24 H locs eσ24 er24 hE24 h => ?_)
      rw [eσ24] at h
      clear hE24
      clear eσ24
      refine lv_iconst (v := -1) hx hb dX6_isName_27 (by decide) ?_
      refine lv_icmp_ne (tgt := 35) hx hb dX6_isName_28 (by decide) (fun c28 => ?_) (fun c28 => ?_)
      · have i28 := c_ne c28
        refine lv_iconst (v := 0) hx hb dX6_isName_35 (by decide) ?_
        have he : f_X6_isName σ = (0 : Int32) := (by have er24 := er24.symm; subst er24; exact ((if_pos c5).trans ((if_neg c19).trans ((if_neg c28).trans rfl))))
        exact M_retz C h hr hlocks rfl he (Or.inl rfl) trivial dX6_isName_36
      · have i28 := c_eq c28
        refine lv_iconst (v := 1) hx hb dX6_isName_31 (by decide) ?_
        refine lv_goto (tgt := 36) hx hb dX6_isName_32 (by decide) ?_
        have he : f_X6_isName σ = (1 : Int32) := (by have er24 := er24.symm; subst er24; exact ((if_pos c5).trans ((if_neg c19).trans ((if_pos c28).trans rfl))))
        exact M_retz C h hr hlocks rfl he (Or.inr rfl) trivial dX6_isName_36
def f_X6_wantWord (σ : MS) (p2 : Int32) : MS × Int32 := (let r2 := (f_X6_inWords σ); if r2 = p2 then ((let σ16 := (f_X6_ahead σ); (σ16, (1 : Int32)))) else ((let z11 := (f_X6_fails σ (2 : Int32)); let σ11 := z11.1; let r11 := z11.2; (σ11, r11))))
set_option maxHeartbeats 4000000 in
set_option maxRecDepth 100000 in
theorem k_X6_wantWord (l : Launch) (g : GE) (σ : MS) (p2 : Int32) (hsz : 0 ≤ (gi σ 11).toInt ∧ (gi σ 11).toInt ≤ 900) (hen : 0 ≤ (gi σ 14).toInt ∧ (gi σ 14).toInt ≤ (gi σ 11).toInt) (hfr : 0 ≤ (gi σ 13).toInt ∧ (gi σ 13).toInt ≤ (gi σ 14).toInt) (htk : Hd (¬ (gi σ 12).toInt = 0 → (gi σ 13).toInt < (gi σ 14).toInt)) : Met l yX6_wantWord (ws_ yX6_wantWord cX6_wantWord 3 (some .boolean)) ({ frames := 5, cells := 0, slots := 0, locals := 111 } : Room) (mPc g σ [.ref (g.2.1 97), .int p2]) (mQz g (f_X6_wantWord σ p2).1 (f_X6_wantWord σ p2).2 (fun u r => (∀ j : Int32, ga u 0 j = ga σ 0 j) ∧ ((gi u 11).toInt = (gi σ 11).toInt) ∧ ((gi σ 13).toInt ≤ (gi u 13).toInt) ∧ (PFr σ u) ∧ (0 ≤ (gi u 11).toInt ∧ (gi u 11).toInt ≤ 900) ∧ (0 ≤ (gi u 14).toInt ∧ (gi u 14).toInt ≤ (gi u 11).toInt) ∧ (0 ≤ (gi u 13).toInt ∧ (gi u 13).toInt ≤ (gi u 14).toInt) ∧ (Hd (¬ (gi u 12).toInt = 0 → (gi u 13).toInt < (gi u 14).toInt)))) 0 0 (mA g) := by
  refine met_M (by decide) rfl (Nat.le_of_ble_eq_true rfl) ?_
  intro p e s m args below meth c C hr hlocks h ls hl
  have hx := C.1.1
  have hb := C.1.2.1
  have hml := C.1.2.2.1
  have hown := C.1.2.2.2.1
  have hts := C.1.2.2.2.2
  have hl : lv_has ls 3 [(0, .ref (g.2.1 99)), (1, .ref (g.2.1 97)), (2, .int p2)] := hl
  have hA0 : ∀ j : Int32, ga σ 0 j = ga σ 0 j := fun _ => rfl
  have hsm : (gi σ 11).toInt = (gi σ 11).toInt := rfl
  have hmo : (gi σ 13).toInt ≤ (gi σ 13).toInt := Int.le_refl _
  have hFR : PFr σ σ := Fr.rf
  have zl1 : (1 : Int32).toInt = 1 := rfl
  have zl2 : (2 : Int32).toInt = 2 := rfl
  refine lv_aload_n hx hb dX6_wantWord_0 rfl (lv_at hl 0 rfl) ?_
  refine lv_aload_n hx hb dX6_wantWord_1 rfl (lv_at hl 1 rfl) ?_
  refine M_calli (As := [.ref (g.2.1 97)]) (rest := []) 1 C h (k_X6_inWords l g σ (by first | assumption | omega) (by first | assumption | omega) (by first | assumption | omega)) (lw_V q1732 q1734 qs73 q152 q1735) rfl rfl (by decide +kernel) ⟨Nat.le_of_ble_eq_true rfl, Nat.le_of_ble_eq_true rfl⟩ rfl hl.1 rfl (Nat.le_of_ble_eq_true rfl) ⟨Nat.le_of_ble_eq_true rfl, Nat.le_of_ble_eq_true rfl⟩ dX6_wantWord_2 (fun r2 σ2 H locs eσ2 er2 hE2 h => ?_)
  rw [eσ2] at h
  clear hE2
  clear eσ2
  refine lv_iload_n hx hb dX6_wantWord_5 rfl (lv_at hl 2 rfl) ?_
  refine lv_icmp_eq (tgt := 15) hx hb dX6_wantWord_6 (by decide) (fun c6 => ?_) (fun c6 => ?_)
  · have i6 := c_eq c6
    refine lv_aload_n hx hb dX6_wantWord_15 rfl (lv_at hl 0 rfl) ?_
    refine M_callv (As := []) (rest := []) 0 C h (k_X6_ahead l g σ (by first | assumption | omega) (by first | assumption | omega)) (lw_V q1707 q1709 qs69 q152 q1710) rfl rfl (by decide +kernel) ⟨Nat.le_of_ble_eq_true rfl, Nat.le_of_ble_eq_true rfl⟩ rfl hl.1 rfl (Nat.le_of_ble_eq_true rfl) ⟨Nat.le_of_ble_eq_true rfl, Nat.le_of_ble_eq_true rfl⟩ dX6_wantWord_16 (fun σ16 H locs eσ16 hE16 h => ?_)
    have hE16 : (∀ j : Int32, ga σ16 0 j = ga σ 0 j) ∧ ((gi σ16 11).toInt = (gi σ 11).toInt) ∧ (PFr σ σ16) ∧ (0 ≤ (gi σ16 11).toInt ∧ (gi σ16 11).toInt ≤ 900) ∧ (0 ≤ (gi σ16 14).toInt ∧ (gi σ16 14).toInt ≤ (gi σ16 11).toInt) ∧ (0 ≤ (gi σ16 13).toInt ∧ (gi σ16 13).toInt ≤ (gi σ16 14).toInt) ∧ (Hd (¬ (gi σ16 12).toInt = 0 → (gi σ16 13).toInt < (gi σ16 14).toInt)) ∧ ((gi σ 14).toInt ≤ (gi σ16 13).toInt) := hE16
    obtain ⟨hA0_16, hsm_16, hFR_16, hsz_16, hen_16, hfr_16, htk_16, hmf_16⟩ := hE16
    have hNEW : (0 ≤ (gi σ16 11).toInt ∧ (gi σ16 11).toInt ≤ 900) ∧ (0 ≤ (gi σ16 14).toInt ∧ (gi σ16 14).toInt ≤ (gi σ16 11).toInt) ∧ (0 ≤ (gi σ16 13).toInt ∧ (gi σ16 13).toInt ≤ (gi σ16 14).toInt) ∧ (Hd (¬ (gi σ16 12).toInt = 0 → (gi σ16 13).toInt < (gi σ16 14).toInt)) ∧ (∀ j : Int32, ga σ16 0 j = ga σ 0 j) ∧ ((gi σ16 11).toInt = (gi σ 11).toInt) ∧ ((gi σ 13).toInt ≤ (gi σ16 13).toInt) ∧ (PFr σ σ16) := ⟨(by first | assumption | omega), (by first | assumption | omega), (by first | assumption | omega), (by first | assumption | omega), (fun j => (hA0_16 j).trans (hA0 j)), (by first | assumption | omega), (by first | assumption | omega), (Fr.tr hFR hFR_16)⟩
    obtain ⟨hsz, hen, hfr, htk, hA0, hsm, hmo, hFR⟩ := hNEW
    clear hsm_16 hsz_16 hen_16 hfr_16 htk_16
    refine lv_iconst (v := 1) hx hb dX6_wantWord_19 (by decide) ?_
    have he : f_X6_wantWord σ p2 = (σ16, (1 : Int32)) := (by have er2 := er2.symm; subst er2; have eσ16 := eσ16.symm; subst eσ16; exact ((if_pos c6).trans rfl))
    exact M_retz C h hr hlocks (congrArg Prod.fst he) (congrArg Prod.snd he) (Or.inr rfl) ⟨hA0, hsm, hmo, hFR, (by first | assumption | omega | (unfold Hd; omega)), (by first | assumption | omega | (unfold Hd; omega)), (by first | assumption | omega | (unfold Hd; omega)), (by first | assumption | omega | (unfold Hd; omega))⟩ dX6_wantWord_20
  · have i6 := c_ne c6
    refine lv_aload_n hx hb dX6_wantWord_9 rfl (lv_at hl 0 rfl) ?_
    refine lv_iconst (v := 2) hx hb dX6_wantWord_10 (by decide) ?_
    refine M_callz (As := [.int (2 : Int32)]) (rest := []) 1 C h (k_X6_fails l g σ (2 : Int32) (by first | assumption | omega) (by first | assumption | omega) (by first | assumption | omega) (by first | assumption | omega)) (lw_V q1742 q1744 qs75 q152 q1745) rfl rfl (by decide +kernel) ⟨Nat.le_of_ble_eq_true rfl, Nat.le_of_ble_eq_true rfl⟩ rfl hl.1 rfl (Nat.le_of_ble_eq_true rfl) ⟨Nat.le_of_ble_eq_true rfl, Nat.le_of_ble_eq_true rfl⟩ dX6_wantWord_11 (fun r11 σ11 H locs eσ11 er11 br11 hE11 h => ?_)
    have hE11 : (∀ j : Int32, ga σ11 0 j = ga σ 0 j) ∧ ((gi σ11 11).toInt = (gi σ 11).toInt) ∧ ((gi σ 13).toInt ≤ (gi σ11 13).toInt) ∧ (PFr σ σ11) ∧ (0 ≤ (gi σ11 11).toInt ∧ (gi σ11 11).toInt ≤ 900) ∧ (0 ≤ (gi σ11 14).toInt ∧ (gi σ11 14).toInt ≤ (gi σ11 11).toInt) ∧ (0 ≤ (gi σ11 13).toInt ∧ (gi σ11 13).toInt ≤ (gi σ11 14).toInt) ∧ (Hd (¬ (gi σ11 12).toInt = 0 → (gi σ11 13).toInt < (gi σ11 14).toInt)) ∧ (r11.toInt = 0) := hE11
    obtain ⟨hA0_11, hsm_11, hmo_11, hFR_11, hsz_11, hen_11, hfr_11, htk_11, fz_11⟩ := hE11
    have hNEW : (0 ≤ (gi σ11 11).toInt ∧ (gi σ11 11).toInt ≤ 900) ∧ (0 ≤ (gi σ11 14).toInt ∧ (gi σ11 14).toInt ≤ (gi σ11 11).toInt) ∧ (0 ≤ (gi σ11 13).toInt ∧ (gi σ11 13).toInt ≤ (gi σ11 14).toInt) ∧ (Hd (¬ (gi σ11 12).toInt = 0 → (gi σ11 13).toInt < (gi σ11 14).toInt)) ∧ (∀ j : Int32, ga σ11 0 j = ga σ 0 j) ∧ ((gi σ11 11).toInt = (gi σ 11).toInt) ∧ ((gi σ 13).toInt ≤ (gi σ11 13).toInt) ∧ (PFr σ σ11) := ⟨(by first | assumption | omega), (by first | assumption | omega), (by first | assumption | omega), (by first | assumption | omega), (fun j => (hA0_11 j).trans (hA0 j)), (by first | assumption | omega), (by first | assumption | omega), (Fr.tr hFR hFR_11)⟩
    obtain ⟨hsz, hen, hfr, htk, hA0, hsm, hmo, hFR⟩ := hNEW
    clear hsm_11 hmo_11 hsz_11 hen_11 hfr_11 htk_11
    have he : f_X6_wantWord σ p2 = (σ11, r11) := (by have er2 := er2.symm; subst er2; have eσ11 := eσ11.symm; subst eσ11; have er11 := er11.symm; subst er11; exact ((if_neg c6).trans rfl))
    exact M_retz C h hr hlocks (congrArg Prod.fst he) (congrArg Prod.snd he) br11 ⟨hA0, hsm, hmo, hFR, (by first | assumption | omega | (unfold Hd; omega)), (by first | assumption | omega | (unfold Hd; omega)), (by first | assumption | omega | (unfold Hd; omega)), (by first | assumption | omega | (unfold Hd; omega))⟩ dX6_wantWord_14
def f_X6_isThere (σ : MS) (p1 : Int32) : MS × Int32 := (let r3 := (f_X6_inWords σ); if r3 = p1 then ((let σ13 := (f_X6_ahead σ); (σ13, (1 : Int32)))) else ((σ, (0 : Int32))))
set_option maxHeartbeats 4000000 in
set_option maxRecDepth 100000 in
theorem k_X6_isThere (l : Launch) (g : GE) (σ : MS) (p1 : Int32) (hsz : 0 ≤ (gi σ 11).toInt ∧ (gi σ 11).toInt ≤ 900) (hen : 0 ≤ (gi σ 14).toInt ∧ (gi σ 14).toInt ≤ (gi σ 11).toInt) (hfr : 0 ≤ (gi σ 13).toInt ∧ (gi σ 13).toInt ≤ (gi σ 14).toInt) (htk : Hd (¬ (gi σ 12).toInt = 0 → (gi σ 13).toInt < (gi σ 14).toInt)) : Met l yX6_isThere (ws_ yX6_isThere cX6_isThere 2 (some .boolean)) ({ frames := 5, cells := 0, slots := 0, locals := 111 } : Room) (mPc g σ [.int p1]) (mQz g (f_X6_isThere σ p1).1 (f_X6_isThere σ p1).2 (fun u r => (∀ j : Int32, ga u 0 j = ga σ 0 j) ∧ ((gi u 11).toInt = (gi σ 11).toInt) ∧ ((gi σ 13).toInt ≤ (gi u 13).toInt) ∧ (PFr σ u) ∧ (0 ≤ (gi u 11).toInt ∧ (gi u 11).toInt ≤ 900) ∧ (0 ≤ (gi u 14).toInt ∧ (gi u 14).toInt ≤ (gi u 11).toInt) ∧ (0 ≤ (gi u 13).toInt ∧ (gi u 13).toInt ≤ (gi u 14).toInt) ∧ (Hd (¬ (gi u 12).toInt = 0 → (gi u 13).toInt < (gi u 14).toInt)))) 0 0 (mA g) := by
  refine met_M (by decide) rfl (Nat.le_of_ble_eq_true rfl) ?_
  intro p e s m args below meth c C hr hlocks h ls hl
  have hx := C.1.1
  have hb := C.1.2.1
  have hml := C.1.2.2.1
  have hown := C.1.2.2.2.1
  have hts := C.1.2.2.2.2
  have hl : lv_has ls 2 [(0, .ref (g.2.1 99)), (1, .int p1)] := hl
  have hA0 : ∀ j : Int32, ga σ 0 j = ga σ 0 j := fun _ => rfl
  have hsm : (gi σ 11).toInt = (gi σ 11).toInt := rfl
  have hmo : (gi σ 13).toInt ≤ (gi σ 13).toInt := Int.le_refl _
  have hFR : PFr σ σ := Fr.rf
  have zl0 : (0 : Int32).toInt = 0 := rfl
  have zl1 : (1 : Int32).toInt = 1 := rfl
  refine lv_aload_n hx hb dX6_isThere_0 rfl (lv_at hl 0 rfl) ?_
  refine M_keys C dX6_isThere_1 ?_
  refine M_calli (As := [.ref (g.2.1 97)]) (rest := []) 1 C h (k_X6_inWords l g σ (by first | assumption | omega) (by first | assumption | omega) (by first | assumption | omega)) (lw_V q1732 q1734 qs73 q152 q1735) rfl rfl (by decide +kernel) ⟨Nat.le_of_ble_eq_true rfl, Nat.le_of_ble_eq_true rfl⟩ rfl hl.1 rfl (Nat.le_of_ble_eq_true rfl) ⟨Nat.le_of_ble_eq_true rfl, Nat.le_of_ble_eq_true rfl⟩ dX6_isThere_3 (fun r3 σ3 H locs eσ3 er3 hE3 h => ?_)
  rw [eσ3] at h
  clear hE3
  clear eσ3
  refine lv_iload_n hx hb dX6_isThere_6 rfl (lv_at hl 1 rfl) ?_
  refine lv_icmp_eq (tgt := 12) hx hb dX6_isThere_7 (by decide) (fun c7 => ?_) (fun c7 => ?_)
  · have i7 := c_eq c7
    refine lv_aload_n hx hb dX6_isThere_12 rfl (lv_at hl 0 rfl) ?_
    refine M_callv (As := []) (rest := []) 0 C h (k_X6_ahead l g σ (by first | assumption | omega) (by first | assumption | omega)) (lw_V q1707 q1709 qs69 q152 q1710) rfl rfl (by decide +kernel) ⟨Nat.le_of_ble_eq_true rfl, Nat.le_of_ble_eq_true rfl⟩ rfl hl.1 rfl (Nat.le_of_ble_eq_true rfl) ⟨Nat.le_of_ble_eq_true rfl, Nat.le_of_ble_eq_true rfl⟩ dX6_isThere_13 (fun σ13 H locs eσ13 hE13 h => ?_)
    have hE13 : (∀ j : Int32, ga σ13 0 j = ga σ 0 j) ∧ ((gi σ13 11).toInt = (gi σ 11).toInt) ∧ (PFr σ σ13) ∧ (0 ≤ (gi σ13 11).toInt ∧ (gi σ13 11).toInt ≤ 900) ∧ (0 ≤ (gi σ13 14).toInt ∧ (gi σ13 14).toInt ≤ (gi σ13 11).toInt) ∧ (0 ≤ (gi σ13 13).toInt ∧ (gi σ13 13).toInt ≤ (gi σ13 14).toInt) ∧ (Hd (¬ (gi σ13 12).toInt = 0 → (gi σ13 13).toInt < (gi σ13 14).toInt)) ∧ ((gi σ 14).toInt ≤ (gi σ13 13).toInt) := hE13
    obtain ⟨hA0_13, hsm_13, hFR_13, hsz_13, hen_13, hfr_13, htk_13, hmf_13⟩ := hE13
    have hNEW : (0 ≤ (gi σ13 11).toInt ∧ (gi σ13 11).toInt ≤ 900) ∧ (0 ≤ (gi σ13 14).toInt ∧ (gi σ13 14).toInt ≤ (gi σ13 11).toInt) ∧ (0 ≤ (gi σ13 13).toInt ∧ (gi σ13 13).toInt ≤ (gi σ13 14).toInt) ∧ (Hd (¬ (gi σ13 12).toInt = 0 → (gi σ13 13).toInt < (gi σ13 14).toInt)) ∧ (∀ j : Int32, ga σ13 0 j = ga σ 0 j) ∧ ((gi σ13 11).toInt = (gi σ 11).toInt) ∧ ((gi σ 13).toInt ≤ (gi σ13 13).toInt) ∧ (PFr σ σ13) := ⟨(by first | assumption | omega), (by first | assumption | omega), (by first | assumption | omega), (by first | assumption | omega), (fun j => (hA0_13 j).trans (hA0 j)), (by first | assumption | omega), (by first | assumption | omega), (Fr.tr hFR hFR_13)⟩
    obtain ⟨hsz, hen, hfr, htk, hA0, hsm, hmo, hFR⟩ := hNEW
    clear hsm_13 hsz_13 hen_13 hfr_13 htk_13
    refine lv_iconst (v := 1) hx hb dX6_isThere_16 (by decide) ?_
    have he : f_X6_isThere σ p1 = (σ13, (1 : Int32)) := (by have er3 := er3.symm; subst er3; have eσ13 := eσ13.symm; subst eσ13; exact ((if_pos c7).trans rfl))
    exact M_retz C h hr hlocks (congrArg Prod.fst he) (congrArg Prod.snd he) (Or.inr rfl) ⟨hA0, hsm, hmo, hFR, (by first | assumption | omega | (unfold Hd; omega)), (by first | assumption | omega | (unfold Hd; omega)), (by first | assumption | omega | (unfold Hd; omega)), (by first | assumption | omega | (unfold Hd; omega))⟩ dX6_isThere_17
  · have i7 := c_ne c7
    refine lv_iconst (v := 0) hx hb dX6_isThere_10 (by decide) ?_
    have he : f_X6_isThere σ p1 = (σ, (0 : Int32)) := (by have er3 := er3.symm; subst er3; exact ((if_neg c7).trans rfl))
    exact M_retz C h hr hlocks (congrArg Prod.fst he) (congrArg Prod.snd he) (Or.inl rfl) ⟨hA0, hsm, hmo, hFR, (by first | assumption | omega | (unfold Hd; omega)), (by first | assumption | omega | (unfold Hd; omega)), (by first | assumption | omega | (unfold Hd; omega)), (by first | assumption | omega | (unfold Hd; omega))⟩ dX6_isThere_11
def f_X6_number (σ : MS) (p1 : Int32) (p2 : Int32) (p3 : Int32) : MS × Int32 := if (gi σ 12) = (3 : Int32) then (if (gi σ 15) < p2 then ((let z32 := (f_X6_fails σ (4 : Int32)); let σ32 := z32.1; let r32 := z32.2; (σ32, r32))) else (if (gi σ 15) ≤ p3 then ((let σ45 := sa σ 0 p1 (gi σ 15); let σ47 := (f_X6_ahead σ45); (σ47, (1 : Int32)))) else ((let z32 := (f_X6_fails σ (4 : Int32)); let σ32 := z32.1; let r32 := z32.2; (σ32, r32))))) else ((let z10 := (f_X6_fails σ (2 : Int32)); let σ10 := z10.1; let r10 := z10.2; (σ10, r10)))
set_option maxHeartbeats 4000000 in
set_option maxRecDepth 100000 in
theorem k_X6_number (l : Launch) (g : GE) (σ : MS) (p1 : Int32) (p2 : Int32) (p3 : Int32) (hsz : 0 ≤ (gi σ 11).toInt ∧ (gi σ 11).toInt ≤ 900) (hen : 0 ≤ (gi σ 14).toInt ∧ (gi σ 14).toInt ≤ (gi σ 11).toInt) (hfr : 0 ≤ (gi σ 13).toInt ∧ (gi σ 13).toInt ≤ (gi σ 14).toInt) (htk : Hd (¬ (gi σ 12).toInt = 0 → (gi σ 13).toInt < (gi σ 14).toInt)) (h1n : 2000 ≤ p1.toInt ∧ p1.toInt < 3000) : Met l yX6_number (ws_ yX6_number cX6_number 4 (some .boolean)) ({ frames := 2, cells := 0, slots := 0, locals := 44 } : Room) (mPc g σ [.int p1, .int p2, .int p3]) (mQz g (f_X6_number σ p1 p2 p3).1 (f_X6_number σ p1 p2 p3).2 (fun u r => (∀ j : Int32, 0 ≤ j.toInt → ¬ j.toInt = p1.toInt → ga u 0 j = ga σ 0 j) ∧ ((gi u 11).toInt = (gi σ 11).toInt) ∧ ((gi σ 13).toInt ≤ (gi u 13).toInt) ∧ (PFr σ u) ∧ (0 ≤ (gi u 11).toInt ∧ (gi u 11).toInt ≤ 900) ∧ (0 ≤ (gi u 14).toInt ∧ (gi u 14).toInt ≤ (gi u 11).toInt) ∧ (0 ≤ (gi u 13).toInt ∧ (gi u 13).toInt ≤ (gi u 14).toInt) ∧ (Hd (¬ (gi u 12).toInt = 0 → (gi u 13).toInt < (gi u 14).toInt)) ∧ (Hd (¬ r.toInt = 0 → p2.toInt ≤ (ga u 0 p1).toInt ∧ (ga u 0 p1).toInt ≤ p3.toInt)) ∧ (Hd (ga u 0 p1 = ga σ 0 p1 ∨ (p2.toInt ≤ (ga u 0 p1).toInt ∧ (ga u 0 p1).toInt ≤ p3.toInt))))) 0 0 (mA g) := by
  refine met_M (by decide) rfl (Nat.le_of_ble_eq_true rfl) ?_
  intro p e s m args below meth c C hr hlocks h ls hl
  have hx := C.1.1
  have hb := C.1.2.1
  have hml := C.1.2.2.1
  have hown := C.1.2.2.2.1
  have hts := C.1.2.2.2.2
  have hl : lv_has ls 4 [(0, .ref (g.2.1 99)), (1, .int p1), (2, .int p2), (3, .int p3)] := hl
  have hA1 : ∀ j : Int32, 0 ≤ j.toInt → ¬ j.toInt = p1.toInt → ga σ 0 j = ga σ 0 j := fun _ _ _ => rfl
  have hsm : (gi σ 11).toInt = (gi σ 11).toInt := rfl
  have hmo : (gi σ 13).toInt ≤ (gi σ 13).toInt := Int.le_refl _
  have hFR : PFr σ σ := Fr.rf
  have zl1 : (1 : Int32).toInt = 1 := rfl
  have zl2 : (2 : Int32).toInt = 2 := rfl
  have zl3 : (3 : Int32).toInt = 3 := rfl
  have zl4 : (4 : Int32).toInt = 4 := rfl
  refine lv_aload_n hx hb dX6_number_0 rfl (lv_at hl 0 rfl) ?_
  refine Mg_12 C h dX6_number_1 ?_
  refine lv_iconst (v := 3) hx hb dX6_number_4 (by decide) ?_
  refine lv_icmp_eq (tgt := 14) hx hb dX6_number_5 (by decide) (fun c5 => ?_) (fun c5 => ?_)
  · have i5 := c_eq c5
    refine lv_aload_n hx hb dX6_number_14 rfl (lv_at hl 0 rfl) ?_
    refine Mg_15 C h dX6_number_15 ?_
    refine lv_iload_n hx hb dX6_number_18 rfl (lv_at hl 2 rfl) ?_
    refine lv_icmp_lt (tgt := 30) hx hb dX6_number_19 (by decide) (fun c19 => ?_) (fun c19 => ?_)
    · have i19 := c_lt c19
      refine lv_aload_n hx hb dX6_number_30 rfl (lv_at hl 0 rfl) ?_
      refine lv_iconst (v := 4) hx hb dX6_number_31 (by decide) ?_
      refine M_callz (As := [.int (4 : Int32)]) (rest := []) 1 C h (k_X6_fails l g σ (4 : Int32) (by first | assumption | omega) (by first | assumption | omega) (by first | assumption | omega) (by first | assumption | omega)) (lw_V q1742 q1744 qs75 q152 q1745) rfl rfl (by decide +kernel) ⟨Nat.le_of_ble_eq_true rfl, Nat.le_of_ble_eq_true rfl⟩ rfl hl.1 rfl (Nat.le_of_ble_eq_true rfl) ⟨Nat.le_of_ble_eq_true rfl, Nat.le_of_ble_eq_true rfl⟩ dX6_number_32 (fun r32 σ32 H locs eσ32 er32 br32 hE32 h => ?_)
      have hE32 : (∀ j : Int32, ga σ32 0 j = ga σ 0 j) ∧ ((gi σ32 11).toInt = (gi σ 11).toInt) ∧ ((gi σ 13).toInt ≤ (gi σ32 13).toInt) ∧ (PFr σ σ32) ∧ (0 ≤ (gi σ32 11).toInt ∧ (gi σ32 11).toInt ≤ 900) ∧ (0 ≤ (gi σ32 14).toInt ∧ (gi σ32 14).toInt ≤ (gi σ32 11).toInt) ∧ (0 ≤ (gi σ32 13).toInt ∧ (gi σ32 13).toInt ≤ (gi σ32 14).toInt) ∧ (Hd (¬ (gi σ32 12).toInt = 0 → (gi σ32 13).toInt < (gi σ32 14).toInt)) ∧ (r32.toInt = 0) := hE32
      obtain ⟨hA0_32, hsm_32, hmo_32, hFR_32, hsz_32, hen_32, hfr_32, htk_32, fz_32⟩ := hE32
      have hNEW : (0 ≤ (gi σ32 11).toInt ∧ (gi σ32 11).toInt ≤ 900) ∧ (0 ≤ (gi σ32 14).toInt ∧ (gi σ32 14).toInt ≤ (gi σ32 11).toInt) ∧ (0 ≤ (gi σ32 13).toInt ∧ (gi σ32 13).toInt ≤ (gi σ32 14).toInt) ∧ (Hd (¬ (gi σ32 12).toInt = 0 → (gi σ32 13).toInt < (gi σ32 14).toInt)) ∧ (∀ j : Int32, 0 ≤ j.toInt → ¬ j.toInt = p1.toInt → ga σ32 0 j = ga σ 0 j) ∧ ((gi σ32 11).toInt = (gi σ 11).toInt) ∧ ((gi σ 13).toInt ≤ (gi σ32 13).toInt) ∧ (PFr σ σ32) := ⟨(by first | assumption | omega), (by first | assumption | omega), (by first | assumption | omega), (by first | assumption | omega), (fun j h0 hj => (hA0_32 j).trans (hA1 j h0 hj)), (by first | assumption | omega), (by first | assumption | omega), (Fr.tr hFR hFR_32)⟩
      obtain ⟨hsz, hen, hfr, htk, hA1, hsm, hmo, hFR⟩ := hNEW
      clear hsm_32 hmo_32 hsz_32 hen_32 hfr_32 htk_32
      have he : f_X6_number σ p1 p2 p3 = (σ32, r32) := (by have eσ32 := eσ32.symm; subst eσ32; have er32 := er32.symm; subst er32; exact ((if_pos c5).trans ((if_pos c19).trans rfl)))
      exact M_retz C h hr hlocks (congrArg Prod.fst he) (congrArg Prod.snd he) br32 ⟨hA1, hsm, hmo, hFR, (by first | assumption | omega | (unfold Hd; omega)), (by first | assumption | omega | (unfold Hd; omega)), (by first | assumption | omega | (unfold Hd; omega)), (by first | assumption | omega | (unfold Hd; omega)), (by first | assumption | omega | (unfold Hd; omega)), (by first | exact Or.inr (by assumption) | exact Or.inl (hA0_32 p1) | exact Or.inl (hA0_10 p1))⟩ dX6_number_35
    · have i19 := c_nlt c19
      refine lv_aload_n hx hb dX6_number_22 rfl (lv_at hl 0 rfl) ?_
      refine Mg_15 C h dX6_number_23 ?_
      refine lv_iload_n hx hb dX6_number_26 rfl (lv_at hl 3 rfl) ?_
      refine lv_icmp_le (tgt := 36) hx hb dX6_number_27 (by decide) (fun c27 => ?_) (fun c27 => ?_)
      · have i27 := c_le c27
        refine lv_aload_n hx hb dX6_number_36 rfl (lv_at hl 0 rfl) ?_
        refine Mg_0 C h dX6_number_37 ?_
        refine lv_iload_n hx hb dX6_number_40 rfl (lv_at hl 1 rfl) ?_
        refine lv_aload_n hx hb dX6_number_41 rfl (lv_at hl 0 rfl) ?_
        refine Mg_15 C h dX6_number_42 ?_
        refine Ms_0 C h (ix_of (rfl : p1.toInt = p1.toInt) (by omega)) dX6_number_45 (fun σ45 H locs eσ45 h => ?_)
        have hNEW : (0 ≤ (gi σ45 11).toInt ∧ (gi σ45 11).toInt ≤ 900) ∧ (0 ≤ (gi σ45 14).toInt ∧ (gi σ45 14).toInt ≤ (gi σ45 11).toInt) ∧ (0 ≤ (gi σ45 13).toInt ∧ (gi σ45 13).toInt ≤ (gi σ45 14).toInt) ∧ (Hd (¬ (gi σ45 12).toInt = 0 → (gi σ45 13).toInt < (gi σ45 14).toInt)) ∧ (∀ j : Int32, 0 ≤ j.toInt → ¬ j.toInt = p1.toInt → ga σ45 0 j = ga σ 0 j) ∧ ((gi σ45 11).toInt = (gi σ 11).toInt) ∧ ((gi σ 13).toInt ≤ (gi σ45 13).toInt) ∧ (PFr σ σ45) := ⟨(by rw [eσ45, ] <;> exact hsz), (by rw [eσ45, ] <;> exact hen), (by rw [eσ45, ] <;> exact hfr), (by rw [eσ45, ] <;> exact htk), (by rw [eσ45]; exact (fun j h0 hj => (ga_sa_ne (rfl : p1.toInt = p1.toInt) rfl (by omega)).trans (hA1 j h0 hj))), (by rw [eσ45, ] <;> exact hsm), (by rw [eσ45, ] <;> exact hmo), (by rw [eσ45]; exact (Fr_sa (rfl : p1.toInt = p1.toInt) (by first | omega | (dsimp only; omega)) (by omega) hFR))⟩
        obtain ⟨hsz, hen, hfr, htk, hA1, hsm, hmo, hFR⟩ := hNEW
        have nv1 : p2.toInt ≤ (ga σ45 0 p1).toInt ∧ (ga σ45 0 p1).toInt ≤ p3.toInt := (by rw [eσ45, ga_sa_eq]; omega)
        refine lv_aload_n hx hb dX6_number_46 rfl (lv_at hl 0 rfl) ?_
        refine M_callv (As := []) (rest := []) 0 C h (k_X6_ahead l g σ45 (by first | assumption | omega) (by first | assumption | omega)) (lw_V q1707 q1709 qs69 q152 q1710) rfl rfl (by decide +kernel) ⟨Nat.le_of_ble_eq_true rfl, Nat.le_of_ble_eq_true rfl⟩ rfl hl.1 rfl (Nat.le_of_ble_eq_true rfl) ⟨Nat.le_of_ble_eq_true rfl, Nat.le_of_ble_eq_true rfl⟩ dX6_number_47 (fun σ47 H locs eσ47 hE47 h => ?_)
        have hE47 : (∀ j : Int32, ga σ47 0 j = ga σ45 0 j) ∧ ((gi σ47 11).toInt = (gi σ45 11).toInt) ∧ (PFr σ45 σ47) ∧ (0 ≤ (gi σ47 11).toInt ∧ (gi σ47 11).toInt ≤ 900) ∧ (0 ≤ (gi σ47 14).toInt ∧ (gi σ47 14).toInt ≤ (gi σ47 11).toInt) ∧ (0 ≤ (gi σ47 13).toInt ∧ (gi σ47 13).toInt ≤ (gi σ47 14).toInt) ∧ (Hd (¬ (gi σ47 12).toInt = 0 → (gi σ47 13).toInt < (gi σ47 14).toInt)) ∧ ((gi σ45 14).toInt ≤ (gi σ47 13).toInt) := hE47
        obtain ⟨hA0_47, hsm_47, hFR_47, hsz_47, hen_47, hfr_47, htk_47, hmf_47⟩ := hE47
        have hNEW : (0 ≤ (gi σ47 11).toInt ∧ (gi σ47 11).toInt ≤ 900) ∧ (0 ≤ (gi σ47 14).toInt ∧ (gi σ47 14).toInt ≤ (gi σ47 11).toInt) ∧ (0 ≤ (gi σ47 13).toInt ∧ (gi σ47 13).toInt ≤ (gi σ47 14).toInt) ∧ (Hd (¬ (gi σ47 12).toInt = 0 → (gi σ47 13).toInt < (gi σ47 14).toInt)) ∧ (∀ j : Int32, 0 ≤ j.toInt → ¬ j.toInt = p1.toInt → ga σ47 0 j = ga σ 0 j) ∧ ((gi σ47 11).toInt = (gi σ 11).toInt) ∧ ((gi σ 13).toInt ≤ (gi σ47 13).toInt) ∧ (PFr σ σ47) ∧ (p2.toInt ≤ (ga σ47 0 p1).toInt ∧ (ga σ47 0 p1).toInt ≤ p3.toInt) := ⟨(by first | assumption | omega), (by first | assumption | omega), (by first | assumption | omega), (by first | assumption | omega), (fun j h0 hj => (hA0_47 j).trans (hA1 j h0 hj)), (by first | assumption | omega), (by first | assumption | omega), (Fr.tr hFR hFR_47), (by simp only [hA0_47] <;> exact nv1)⟩
        clear hsz hen hfr htk hA1 hsm hmo hFR
        obtain ⟨hsz, hen, hfr, htk, hA1, hsm, hmo, hFR, nv1⟩ := hNEW
        clear hsm_47 hsz_47 hen_47 hfr_47 htk_47
        refine lv_iconst (v := 1) hx hb dX6_number_50 (by decide) ?_
        have he : f_X6_number σ p1 p2 p3 = (σ47, (1 : Int32)) := (by have eσ45 := eσ45.symm; subst eσ45; have eσ47 := eσ47.symm; subst eσ47; exact ((if_pos c5).trans ((if_neg c19).trans ((if_pos c27).trans rfl))))
        exact M_retz C h hr hlocks (congrArg Prod.fst he) (congrArg Prod.snd he) (Or.inr rfl) ⟨hA1, hsm, hmo, hFR, (by first | assumption | omega | (unfold Hd; omega)), (by first | assumption | omega | (unfold Hd; omega)), (by first | assumption | omega | (unfold Hd; omega)), (by first | assumption | omega | (unfold Hd; omega)), (by first | assumption | omega | (unfold Hd; omega)), (by first | exact Or.inr (by assumption) | exact Or.inl (hA0_32 p1) | exact Or.inl (hA0_10 p1))⟩ dX6_number_51
      · have i27 := c_nle c27
        refine lv_aload_n hx hb dX6_number_30 rfl (lv_at hl 0 rfl) ?_
        refine lv_iconst (v := 4) hx hb dX6_number_31 (by decide) ?_
        refine M_callz (As := [.int (4 : Int32)]) (rest := []) 1 C h (k_X6_fails l g σ (4 : Int32) (by first | assumption | omega) (by first | assumption | omega) (by first | assumption | omega) (by first | assumption | omega)) (lw_V q1742 q1744 qs75 q152 q1745) rfl rfl (by decide +kernel) ⟨Nat.le_of_ble_eq_true rfl, Nat.le_of_ble_eq_true rfl⟩ rfl hl.1 rfl (Nat.le_of_ble_eq_true rfl) ⟨Nat.le_of_ble_eq_true rfl, Nat.le_of_ble_eq_true rfl⟩ dX6_number_32 (fun r32 σ32 H locs eσ32 er32 br32 hE32 h => ?_)
        have hE32 : (∀ j : Int32, ga σ32 0 j = ga σ 0 j) ∧ ((gi σ32 11).toInt = (gi σ 11).toInt) ∧ ((gi σ 13).toInt ≤ (gi σ32 13).toInt) ∧ (PFr σ σ32) ∧ (0 ≤ (gi σ32 11).toInt ∧ (gi σ32 11).toInt ≤ 900) ∧ (0 ≤ (gi σ32 14).toInt ∧ (gi σ32 14).toInt ≤ (gi σ32 11).toInt) ∧ (0 ≤ (gi σ32 13).toInt ∧ (gi σ32 13).toInt ≤ (gi σ32 14).toInt) ∧ (Hd (¬ (gi σ32 12).toInt = 0 → (gi σ32 13).toInt < (gi σ32 14).toInt)) ∧ (r32.toInt = 0) := hE32
        obtain ⟨hA0_32, hsm_32, hmo_32, hFR_32, hsz_32, hen_32, hfr_32, htk_32, fz_32⟩ := hE32
        have hNEW : (0 ≤ (gi σ32 11).toInt ∧ (gi σ32 11).toInt ≤ 900) ∧ (0 ≤ (gi σ32 14).toInt ∧ (gi σ32 14).toInt ≤ (gi σ32 11).toInt) ∧ (0 ≤ (gi σ32 13).toInt ∧ (gi σ32 13).toInt ≤ (gi σ32 14).toInt) ∧ (Hd (¬ (gi σ32 12).toInt = 0 → (gi σ32 13).toInt < (gi σ32 14).toInt)) ∧ (∀ j : Int32, 0 ≤ j.toInt → ¬ j.toInt = p1.toInt → ga σ32 0 j = ga σ 0 j) ∧ ((gi σ32 11).toInt = (gi σ 11).toInt) ∧ ((gi σ 13).toInt ≤ (gi σ32 13).toInt) ∧ (PFr σ σ32) := ⟨(by first | assumption | omega), (by first | assumption | omega), (by first | assumption | omega), (by first | assumption | omega), (fun j h0 hj => (hA0_32 j).trans (hA1 j h0 hj)), (by first | assumption | omega), (by first | assumption | omega), (Fr.tr hFR hFR_32)⟩
        obtain ⟨hsz, hen, hfr, htk, hA1, hsm, hmo, hFR⟩ := hNEW
        clear hsm_32 hmo_32 hsz_32 hen_32 hfr_32 htk_32
        have he : f_X6_number σ p1 p2 p3 = (σ32, r32) := (by have eσ32 := eσ32.symm; subst eσ32; have er32 := er32.symm; subst er32; exact ((if_pos c5).trans ((if_neg c19).trans ((if_neg c27).trans rfl))))
        exact M_retz C h hr hlocks (congrArg Prod.fst he) (congrArg Prod.snd he) br32 ⟨hA1, hsm, hmo, hFR, (by first | assumption | omega | (unfold Hd; omega)), (by first | assumption | omega | (unfold Hd; omega)), (by first | assumption | omega | (unfold Hd; omega)), (by first | assumption | omega | (unfold Hd; omega)), (by first | assumption | omega | (unfold Hd; omega)), (by first | exact Or.inr (by assumption) | exact Or.inl (hA0_32 p1) | exact Or.inl (hA0_10 p1))⟩ dX6_number_35
  · have i5 := c_ne c5
    refine lv_aload_n hx hb dX6_number_8 rfl (lv_at hl 0 rfl) ?_
    refine lv_iconst (v := 2) hx hb dX6_number_9 (by decide) ?_
    refine M_callz (As := [.int (2 : Int32)]) (rest := []) 1 C h (k_X6_fails l g σ (2 : Int32) (by first | assumption | omega) (by first | assumption | omega) (by first | assumption | omega) (by first | assumption | omega)) (lw_V q1742 q1744 qs75 q152 q1745) rfl rfl (by decide +kernel) ⟨Nat.le_of_ble_eq_true rfl, Nat.le_of_ble_eq_true rfl⟩ rfl hl.1 rfl (Nat.le_of_ble_eq_true rfl) ⟨Nat.le_of_ble_eq_true rfl, Nat.le_of_ble_eq_true rfl⟩ dX6_number_10 (fun r10 σ10 H locs eσ10 er10 br10 hE10 h => ?_)
    have hE10 : (∀ j : Int32, ga σ10 0 j = ga σ 0 j) ∧ ((gi σ10 11).toInt = (gi σ 11).toInt) ∧ ((gi σ 13).toInt ≤ (gi σ10 13).toInt) ∧ (PFr σ σ10) ∧ (0 ≤ (gi σ10 11).toInt ∧ (gi σ10 11).toInt ≤ 900) ∧ (0 ≤ (gi σ10 14).toInt ∧ (gi σ10 14).toInt ≤ (gi σ10 11).toInt) ∧ (0 ≤ (gi σ10 13).toInt ∧ (gi σ10 13).toInt ≤ (gi σ10 14).toInt) ∧ (Hd (¬ (gi σ10 12).toInt = 0 → (gi σ10 13).toInt < (gi σ10 14).toInt)) ∧ (r10.toInt = 0) := hE10
    obtain ⟨hA0_10, hsm_10, hmo_10, hFR_10, hsz_10, hen_10, hfr_10, htk_10, fz_10⟩ := hE10
    have hNEW : (0 ≤ (gi σ10 11).toInt ∧ (gi σ10 11).toInt ≤ 900) ∧ (0 ≤ (gi σ10 14).toInt ∧ (gi σ10 14).toInt ≤ (gi σ10 11).toInt) ∧ (0 ≤ (gi σ10 13).toInt ∧ (gi σ10 13).toInt ≤ (gi σ10 14).toInt) ∧ (Hd (¬ (gi σ10 12).toInt = 0 → (gi σ10 13).toInt < (gi σ10 14).toInt)) ∧ (∀ j : Int32, 0 ≤ j.toInt → ¬ j.toInt = p1.toInt → ga σ10 0 j = ga σ 0 j) ∧ ((gi σ10 11).toInt = (gi σ 11).toInt) ∧ ((gi σ 13).toInt ≤ (gi σ10 13).toInt) ∧ (PFr σ σ10) := ⟨(by first | assumption | omega), (by first | assumption | omega), (by first | assumption | omega), (by first | assumption | omega), (fun j h0 hj => (hA0_10 j).trans (hA1 j h0 hj)), (by first | assumption | omega), (by first | assumption | omega), (Fr.tr hFR hFR_10)⟩
    obtain ⟨hsz, hen, hfr, htk, hA1, hsm, hmo, hFR⟩ := hNEW
    clear hsm_10 hmo_10 hsz_10 hen_10 hfr_10 htk_10
    have he : f_X6_number σ p1 p2 p3 = (σ10, r10) := (by have eσ10 := eσ10.symm; subst eσ10; have er10 := er10.symm; subst er10; exact ((if_neg c5).trans rfl))
    exact M_retz C h hr hlocks (congrArg Prod.fst he) (congrArg Prod.snd he) br10 ⟨hA1, hsm, hmo, hFR, (by first | assumption | omega | (unfold Hd; omega)), (by first | assumption | omega | (unfold Hd; omega)), (by first | assumption | omega | (unfold Hd; omega)), (by first | assumption | omega | (unfold Hd; omega)), (by first | assumption | omega | (unfold Hd; omega)), (by first | exact Or.inr (by assumption) | exact Or.inl (hA0_32 p1) | exact Or.inl (hA0_10 p1))⟩ dX6_number_13
