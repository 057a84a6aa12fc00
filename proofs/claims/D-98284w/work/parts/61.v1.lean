/-! walks of methods by contract, printed by gen/mkwalk.py -/
set_option maxRecDepth 100000
/-- what an act tells, in range -/
def AW (w o t : Int32) (N : Int) : Prop := (w.toInt = 0 → -1 ≤ o.toInt ∧ o.toInt < N) ∧ ((w.toInt = 1 ∨ w.toInt = 2 ∨ w.toInt = 3) → (0 ≤ o.toInt ∧ o.toInt < N) ∧ (0 ≤ t.toInt ∧ t.toInt < N))
def WWh (w o t : Int32) (N : Int) : Prop := (0 ≤ o.toInt ∧ o.toInt < N) ∧ (¬ w.toInt = 0 → ¬ w.toInt = 2 → 0 ≤ t.toInt ∧ t.toInt < N)
def vqf (σ : MS × MS) (q : Nat) : Int := (ga (ttb σ) 22 (nI q)).toInt
theorem vq_g {g : GV} {σ : MS × MS} {s : State} {H : Heap} {locs : List Loc} (h : wH (dV g) σ s H locs) (hQg : ∀ p : Nat, p < g.1.2.1 51 → 0 ≤ (g.1.2.2.2.2.1 2 p).toInt ∧ (g.1.2.2.2.2.1 2 p).toInt ≤ 20) {x : Int32} (hx : 0 ≤ x.toInt ∧ x.toInt < (gi (ttb σ) 1).toInt) : 0 ≤ (ga (ttb σ) 22 x).toInt ∧ (ga (ttb σ) 22 x).toInt ≤ 20 := by
  have hP : tP g.1 (ttb σ) := h.2.2.2
  have hn := tP_n hP
  have z := hP.2.1.2.1
  unfold ga
  rw [z]
  exact hQg _ (by show x.toInt.toNat < _; omega)
theorem vq_same {g : GV} {σ σ' : MS × MS} {s s' : State} {H H' : Heap} {locs locs' : List Loc} (h : wH (dV g) σ s H locs) (h' : wH (dV g) σ' s' H' locs') (x : Int32) : ga (ttb σ') 22 x = ga (ttb σ) 22 x := by
  have z : _ := (show tP g.1 (ttb σ) from h.2.2.2).2.1.2.1
  have z' : _ := (show tP g.1 (ttb σ') from h'.2.2.2).2.1.2.1
  unfold ga
  rw [z, z']
theorem vq_at {σ : MS × MS} {x : Int32} (hx : 0 ≤ x.toInt) : (ga (ttb σ) 22 x).toInt = vqf σ x.toInt.toNat := by
  unfold vqf; rw [nI_of_toInt hx]
def f_X14_draw (σ : MS × MS) (p1 : Int32) : (MS × MS) × Int32 := (let σ16 := lsi σ 1 ((((gi (own σ) 1) * (2917 : Int32)) + (11119 : Int32)) - (((((gi (own σ) 1) * (2917 : Int32)) + (11119 : Int32)) / (65536 : Int32)) * (65536 : Int32))); (σ16, (((gi (own σ16) 1) / (8 : Int32)) - ((((gi (own σ16) 1) / (8 : Int32)) / p1) * p1))))
set_option maxHeartbeats 4000000 in
set_option maxRecDepth 100000 in
theorem k_X14_draw (l : Launch) (g : GV) (σ : MS × MS) (p1 : Int32) (hlp : 0 ≤ (gi (ttb σ) 1).toInt ∧ (gi (ttb σ) 1).toInt ≤ 6) (hld : 0 ≤ (gi (ttb σ) 3).toInt ∧ (gi (ttb σ) 3).toInt ≤ 16 ∧ (gi (ttb σ) 3).toInt ≤ (g.1.2.1 50 : Int)) (hst : 0 ≤ (gi (own σ) 1).toInt ∧ (gi (own σ) 1).toInt ≤ 65535) (hby : 1 ≤ p1.toInt) : Met l yX14_draw (ws_ yX14_draw cX14_draw 2 (some .int)) ({ frames := 0, cells := 0, slots := 0, locals := 0 } : Room) (wPc (dV g) (g.2.1 99) σ [.int p1]) (wQi (dV g) (f_X14_draw σ p1).1 (f_X14_draw σ p1).2 (fun u r => ((gi (ttb u) 1).toInt = (gi (ttb σ) 1).toInt) ∧ ((gi (ttb u) 3).toInt = (gi (ttb σ) 3).toInt) ∧ (0 ≤ (gi (own u) 1).toInt ∧ (gi (own u) 1).toInt ≤ 65535) ∧ (0 ≤ r.toInt ∧ r.toInt < p1.toInt))) 0 0 (dV g).2.2.2.1 := by
  refine met_W RX14 (by decide) rfl (Nat.le_of_ble_eq_true rfl) ?_
  intro p e s m args below meth c C hr hlocks h ls hl
  have hx := C.1.1
  have hb := C.1.2.1
  have hml := C.1.2.2.1
  have hown := C.1.2.2.2.1
  have hts := C.1.2.2.2.2
  have hl : lv_has ls 2 [(0, .ref (g.2.1 99)), (1, .int p1)] := hl
  have hlpq : (gi (ttb σ) 1).toInt = (gi (ttb σ) 1).toInt := rfl
  have hldq : (gi (ttb σ) 3).toInt = (gi (ttb σ) 3).toInt := rfl
  have zl8 : (8 : Int32).toInt = 8 := rfl
  have zl2917 : (2917 : Int32).toInt = 2917 := rfl
  have zl11119 : (11119 : Int32).toInt = 11119 := rfl
  have zl65536 : (65536 : Int32).toInt = 65536 := rfl
  refine lv_aload_n hx hb dX14_draw_0 rfl (lv_at hl 0 rfl) ?_
  refine lv_aload_n hx hb dX14_draw_1 rfl (lv_at hl 0 rfl) ?_
  refine V14_g1 C h dX14_draw_2 ?_
  refine lv_sipush (v := 2917) hx hb dX14_draw_5 (by decide) ?_
  refine lv_imul hx hb dX14_draw_8 ?_
  refine lv_sipush (v := 11119) hx hb dX14_draw_9 (by decide) ?_
  refine lv_iadd hx hb dX14_draw_12 ?_
  refine lv_ldc hx hb hown (hts _ q1481) dX14_draw_13 ?_
  refine lv_irem hx hb dX14_draw_15 (by decide) ?_
  refine V14_p1 C h dX14_draw_16 (fun σ16 H locs eσ16 h => ?_)
  have hNEW : (0 ≤ (gi (ttb σ16) 1).toInt ∧ (gi (ttb σ16) 1).toInt ≤ 6) ∧ (0 ≤ (gi (ttb σ16) 3).toInt ∧ (gi (ttb σ16) 3).toInt ≤ 16 ∧ (gi (ttb σ16) 3).toInt ≤ (g.1.2.1 50 : Int)) ∧ (0 ≤ (gi (own σ16) 1).toInt ∧ (gi (own σ16) 1).toInt ≤ 65535) ∧ ((gi (ttb σ16) 1).toInt = (gi (ttb σ) 1).toInt) ∧ ((gi (ttb σ16) 3).toInt = (gi (ttb σ) 3).toInt) := ⟨(by rw [eσ16] <;> exact hlp), (by rw [eσ16] <;> exact hld), (by rw [eσ16]; exact draw_rng hst), (by rw [eσ16] <;> exact hlpq), (by rw [eσ16] <;> exact hldq)⟩
  obtain ⟨hlp, hld, hst, hlpq, hldq⟩ := hNEW
  refine lv_aload_n hx hb dX14_draw_19 rfl (lv_at hl 0 rfl) ?_
  refine V14_g1 C h dX14_draw_20 ?_
  have d8 := idiv_toInt (a := gi (own σ16) 1) (b := 8) (by omega) (by decide)
  rw [zl8] at d8
  have rr := irem_rng (a := gi (own σ16) 1 / 8) (b := p1) (by omega) hby
  refine lv_bipush (v := 8) hx hb dX14_draw_23 (by decide) ?_
  refine lv_idiv hx hb dX14_draw_25 (by decide) ?_
  refine lv_iload_n hx hb dX14_draw_26 rfl (lv_at hl 1 rfl) ?_
  refine lv_irem hx hb dX14_draw_27 (ne_pos hby) ?_
  have he : f_X14_draw σ p1 = (σ16, (((gi (own σ16) 1) / (8 : Int32)) - ((((gi (own σ16) 1) / (8 : Int32)) / p1) * p1))) := (by have eσ16 := eσ16.symm; subst eσ16; exact rfl)
  exact w_reti (wXV g) C h hr hlocks (congrArg Prod.fst he) (congrArg Prod.snd he) ⟨hlpq, hldq, (by first | assumption | omega | (unfold Hd; omega)), (by first | assumption | omega | (unfold Hd; omega))⟩ dX14_draw_28
def f_X14_pays (σ : MS × MS) (p1 : Int32) : (MS × MS) × Int32 := (let z5 := (f_X5_pays (ttb σ) p1); let σ5 := tput σ z5.1; let r5 := z5.2; if r5 = (0 : Int32) then ((σ5, (0 : Int32))) else ((let σ20 := lsi σ5 4 ((gi (own σ5) 4) + (1 : Int32)); (σ20, (1 : Int32)))))
set_option maxHeartbeats 4000000 in
set_option maxRecDepth 100000 in
theorem k_X14_pays (l : Launch) (g : GV) (σ : MS × MS) (p1 : Int32) (hlp : 0 ≤ (gi (ttb σ) 1).toInt ∧ (gi (ttb σ) 1).toInt ≤ 6) (hld : 0 ≤ (gi (ttb σ) 3).toInt ∧ (gi (ttb σ) 3).toInt ≤ 16 ∧ (gi (ttb σ) 3).toInt ≤ (g.1.2.1 50 : Int)) (hst : 0 ≤ (gi (own σ) 1).toInt ∧ (gi (own σ) 1).toInt ≤ 65535) (h1r : 0 ≤ p1.toInt ∧ p1.toInt ≤ 5) : Met l yX14_pays (ws_ yX14_pays cX14_pays 2 (some .boolean)) ({ frames := 5, cells := 0, slots := 0, locals := 113 } : Room) (wPc (dV g) (g.2.1 99) σ [.int p1]) (wQz (dV g) (f_X14_pays σ p1).1 (f_X14_pays σ p1).2 (fun u r => ((gi (ttb u) 1).toInt = (gi (ttb σ) 1).toInt) ∧ ((gi (ttb u) 3).toInt = (gi (ttb σ) 3).toInt) ∧ (0 ≤ (gi (own u) 1).toInt ∧ (gi (own u) 1).toInt ≤ 65535))) 0 0 (dV g).2.2.2.1 := by
  refine met_W RX14 (by decide) rfl (Nat.le_of_ble_eq_true rfl) ?_
  intro p e s m args below meth c C hr hlocks h ls hl
  have hx := C.1.1
  have hb := C.1.2.1
  have hml := C.1.2.2.1
  have hown := C.1.2.2.2.1
  have hts := C.1.2.2.2.2
  have hl : lv_has ls 2 [(0, .ref (g.2.1 99)), (1, .int p1)] := hl
  have hlpq : (gi (ttb σ) 1).toInt = (gi (ttb σ) 1).toInt := rfl
  have hldq : (gi (ttb σ) 3).toInt = (gi (ttb σ) 3).toInt := rfl
  have zl0 : (0 : Int32).toInt = 0 := rfl
  have zl1 : (1 : Int32).toInt = 1 := rfl
  refine lv_aload_n hx hb dX14_pays_0 rfl (lv_at hl 0 rfl) ?_
  refine V14_g0 C h dX14_pays_1 ?_
  refine lv_iload_n hx hb dX14_pays_4 rfl (lv_at hl 1 rfl) ?_
  refine V_tcallz (As := [.int p1]) (rest := []) 1 C h (k_X5_pays l g.1 (ttb σ) p1 (by first | assumption | omega) (by first | assumption | omega) (by first | assumption | omega)) (lw_V q1472 q1140 q1141 q151 q1142) rfl rfl (by decide +kernel) ⟨Nat.le_of_ble_eq_true rfl, Nat.le_of_ble_eq_true rfl⟩ rfl hl.1 rfl (Nat.le_of_ble_eq_true rfl) ⟨Nat.le_of_ble_eq_true rfl, Nat.le_of_ble_eq_true rfl⟩ dX14_pays_5 (fun r5 σ5 H locs eσ5 er5 br5 hE5 h => ?_)
  have hE5 : ((gi (ttb σ5) 1).toInt = (gi (ttb σ) 1).toInt) ∧ ((gi (ttb σ5) 3).toInt = (gi (ttb σ) 3).toInt) ∧ (Fr [6, 7] [11, 12, 13] (fun _ => False) (fun _ => False) (ttb σ) (ttb σ5)) := hE5
  obtain ⟨htpq_5, htdq_5, hXF_5⟩ := hE5
  have hNEW : (0 ≤ (gi (ttb σ5) 1).toInt ∧ (gi (ttb σ5) 1).toInt ≤ 6) ∧ (0 ≤ (gi (ttb σ5) 3).toInt ∧ (gi (ttb σ5) 3).toInt ≤ 16 ∧ (gi (ttb σ5) 3).toInt ≤ (g.1.2.1 50 : Int)) ∧ (0 ≤ (gi (own σ5) 1).toInt ∧ (gi (own σ5) 1).toInt ≤ 65535) ∧ ((gi (ttb σ5) 1).toInt = (gi (ttb σ) 1).toInt) ∧ ((gi (ttb σ5) 3).toInt = (gi (ttb σ) 3).toInt) := ⟨(by first | assumption | omega), (by first | assumption | omega), (by rw [eσ5]; exact hst), (by first | assumption | omega), (by first | assumption | omega)⟩
  obtain ⟨hlp, hld, hst, hlpq, hldq⟩ := hNEW
  refine lv_if_ne (tgt := 13) hx hb dX14_pays_8 (by decide) (fun c8 => ?_) (fun c8 => ?_)
  · have i8 := c_ne c8
    refine lv_aload_n hx hb dX14_pays_13 rfl (lv_at hl 0 rfl) ?_
    refine lv_dup hx hb dX14_pays_14 rfl ?_
    refine V14_g4 C h dX14_pays_15 ?_
    refine lv_iconst (v := 1) hx hb dX14_pays_18 (by decide) ?_
    refine lv_iadd hx hb dX14_pays_19 ?_
    refine V14_p4 C h dX14_pays_20 (fun σ20 H locs eσ20 h => ?_)
    have hNEW : (0 ≤ (gi (ttb σ20) 1).toInt ∧ (gi (ttb σ20) 1).toInt ≤ 6) ∧ (0 ≤ (gi (ttb σ20) 3).toInt ∧ (gi (ttb σ20) 3).toInt ≤ 16 ∧ (gi (ttb σ20) 3).toInt ≤ (g.1.2.1 50 : Int)) ∧ (0 ≤ (gi (own σ20) 1).toInt ∧ (gi (own σ20) 1).toInt ≤ 65535) ∧ ((gi (ttb σ20) 1).toInt = (gi (ttb σ) 1).toInt) ∧ ((gi (ttb σ20) 3).toInt = (gi (ttb σ) 3).toInt) := ⟨(by rw [eσ20] <;> exact hlp), (by rw [eσ20] <;> exact hld), (by rw [eσ20] <;> exact hst), (by rw [eσ20] <;> exact hlpq), (by rw [eσ20] <;> exact hldq)⟩
    clear hlp hld hst hlpq hldq
    obtain ⟨hlp, hld, hst, hlpq, hldq⟩ := hNEW
    refine lv_iconst (v := 1) hx hb dX14_pays_23 (by decide) ?_
    have he : f_X14_pays σ p1 = (σ20, (1 : Int32)) := (by have eσ5 := eσ5.symm; subst eσ5; have er5 := er5.symm; subst er5; have eσ20 := eσ20.symm; subst eσ20; exact ((if_neg c8).trans rfl))
    exact w_retz (wXV g) C h hr hlocks (congrArg Prod.fst he) (congrArg Prod.snd he) (Or.inr rfl) ⟨hlpq, hldq, (by first | assumption | omega | (unfold Hd; omega))⟩ dX14_pays_24
  · have i8 := c_eq c8
    refine lv_iconst (v := 0) hx hb dX14_pays_11 (by decide) ?_
    have he : f_X14_pays σ p1 = (σ5, (0 : Int32)) := (by have eσ5 := eσ5.symm; subst eσ5; have er5 := er5.symm; subst er5; exact ((if_pos c8).trans rfl))
    exact w_retz (wXV g) C h hr hlocks (congrArg Prod.fst he) (congrArg Prod.snd he) (Or.inl rfl) ⟨hlpq, hldq, (by first | assumption | omega | (unfold Hd; omega))⟩ dX14_pays_12
def f_X13_reaches_L5 (σ : MS × MS) : Nat → Int32 → Int32 → Int32 × Int32
  | 0, x3_5, x4_5 => (x3_5, x4_5)
  | n + 1, x3_5, x4_5 => if (gi (ttb σ) 1) ≤ x4_5 then ((x3_5, x4_5)) else ((let v26 := (x3_5 + (ga (ttb σ) 22 x4_5)); f_X13_reaches_L5 σ n v26 (x4_5 + (1 : Int32))))
def f_X13_reaches_L49 (σ : MS × MS) : Nat → Int32 → Int32 → Int32 × Int32
  | 0, x4_49, x5_49 => (x4_49, x5_49)
  | n + 1, x4_49, x5_49 => if x4_49 < (ga (ttb σ) 22 x5_49) then ((x4_49, x5_49)) else ((let v77 := (x4_49 - (ga (ttb σ) 22 x5_49)); f_X13_reaches_L49 σ n v77 (x5_49 + (1 : Int32))))
def f_X13_reaches (σ : MS × MS) (w0 : Int32) (w1 : Int32) (w2 : Int32) (w3 : Int32) : (MS × MS) × Int32 := (let zL5 := f_X13_reaches_L5 σ (7) (0 : Int32) (0 : Int32); let x3_5e := zL5.1; let x4_5e := zL5.2; if x3_5e = (0 : Int32) then ((σ, (0 : Int32))) else ((let z41 := (f_X14_draw σ x3_5e); let σ41 := z41.1; let r41 := z41.2; (let zL49 := f_X13_reaches_L49 σ41 (7) r41 (0 : Int32); let x4_49e := zL49.1; let x5_49e := zL49.2; (let z88 := (f_X14_pays σ41 x5_49e); let σ88 := z88.1; let r88 := z88.2; (σ88, r88))))))
set_option maxHeartbeats 4000000 in
set_option maxRecDepth 100000 in
theorem k_X13_reaches (l : Launch) (g : GV) (σ : MS × MS) (a ka : Nat) (w0 : Int32) (w1 : Int32) (w2 : Int32) (w3 : Int32) (ha : g.2.2[ka]? = some (a, .inr (11, [.int w0, .int w1, .int w2, .int w3]))) (hlp : 0 ≤ (gi (ttb σ) 1).toInt ∧ (gi (ttb σ) 1).toInt ≤ 6) (hld : 0 ≤ (gi (ttb σ) 3).toInt ∧ (gi (ttb σ) 3).toInt ≤ 16 ∧ (gi (ttb σ) 3).toInt ≤ (g.1.2.1 50 : Int)) (hst : 0 ≤ (gi (own σ) 1).toInt ∧ (gi (own σ) 1).toInt ≤ 65535) (hQg : ∀ p : Nat, p < g.1.2.1 51 → 0 ≤ (g.1.2.2.2.2.1 2 p).toInt ∧ (g.1.2.2.2.2.1 2 p).toInt ≤ 20) : Met l yX13_reaches (ws_ yX13_reaches cX13_reaches 6 (some .boolean)) ({ frames := 6, cells := 0, slots := 0, locals := 134 } : Room) (wPc (dV g) a σ [.ref (g.2.1 99), .ref (g.1.2.1 99)]) (wQz (dV g) (f_X13_reaches σ w0 w1 w2 w3).1 (f_X13_reaches σ w0 w1 w2 w3).2 (fun u r => ((gi (ttb u) 1).toInt = (gi (ttb σ) 1).toInt) ∧ ((gi (ttb u) 3).toInt = (gi (ttb σ) 3).toInt) ∧ (0 ≤ (gi (own u) 1).toInt ∧ (gi (own u) 1).toInt ≤ 65535))) 0 0 (dV g).2.2.2.1 := by
  refine met_W RX13 (by decide) rfl (Nat.le_of_ble_eq_true rfl) ?_
  intro p e s m args below meth c C hr hlocks h ls hl
  have hx := C.1.1
  have hb := C.1.2.1
  have hml := C.1.2.2.1
  have hown := C.1.2.2.2.1
  have hts := C.1.2.2.2.2
  have hl : lv_has ls 6 [(0, .ref a), (1, .ref (g.2.1 99)), (2, .ref (g.1.2.1 99))] := hl
  have hlpq : (gi (ttb σ) 1).toInt = (gi (ttb σ) 1).toInt := rfl
  have hldq : (gi (ttb σ) 3).toInt = (gi (ttb σ) 3).toInt := rfl
  have zl0 : (0 : Int32).toInt = 0 := rfl
  have zl1 : (1 : Int32).toInt = 1 := rfl
  refine lv_iconst (v := 0) hx hb dX13_reaches_0 (by decide) ?_
  refine lv_istore_n (lv' := [(3, .int (0 : Int32)), (0, .ref a), (1, .ref (g.2.1 99)), (2, .ref (g.1.2.1 99))]) hx hb dX13_reaches_1 rfl hl (by decide) rfl (fun ls hl => ?_)
  refine lv_iconst (v := 0) hx hb dX13_reaches_2 (by decide) ?_
  refine lv_istore (lv' := [(4, .int (0 : Int32)), (3, .int (0 : Int32)), (0, .ref a), (1, .ref (g.2.1 99)), (2, .ref (g.1.2.1 99))]) hx hb dX13_reaches_3 hl (by decide) rfl (fun ls hl => ?_)
  have hL5 : ∀ (n : Nat) (x3_5 : Int32) (x4_5 : Int32) (H : Heap) (locs : List Loc) (ls : Array Slot), (0 ≤ x4_5.toInt ∧ x4_5.toInt ≤ (gi (ttb σ) 1).toInt ∧ 0 ≤ x3_5.toInt ∧ x3_5.toInt ≤ 20 * x4_5.toInt ∧ x3_5.toInt = isum (vqf σ) x4_5.toInt.toNat) → ((gi (ttb σ) 1).toInt - x4_5.toInt).toNat < n → wH (dV g) σ s H locs → lv_has ls 6 [(1, .ref (g.2.1 99)), (2, .ref (g.1.2.1 99)), (3, .int x3_5), (4, .int x4_5)] → (∀ (x3_5' : Int32) (x4_5' : Int32) (H : Heap) (locs : List Loc) (ls : Array Slot), f_X13_reaches_L5 σ n x3_5 x4_5 = (x3_5', x4_5') → (0 ≤ x3_5'.toInt ∧ x3_5'.toInt ≤ 120 ∧ x3_5'.toInt = isum (vqf σ) (gi (ttb σ) 1).toInt.toNat) → wH (dV g) σ s H locs → lv_has ls 6 [(1, .ref (g.2.1 99)), (2, .ref (g.1.2.1 99)), (3, .int x3_5')] → W p l e ({ frames := 6, cells := 0, slots := 0, locals := 134 } : Room) s m args below meth c H locs 0 0 (MQ below (wQz (dV g) (f_X13_reaches σ w0 w1 w2 w3).1 (f_X13_reaches σ w0 w1 w2 w3).2 (fun u r => ((gi (ttb u) 1).toInt = (gi (ttb σ) 1).toInt) ∧ ((gi (ttb u) 3).toInt = (gi (ttb σ) 3).toInt) ∧ (0 ≤ (gi (own u) 1).toInt ∧ (gi (own u) 1).toInt ≤ 65535))) args s 0 0 (dV g).2.2.2.1) (F0 m 33 ls [])) → W p l e ({ frames := 6, cells := 0, slots := 0, locals := 134 } : Room) s m args below meth c H locs 0 0 (MQ below (wQz (dV g) (f_X13_reaches σ w0 w1 w2 w3).1 (f_X13_reaches σ w0 w1 w2 w3).2 (fun u r => ((gi (ttb u) 1).toInt = (gi (ttb σ) 1).toInt) ∧ ((gi (ttb u) 3).toInt = (gi (ttb σ) 3).toInt) ∧ (0 ≤ (gi (own u) 1).toInt ∧ (gi (own u) 1).toInt ≤ 65535))) args s 0 0 (dV g).2.2.2.1) (F0 m 5 ls []) := by
    intro n
    induction n with
    | zero =>
      intro x3_5 x4_5 H locs ls _ hm; exact absurd hm (Nat.not_lt_zero _)
    | succ n ih =>
      intro x3_5 x4_5 H locs ls hI5 hm h hl kk
      refine lv_iload hx hb dX13_reaches_5 (lv_at hl 3 rfl) ?_
      refine lv_aload_n hx hb dX13_reaches_7 rfl (lv_at hl 1 rfl) ?_
      refine V13_t1 C h dX13_reaches_8 ?_
      refine lv_icmp_ge (tgt := 33) hx hb dX13_reaches_11 (by decide) (fun c11 => ?_) (fun c11 => ?_)
      · have i11 := c_le c11
        exact kk x3_5 x4_5 _ _ _ (show f_X13_reaches_L5 σ (n + 1) x3_5 x4_5 = (x3_5, x4_5) from (by exact ((if_pos c11).trans rfl)))  (by have e := (show x4_5.toInt = (gi (ttb σ) 1).toInt by omega); rw [← e]; omega) h (lv_sub hl [0, 1, 2] rfl)
      · have i11 := c_nle c11
        refine lv_iload_n hx hb dX13_reaches_14 rfl (lv_at hl 2 rfl) ?_
        refine lv_aload_n hx hb dX13_reaches_15 rfl (lv_at hl 1 rfl) ?_
        refine V13_t0 C h dX13_reaches_16 ?_
        refine lv_iload hx hb dX13_reaches_19 (lv_at hl 3 rfl) ?_
        refine V_pers C h (by omega) dX13_reaches_21 ?_
        have vq0 := vq_g h hQg (x := x4_5) (by omega)
        have vq1 := vq_at (σ := σ) (x := x4_5) (by omega)
        refine V13_f2 C h (by omega) dX13_reaches_22 ?_
        refine lv_iadd hx hb dX13_reaches_25 ?_
        refine lv_topi (fun v26 ev26 => ?_)
        have tv26 : v26.toInt = (x3_5.toInt + (ga (ttb σ) 22 x4_5).toInt) := by rw [ev26]; exact (i_add (rfl : x3_5.toInt = x3_5.toInt) (rfl : (ga (ttb σ) 22 x4_5).toInt = (ga (ttb σ) 22 x4_5).toInt) (by omega))
        refine lv_istore_n (lv' := [(3, .int v26), (1, .ref (g.2.1 99)), (2, .ref (g.1.2.1 99)), (4, .int x4_5)]) hx hb dX13_reaches_26 rfl hl (by decide) rfl (fun ls hl => ?_)
        refine lv_iinc (v := (x4_5 + (1 : Int32))) (lv' := [(4, .int (x4_5 + (1 : Int32))), (3, .int v26), (1, .ref (g.2.1 99)), (2, .ref (g.1.2.1 99))]) hx hb dX13_reaches_27 hl (k := 3) rfl rfl (by decide) rfl (fun ls hl => ?_)
        refine lv_goto (tgt := 5) hx hb dX13_reaches_30 (by decide) ?_
        have tt4 : (x4_5 + (1 : Int32)).toInt = (x4_5.toInt + (1)) := (i_add (rfl : x4_5.toInt = x4_5.toInt) zl1 (by omega))
        have s3 : isum (vqf σ) (x4_5 + (1 : Int32)).toInt.toNat = isum (vqf σ) x4_5.toInt.toNat + vqf σ x4_5.toInt.toNat := by rw [show (x4_5 + (1 : Int32)).toInt.toNat = x4_5.toInt.toNat + 1 by rw [i_add (a := x4_5) rfl zl1 (by omega)]; omega]; rfl
        exact ih v26 (x4_5 + (1 : Int32)) _ _ _  (by first | assumption | omega) (by omega) h (lv_sub hl [2, 3, 1, 0] rfl) (fun x3_5' x4_5' H locs ls en hI h hl => kk x3_5' x4_5' H locs ls ((show f_X13_reaches_L5 σ (n + 1) x3_5 x4_5 = f_X13_reaches_L5 σ n v26 (x4_5 + (1 : Int32)) from (by have ev26 := ev26.symm; subst ev26; exact ((if_neg c11).trans rfl))).trans en) hI h hl)
  refine hL5 (7) (0 : Int32) (0 : Int32) _ _ _  ⟨by omega, by omega, by omega, by omega, rfl⟩ (by omega) h (lv_sub hl [3, 4, 1, 0] rfl) (fun x3_5e x4_5e H locs ls eL5 hI5 h hl => ?_)
  have ex3_5e : x3_5e = (f_X13_reaches_L5 σ (7) (0 : Int32) (0 : Int32)).1 := by rw [eL5]
  have ex4_5e : x4_5e = (f_X13_reaches_L5 σ (7) (0 : Int32) (0 : Int32)).2 := by rw [eL5]
  refine lv_iload_n hx hb dX13_reaches_33 rfl (lv_at hl 2 rfl) ?_
  refine lv_if_ne (tgt := 39) hx hb dX13_reaches_34 (by decide) (fun c34 => ?_) (fun c34 => ?_)
  · have i34 := c_ne c34
    have h00 := h
    have ne0 : ¬ x3_5e.toInt = 0 := fun q => c34 (Int32.toInt_inj.mp (by rw [zl0]; exact q))
    refine lv_aload_n hx hb dX13_reaches_39 rfl (lv_at hl 0 rfl) ?_
    refine lv_iload_n hx hb dX13_reaches_40 rfl (lv_at hl 2 rfl) ?_
    refine w_calli (ci := 12) (q0 := 6) (As := [.int x3_5e]) (rest := []) 1 (wXV g) C h (k_X14_draw l g σ x3_5e (by first | assumption | omega) (by first | assumption | omega) (by first | assumption | omega) (by first | assumption | omega)) (lw_V q1477 q1478 q1479 q172 q1480) rfl rfl rfl rfl (by decide +kernel) ⟨Nat.le_of_ble_eq_true rfl, Nat.le_of_ble_eq_true rfl⟩ rfl hl.1 rfl (Nat.le_of_ble_eq_true rfl) ⟨Nat.le_of_ble_eq_true rfl, Nat.le_of_ble_eq_true rfl⟩ dX13_reaches_41 (fun r41 σ41 H locs eσ41 er41 hE41 h => ?_)
    have hE41 : ((gi (ttb σ41) 1).toInt = (gi (ttb σ) 1).toInt) ∧ ((gi (ttb σ41) 3).toInt = (gi (ttb σ) 3).toInt) ∧ (0 ≤ (gi (own σ41) 1).toInt ∧ (gi (own σ41) 1).toInt ≤ 65535) ∧ (0 ≤ r41.toInt ∧ r41.toInt < x3_5e.toInt) := hE41
    obtain ⟨hlpq_41, hldq_41, hst_41, drg_41⟩ := hE41
    have hNEW : (0 ≤ (gi (ttb σ41) 1).toInt ∧ (gi (ttb σ41) 1).toInt ≤ 6) ∧ (0 ≤ (gi (ttb σ41) 3).toInt ∧ (gi (ttb σ41) 3).toInt ≤ 16 ∧ (gi (ttb σ41) 3).toInt ≤ (g.1.2.1 50 : Int)) ∧ (0 ≤ (gi (own σ41) 1).toInt ∧ (gi (own σ41) 1).toInt ≤ 65535) ∧ ((gi (ttb σ41) 1).toInt = (gi (ttb σ) 1).toInt) ∧ ((gi (ttb σ41) 3).toInt = (gi (ttb σ) 3).toInt) := ⟨(by first | assumption | omega), (by first | assumption | omega), (by first | assumption | omega), (by first | assumption | omega), (by first | assumption | omega)⟩
    obtain ⟨hlp, hld, hst, hlpq, hldq⟩ := hNEW
    have hs41 : isum (vqf σ41) (gi (ttb σ41) 1).toInt.toNat = isum (vqf σ) (gi (ttb σ) 1).toInt.toNat := by rw [hlpq_41]; exact isum_eq _ (fun q hq => by unfold vqf; rw [vq_same h00 h])
    refine lv_istore (lv' := [(4, .int r41), (1, .ref (g.2.1 99)), (2, .ref (g.1.2.1 99)), (3, .int x3_5e)]) hx hb dX13_reaches_44 hl (by decide) rfl (fun ls hl => ?_)
    refine lv_iconst (v := 0) hx hb dX13_reaches_46 (by decide) ?_
    refine lv_istore (lv' := [(5, .int (0 : Int32)), (4, .int r41), (1, .ref (g.2.1 99)), (2, .ref (g.1.2.1 99)), (3, .int x3_5e)]) hx hb dX13_reaches_47 hl (by decide) rfl (fun ls hl => ?_)
    have hL49 : ∀ (n : Nat) (x4_49 : Int32) (x5_49 : Int32) (H : Heap) (locs : List Loc) (ls : Array Slot), (0 ≤ x4_49.toInt ∧ x4_49.toInt ≤ 200 ∧ 0 ≤ x5_49.toInt ∧ x5_49.toInt ≤ (gi (ttb σ41) 1).toInt ∧ x4_49.toInt + isum (vqf σ41) x5_49.toInt.toNat < isum (vqf σ41) (gi (ttb σ41) 1).toInt.toNat) → ((gi (ttb σ41) 1).toInt - x5_49.toInt).toNat < n → wH (dV g) σ41 s H locs → lv_has ls 6 [(1, .ref (g.2.1 99)), (2, .ref (g.1.2.1 99)), (4, .int x4_49), (5, .int x5_49)] → (∀ (x4_49' : Int32) (x5_49' : Int32) (H : Heap) (locs : List Loc) (ls : Array Slot), f_X13_reaches_L49 σ41 n x4_49 x5_49 = (x4_49', x5_49') → (0 ≤ x5_49'.toInt ∧ x5_49'.toInt < (gi (ttb σ41) 1).toInt) → wH (dV g) σ41 s H locs → lv_has ls 6 [(1, .ref (g.2.1 99)), (5, .int x5_49')] → W p l e ({ frames := 6, cells := 0, slots := 0, locals := 134 } : Room) s m args below meth c H locs 0 0 (MQ below (wQz (dV g) (f_X13_reaches σ w0 w1 w2 w3).1 (f_X13_reaches σ w0 w1 w2 w3).2 (fun u r => ((gi (ttb u) 1).toInt = (gi (ttb σ) 1).toInt) ∧ ((gi (ttb u) 3).toInt = (gi (ttb σ) 3).toInt) ∧ (0 ≤ (gi (own u) 1).toInt ∧ (gi (own u) 1).toInt ≤ 65535))) args s 0 0 (dV g).2.2.2.1) (F0 m 85 ls [])) → W p l e ({ frames := 6, cells := 0, slots := 0, locals := 134 } : Room) s m args below meth c H locs 0 0 (MQ below (wQz (dV g) (f_X13_reaches σ w0 w1 w2 w3).1 (f_X13_reaches σ w0 w1 w2 w3).2 (fun u r => ((gi (ttb u) 1).toInt = (gi (ttb σ) 1).toInt) ∧ ((gi (ttb u) 3).toInt = (gi (ttb σ) 3).toInt) ∧ (0 ≤ (gi (own u) 1).toInt ∧ (gi (own u) 1).toInt ≤ 65535))) args s 0 0 (dV g).2.2.2.1) (F0 m 49 ls []) := by
      intro n
      induction n with
      | zero =>
        intro x4_49 x5_49 H locs ls _ hm; exact absurd hm (Nat.not_lt_zero _)
      | succ n ih =>
        intro x4_49 x5_49 H locs ls hI49 hm h hl kk
        have pn : x5_49.toInt < (gi (ttb σ41) 1).toInt := Int.not_le.mp (fun q => by have e := (show x5_49.toInt = (gi (ttb σ41) 1).toInt by omega); have z := hI49.2.2.2.2; rw [e] at z; omega)
        refine lv_iload hx hb dX13_reaches_49 (lv_at hl 2 rfl) ?_
        refine lv_aload_n hx hb dX13_reaches_51 rfl (lv_at hl 1 rfl) ?_
        refine V13_t0 C h dX13_reaches_52 ?_
        refine lv_iload hx hb dX13_reaches_55 (lv_at hl 3 rfl) ?_
        refine V_pers C h (by omega) dX13_reaches_57 ?_
        have q58 := vq_at (σ := σ41) (x := x5_49) (by omega)
        have q59 := vq_g h hQg (x := x5_49) (by omega)
        refine V13_f2 C h (by omega) dX13_reaches_58 ?_
        refine lv_icmp_lt (tgt := 85) hx hb dX13_reaches_61 (by decide) (fun c61 => ?_) (fun c61 => ?_)
        · have i61 := c_lt c61
          exact kk x4_49 x5_49 _ _ _ (show f_X13_reaches_L49 σ41 (n + 1) x4_49 x5_49 = (x4_49, x5_49) from (by exact ((if_pos c61).trans rfl)))  (by omega) h (lv_sub hl [0, 3] rfl)
        · have i61 := c_nlt c61
          refine lv_iload hx hb dX13_reaches_64 (lv_at hl 2 rfl) ?_
          refine lv_aload_n hx hb dX13_reaches_66 rfl (lv_at hl 1 rfl) ?_
          refine V13_t0 C h dX13_reaches_67 ?_
          refine lv_iload hx hb dX13_reaches_70 (lv_at hl 3 rfl) ?_
          refine V_pers C h (by omega) dX13_reaches_72 ?_
          refine V13_f2 C h (by omega) dX13_reaches_73 ?_
          refine lv_isub hx hb dX13_reaches_76 ?_
          refine lv_topi (fun v77 ev77 => ?_)
          have tv77 : v77.toInt = (x4_49.toInt - (ga (ttb σ41) 22 x5_49).toInt) := by rw [ev77]; exact (i_sub (rfl : x4_49.toInt = x4_49.toInt) (rfl : (ga (ttb σ41) 22 x5_49).toInt = (ga (ttb σ41) 22 x5_49).toInt) (by omega))
          refine lv_istore (lv' := [(4, .int v77), (1, .ref (g.2.1 99)), (2, .ref (g.1.2.1 99)), (5, .int x5_49)]) hx hb dX13_reaches_77 hl (by decide) rfl (fun ls hl => ?_)
          refine lv_iinc (v := (x5_49 + (1 : Int32))) (lv' := [(5, .int (x5_49 + (1 : Int32))), (4, .int v77), (1, .ref (g.2.1 99)), (2, .ref (g.1.2.1 99))]) hx hb dX13_reaches_79 hl (k := 3) rfl rfl (by decide) rfl (fun ls hl => ?_)
          refine lv_goto (tgt := 49) hx hb dX13_reaches_82 (by decide) ?_
          have tt5 : (x5_49 + (1 : Int32)).toInt = (x5_49.toInt + (1)) := (i_add (rfl : x5_49.toInt = x5_49.toInt) zl1 (by omega))
          have s3 : isum (vqf σ41) (x5_49 + (1 : Int32)).toInt.toNat = isum (vqf σ41) x5_49.toInt.toNat + vqf σ41 x5_49.toInt.toNat := by rw [show (x5_49 + (1 : Int32)).toInt.toNat = x5_49.toInt.toNat + 1 by rw [i_add (a := x5_49) rfl zl1 (by omega)]; omega]; rfl
          exact ih v77 (x5_49 + (1 : Int32)) _ _ _  (by first | assumption | omega) (by omega) h (lv_sub hl [2, 3, 1, 0] rfl) (fun x4_49' x5_49' H locs ls en hI h hl => kk x4_49' x5_49' H locs ls ((show f_X13_reaches_L49 σ41 (n + 1) x4_49 x5_49 = f_X13_reaches_L49 σ41 n v77 (x5_49 + (1 : Int32)) from (by have ev77 := ev77.symm; subst ev77; exact ((if_neg c61).trans rfl))).trans en) hI h hl)
    refine hL49 (7) r41 (0 : Int32) _ _ _  ⟨by omega, by omega, by omega, by omega, by rw [hs41]; show r41.toInt + 0 < _; omega⟩ (by omega) h (lv_sub hl [2, 3, 1, 0] rfl) (fun x4_49e x5_49e H locs ls eL49 hI49 h hl => ?_)
    have ex4_49e : x4_49e = (f_X13_reaches_L49 σ41 (7) r41 (0 : Int32)).1 := by rw [eL49]
    have ex5_49e : x5_49e = (f_X13_reaches_L49 σ41 (7) r41 (0 : Int32)).2 := by rw [eL49]
    refine lv_aload_n hx hb dX13_reaches_85 rfl (lv_at hl 0 rfl) ?_
    refine lv_iload hx hb dX13_reaches_86 (lv_at hl 1 rfl) ?_
    refine w_callz (ci := 12) (q0 := 6) (As := [.int x5_49e]) (rest := []) 1 (wXV g) C h (k_X14_pays l g σ41 x5_49e (by first | assumption | omega) (by first | assumption | omega) (by first | assumption | omega) (by first | assumption | omega)) (lw_V q1468 q1469 q1470 q172 q1471) rfl rfl rfl rfl (by decide +kernel) ⟨Nat.le_of_ble_eq_true rfl, Nat.le_of_ble_eq_true rfl⟩ rfl hl.1 rfl (Nat.le_of_ble_eq_true rfl) ⟨Nat.le_of_ble_eq_true rfl, Nat.le_of_ble_eq_true rfl⟩ dX13_reaches_88 (fun r88 σ88 H locs eσ88 er88 br88 hE88 h => ?_)
    have hE88 : ((gi (ttb σ88) 1).toInt = (gi (ttb σ41) 1).toInt) ∧ ((gi (ttb σ88) 3).toInt = (gi (ttb σ41) 3).toInt) ∧ (0 ≤ (gi (own σ88) 1).toInt ∧ (gi (own σ88) 1).toInt ≤ 65535) := hE88
    obtain ⟨hlpq_88, hldq_88, hst_88⟩ := hE88
    have hNEW : (0 ≤ (gi (ttb σ88) 1).toInt ∧ (gi (ttb σ88) 1).toInt ≤ 6) ∧ (0 ≤ (gi (ttb σ88) 3).toInt ∧ (gi (ttb σ88) 3).toInt ≤ 16 ∧ (gi (ttb σ88) 3).toInt ≤ (g.1.2.1 50 : Int)) ∧ (0 ≤ (gi (own σ88) 1).toInt ∧ (gi (own σ88) 1).toInt ≤ 65535) ∧ ((gi (ttb σ88) 1).toInt = (gi (ttb σ) 1).toInt) ∧ ((gi (ttb σ88) 3).toInt = (gi (ttb σ) 3).toInt) := ⟨(by first | assumption | omega), (by first | assumption | omega), (by first | assumption | omega), (by first | assumption | omega), (by first | assumption | omega)⟩
    obtain ⟨hlp, hld, hst, hlpq, hldq⟩ := hNEW
    have he : f_X13_reaches σ w0 w1 w2 w3 = (σ88, r88) := (by have ex3_5e := ex3_5e.symm; subst ex3_5e; have ex4_5e := ex4_5e.symm; subst ex4_5e; have eσ41 := eσ41.symm; subst eσ41; have er41 := er41.symm; subst er41; have ex4_49e := ex4_49e.symm; subst ex4_49e; have ex5_49e := ex5_49e.symm; subst ex5_49e; have eσ88 := eσ88.symm; subst eσ88; have er88 := er88.symm; subst er88; exact ((if_neg c34).trans rfl))
    exact w_retz (wXV g) C h hr hlocks (congrArg Prod.fst he) (congrArg Prod.snd he) br88 ⟨hlpq, hldq, (by first | assumption | omega | (unfold Hd; omega))⟩ dX13_reaches_91
  · have i34 := c_eq c34
    refine lv_iconst (v := 0) hx hb dX13_reaches_37 (by decide) ?_
    have he : f_X13_reaches σ w0 w1 w2 w3 = (σ, (0 : Int32)) := (by have ex3_5e := ex3_5e.symm; subst ex3_5e; have ex4_5e := ex4_5e.symm; subst ex4_5e; exact ((if_pos c34).trans rfl))
    exact w_retz (wXV g) C h hr hlocks (congrArg Prod.fst he) (congrArg Prod.snd he) (Or.inl rfl) ⟨hlpq, hldq, (by first | assumption | omega | (unfold Hd; omega))⟩ dX13_reaches_38
def f_X13_duels_L14 : Nat → Int32 → Int32 → Int32 → (MS × MS) → (MS × MS) × Int32
  | 0, x3_14, x4_14, x5_14, σL14 => ((m00, m00), 0)
  | n + 1, x3_14, x4_14, x5_14, σL14 => if (20 : Int32) ≤ x5_14 then ((let z75 := (f_X14_pays σL14 x4_14); let σ75 := z75.1; let r75 := z75.2; (σ75, r75))) else ((let σ28 := lsi σL14 5 ((gi (own σL14) 5) + (1 : Int32)); let z34 := (f_X14_draw σ28 (16 : Int32)); let σ34 := z34.1; let r34 := z34.2; if r34 < (ga (ttb σ34) 21 x3_14) then (f_X13_duels_L14 n x4_14 x3_14 (x5_14 + (1 : Int32)) σ34) else ((let z52 := (f_X14_pays σ34 x4_14); let σ52 := z52.1; let r52 := z52.2; (σ52, r52)))))
def f_X13_duels (σ : MS × MS) (w0 : Int32) (w1 : Int32) (w2 : Int32) (w3 : Int32) : (MS × MS) × Int32 := f_X13_duels_L14 (21) w1 w2 (0 : Int32) σ
set_option maxHeartbeats 4000000 in
set_option maxRecDepth 100000 in
theorem k_X13_duels (l : Launch) (g : GV) (σ : MS × MS) (a ka : Nat) (w0 : Int32) (w1 : Int32) (w2 : Int32) (w3 : Int32) (ha : g.2.2[ka]? = some (a, .inr (11, [.int w0, .int w1, .int w2, .int w3]))) (hlp : 0 ≤ (gi (ttb σ) 1).toInt ∧ (gi (ttb σ) 1).toInt ≤ 6) (hld : 0 ≤ (gi (ttb σ) 3).toInt ∧ (gi (ttb σ) 3).toInt ≤ 16 ∧ (gi (ttb σ) 3).toInt ≤ (g.1.2.1 50 : Int)) (hst : 0 ≤ (gi (own σ) 1).toInt ∧ (gi (own σ) 1).toInt ≤ 65535) (h0w : 0 ≤ w1.toInt ∧ w1.toInt < (gi (ttb σ) 1).toInt) (h1w : 0 ≤ w2.toInt ∧ w2.toInt < (gi (ttb σ) 1).toInt) : Met l yX13_duels (ws_ yX13_duels cX13_duels 7 (some .boolean)) ({ frames := 6, cells := 0, slots := 0, locals := 134 } : Room) (wPc (dV g) a σ [.ref (g.2.1 99), .ref (g.1.2.1 99)]) (wQz (dV g) (f_X13_duels σ w0 w1 w2 w3).1 (f_X13_duels σ w0 w1 w2 w3).2 (fun u r => ((gi (ttb u) 1).toInt = (gi (ttb σ) 1).toInt) ∧ ((gi (ttb u) 3).toInt = (gi (ttb σ) 3).toInt) ∧ (0 ≤ (gi (own u) 1).toInt ∧ (gi (own u) 1).toInt ≤ 65535))) 0 0 (dV g).2.2.2.1 := by
  refine met_W RX13 (by decide) rfl (Nat.le_of_ble_eq_true rfl) ?_
  intro p e s m args below meth c C hr hlocks h ls hl
  have hx := C.1.1
  have hb := C.1.2.1
  have hml := C.1.2.2.1
  have hown := C.1.2.2.2.1
  have hts := C.1.2.2.2.2
  have hl : lv_has ls 7 [(0, .ref a), (1, .ref (g.2.1 99)), (2, .ref (g.1.2.1 99))] := hl
  have hlpq : (gi (ttb σ) 1).toInt = (gi (ttb σ) 1).toInt := rfl
  have hldq : (gi (ttb σ) 3).toInt = (gi (ttb σ) 3).toInt := rfl
  have zl0 : (0 : Int32).toInt = 0 := rfl
  have zl1 : (1 : Int32).toInt = 1 := rfl
  have zl16 : (16 : Int32).toInt = 16 := rfl
  have zl20 : (20 : Int32).toInt = 20 := rfl
  refine lv_aload_n hx hb dX13_duels_0 rfl (lv_at hl 0 rfl) ?_
  refine V13_s1 C h ha rfl dX13_duels_1 ?_
  refine lv_istore_n (lv' := [(3, .int w1), (0, .ref a), (1, .ref (g.2.1 99)), (2, .ref (g.1.2.1 99))]) hx hb dX13_duels_4 rfl hl (by decide) rfl (fun ls hl => ?_)
  refine lv_aload_n hx hb dX13_duels_5 rfl (lv_at hl 1 rfl) ?_
  refine V13_s2 C h ha rfl dX13_duels_6 ?_
  refine lv_istore (lv' := [(4, .int w2), (3, .int w1), (0, .ref a), (1, .ref (g.2.1 99)), (2, .ref (g.1.2.1 99))]) hx hb dX13_duels_9 hl (by decide) rfl (fun ls hl => ?_)
  refine lv_iconst (v := 0) hx hb dX13_duels_11 (by decide) ?_
  refine lv_istore (lv' := [(5, .int (0 : Int32)), (4, .int w2), (3, .int w1), (0, .ref a), (1, .ref (g.2.1 99)), (2, .ref (g.1.2.1 99))]) hx hb dX13_duels_12 hl (by decide) rfl (fun ls hl => ?_)
  have hL14 : ∀ (n : Nat) (x3_14 : Int32) (x4_14 : Int32) (x5_14 : Int32) (σL14 : (MS × MS)) (H : Heap) (locs : List Loc) (ls : Array Slot), (0 ≤ (gi (ttb σL14) 1).toInt ∧ (gi (ttb σL14) 1).toInt ≤ 6) → (0 ≤ (gi (ttb σL14) 3).toInt ∧ (gi (ttb σL14) 3).toInt ≤ 16 ∧ (gi (ttb σL14) 3).toInt ≤ (g.1.2.1 50 : Int)) → (0 ≤ (gi (own σL14) 1).toInt ∧ (gi (own σL14) 1).toInt ≤ 65535) → ((gi (ttb σL14) 1).toInt = (gi (ttb σ) 1).toInt) → ((gi (ttb σL14) 3).toInt = (gi (ttb σ) 3).toInt) → (0 ≤ x5_14.toInt ∧ x5_14.toInt ≤ 20 ∧ (0 ≤ x3_14.toInt ∧ x3_14.toInt < (gi (ttb σL14) 1).toInt) ∧ (0 ≤ x4_14.toInt ∧ x4_14.toInt < (gi (ttb σL14) 1).toInt)) → (20 - x5_14.toInt).toNat < n → f_X13_duels σ w0 w1 w2 w3 = f_X13_duels_L14 n x3_14 x4_14 x5_14 σL14 → wH (dV g) σL14 s H locs → lv_has ls 7 [(1, .ref (g.2.1 99)), (2, .ref (g.1.2.1 99)), (3, .int x3_14), (4, .int x4_14), (5, .int x5_14)] → W p l e ({ frames := 6, cells := 0, slots := 0, locals := 134 } : Room) s m args below meth c H locs 0 0 (MQ below (wQz (dV g) (f_X13_duels σ w0 w1 w2 w3).1 (f_X13_duels σ w0 w1 w2 w3).2 (fun u r => ((gi (ttb u) 1).toInt = (gi (ttb σ) 1).toInt) ∧ ((gi (ttb u) 3).toInt = (gi (ttb σ) 3).toInt) ∧ (0 ≤ (gi (own u) 1).toInt ∧ (gi (own u) 1).toInt ≤ 65535))) args s 0 0 (dV g).2.2.2.1) (F0 m 14 ls []) := by
    intro n
    induction n with
    | zero =>
      intro x3_14 x4_14 x5_14 σL14 H locs ls hlp hld hst hlpq hldq _ hm; exact absurd hm (Nat.not_lt_zero _)
    | succ n ih =>
      intro x3_14 x4_14 x5_14 σL14 H locs ls hlp hld hst hlpq hldq hI14 hm hf14 h hl
      refine lv_iload hx hb dX13_duels_14 (lv_at hl 4 rfl) ?_
      refine lv_bipush (v := 20) hx hb dX13_duels_16 (by decide) ?_
      refine lv_icmp_ge (tgt := 72) hx hb dX13_duels_18 (by decide) (fun c18 => ?_) (fun c18 => ?_)
      · have i18 := c_le c18
        refine lv_aload_n hx hb dX13_duels_72 rfl (lv_at hl 0 rfl) ?_
        refine lv_iload hx hb dX13_duels_73 (lv_at hl 3 rfl) ?_
        refine w_callz (ci := 12) (q0 := 6) (As := [.int x4_14]) (rest := []) 1 (wXV g) C h (k_X14_pays l g σL14 x4_14 (by first | assumption | omega) (by first | assumption | omega) (by first | assumption | omega) (by first | assumption | omega)) (lw_V q1468 q1469 q1470 q172 q1471) rfl rfl rfl rfl (by decide +kernel) ⟨Nat.le_of_ble_eq_true rfl, Nat.le_of_ble_eq_true rfl⟩ rfl hl.1 rfl (Nat.le_of_ble_eq_true rfl) ⟨Nat.le_of_ble_eq_true rfl, Nat.le_of_ble_eq_true rfl⟩ dX13_duels_75 (fun r75 σ75 H locs eσ75 er75 br75 hE75 h => ?_)
        have hE75 : ((gi (ttb σ75) 1).toInt = (gi (ttb σL14) 1).toInt) ∧ ((gi (ttb σ75) 3).toInt = (gi (ttb σL14) 3).toInt) ∧ (0 ≤ (gi (own σ75) 1).toInt ∧ (gi (own σ75) 1).toInt ≤ 65535) := hE75
        obtain ⟨hlpq_75, hldq_75, hst_75⟩ := hE75
        have hNEW : (0 ≤ (gi (ttb σ75) 1).toInt ∧ (gi (ttb σ75) 1).toInt ≤ 6) ∧ (0 ≤ (gi (ttb σ75) 3).toInt ∧ (gi (ttb σ75) 3).toInt ≤ 16 ∧ (gi (ttb σ75) 3).toInt ≤ (g.1.2.1 50 : Int)) ∧ (0 ≤ (gi (own σ75) 1).toInt ∧ (gi (own σ75) 1).toInt ≤ 65535) ∧ ((gi (ttb σ75) 1).toInt = (gi (ttb σ) 1).toInt) ∧ ((gi (ttb σ75) 3).toInt = (gi (ttb σ) 3).toInt) := ⟨(by first | assumption | omega), (by first | assumption | omega), (by first | assumption | omega), (by first | assumption | omega), (by first | assumption | omega)⟩
        obtain ⟨hlp, hld, hst, hlpq, hldq⟩ := hNEW
        have he : f_X13_duels σ w0 w1 w2 w3 = (σ75, r75) := (by have eσ75 := eσ75.symm; subst eσ75; have er75 := er75.symm; subst er75; exact (hf14.trans ((if_pos c18).trans rfl)))
        exact w_retz (wXV g) C h hr hlocks (congrArg Prod.fst he) (congrArg Prod.snd he) br75 ⟨hlpq, hldq, (by first | assumption | omega | (unfold Hd; omega))⟩ dX13_duels_78
      · have i18 := c_nle c18
        refine lv_aload_n hx hb dX13_duels_21 rfl (lv_at hl 0 rfl) ?_
        refine lv_dup hx hb dX13_duels_22 rfl ?_
        refine V13_g5 C h dX13_duels_23 ?_
        refine lv_iconst (v := 1) hx hb dX13_duels_26 (by decide) ?_
        refine lv_iadd hx hb dX13_duels_27 ?_
        refine V13_p5 C h dX13_duels_28 (fun σ28 H locs eσ28 h => ?_)
        have hNEW : (0 ≤ (gi (ttb σ28) 1).toInt ∧ (gi (ttb σ28) 1).toInt ≤ 6) ∧ (0 ≤ (gi (ttb σ28) 3).toInt ∧ (gi (ttb σ28) 3).toInt ≤ 16 ∧ (gi (ttb σ28) 3).toInt ≤ (g.1.2.1 50 : Int)) ∧ (0 ≤ (gi (own σ28) 1).toInt ∧ (gi (own σ28) 1).toInt ≤ 65535) ∧ ((gi (ttb σ28) 1).toInt = (gi (ttb σ) 1).toInt) ∧ ((gi (ttb σ28) 3).toInt = (gi (ttb σ) 3).toInt) := ⟨(by rw [eσ28] <;> exact hlp), (by rw [eσ28] <;> exact hld), (by rw [eσ28] <;> exact hst), (by rw [eσ28] <;> exact hlpq), (by rw [eσ28] <;> exact hldq)⟩
        obtain ⟨hlp, hld, hst, hlpq, hldq⟩ := hNEW
        refine lv_aload_n hx hb dX13_duels_31 rfl (lv_at hl 0 rfl) ?_
        refine lv_bipush (v := 16) hx hb dX13_duels_32 (by decide) ?_
        refine w_calli (ci := 12) (q0 := 6) (As := [.int (16 : Int32)]) (rest := []) 1 (wXV g) C h (k_X14_draw l g σ28 (16 : Int32) (by first | assumption | omega) (by first | assumption | omega) (by first | assumption | omega) (by first | assumption | omega)) (lw_V q1477 q1478 q1479 q172 q1480) rfl rfl rfl rfl (by decide +kernel) ⟨Nat.le_of_ble_eq_true rfl, Nat.le_of_ble_eq_true rfl⟩ rfl hl.1 rfl (Nat.le_of_ble_eq_true rfl) ⟨Nat.le_of_ble_eq_true rfl, Nat.le_of_ble_eq_true rfl⟩ dX13_duels_34 (fun r34 σ34 H locs eσ34 er34 hE34 h => ?_)
        have hE34 : ((gi (ttb σ34) 1).toInt = (gi (ttb σ28) 1).toInt) ∧ ((gi (ttb σ34) 3).toInt = (gi (ttb σ28) 3).toInt) ∧ (0 ≤ (gi (own σ34) 1).toInt ∧ (gi (own σ34) 1).toInt ≤ 65535) ∧ (0 ≤ r34.toInt ∧ r34.toInt < (16 : Int32).toInt) := hE34
        obtain ⟨hlpq_34, hldq_34, hst_34, drg_34⟩ := hE34
        have hNEW : (0 ≤ (gi (ttb σ34) 1).toInt ∧ (gi (ttb σ34) 1).toInt ≤ 6) ∧ (0 ≤ (gi (ttb σ34) 3).toInt ∧ (gi (ttb σ34) 3).toInt ≤ 16 ∧ (gi (ttb σ34) 3).toInt ≤ (g.1.2.1 50 : Int)) ∧ (0 ≤ (gi (own σ34) 1).toInt ∧ (gi (own σ34) 1).toInt ≤ 65535) ∧ ((gi (ttb σ34) 1).toInt = (gi (ttb σ) 1).toInt) ∧ ((gi (ttb σ34) 3).toInt = (gi (ttb σ) 3).toInt) := ⟨(by first | assumption | omega), (by first | assumption | omega), (by first | assumption | omega), (by first | assumption | omega), (by first | assumption | omega)⟩
        clear hlp hld hst hlpq hldq
        obtain ⟨hlp, hld, hst, hlpq, hldq⟩ := hNEW
        refine lv_aload_n hx hb dX13_duels_37 rfl (lv_at hl 1 rfl) ?_
        refine V13_t0 C h dX13_duels_38 ?_
        refine lv_iload_n hx hb dX13_duels_41 rfl (lv_at hl 2 rfl) ?_
        refine V_pers C h (by omega) dX13_duels_42 ?_
        refine V13_f1 C h (by omega) dX13_duels_43 ?_
        refine lv_icmp_lt (tgt := 56) hx hb dX13_duels_46 (by decide) (fun c46 => ?_) (fun c46 => ?_)
        · have i46 := c_lt c46
          refine lv_iload_n hx hb dX13_duels_56 rfl (lv_at hl 2 rfl) ?_
          refine lv_istore (lv' := [(6, .int x3_14), (1, .ref (g.2.1 99)), (2, .ref (g.1.2.1 99)), (3, .int x3_14), (4, .int x4_14), (5, .int x5_14)]) hx hb dX13_duels_57 hl (by decide) rfl (fun ls hl => ?_)
          refine lv_iload hx hb dX13_duels_59 (lv_at hl 4 rfl) ?_
          refine lv_istore_n (lv' := [(3, .int x4_14), (6, .int x3_14), (1, .ref (g.2.1 99)), (2, .ref (g.1.2.1 99)), (4, .int x4_14), (5, .int x5_14)]) hx hb dX13_duels_61 rfl hl (by decide) rfl (fun ls hl => ?_)
          refine lv_iload hx hb dX13_duels_62 (lv_at hl 1 rfl) ?_
          refine lv_istore (lv' := [(4, .int x3_14), (3, .int x4_14), (6, .int x3_14), (1, .ref (g.2.1 99)), (2, .ref (g.1.2.1 99)), (5, .int x5_14)]) hx hb dX13_duels_64 hl (by decide) rfl (fun ls hl => ?_)
          refine lv_iinc (v := (x5_14 + (1 : Int32))) (lv' := [(5, .int (x5_14 + (1 : Int32))), (4, .int x3_14), (3, .int x4_14), (6, .int x3_14), (1, .ref (g.2.1 99)), (2, .ref (g.1.2.1 99))]) hx hb dX13_duels_66 hl (k := 5) rfl rfl (by decide) rfl (fun ls hl => ?_)
          refine lv_goto (tgt := 14) hx hb dX13_duels_69 (by decide) ?_
          have tt5 : (x5_14 + (1 : Int32)).toInt = (x5_14.toInt + (1)) := (i_add (rfl : x5_14.toInt = x5_14.toInt) zl1 (by omega))
          exact ih x4_14 x3_14 (x5_14 + (1 : Int32)) σ34 _ _ _ hlp hld hst hlpq hldq (by first | assumption | omega) (by omega) (by have eσ28 := eσ28.symm; subst eσ28; have eσ34 := eσ34.symm; subst eσ34; have er34 := er34.symm; subst er34; exact (hf14.trans ((if_neg c18).trans ((if_pos c46).trans rfl)))) h (lv_sub hl [4, 5, 2, 1, 0] rfl)
        · have i46 := c_nlt c46
          refine lv_aload_n hx hb dX13_duels_49 rfl (lv_at hl 0 rfl) ?_
          refine lv_iload hx hb dX13_duels_50 (lv_at hl 3 rfl) ?_
          refine w_callz (ci := 12) (q0 := 6) (As := [.int x4_14]) (rest := []) 1 (wXV g) C h (k_X14_pays l g σ34 x4_14 (by first | assumption | omega) (by first | assumption | omega) (by first | assumption | omega) (by first | assumption | omega)) (lw_V q1468 q1469 q1470 q172 q1471) rfl rfl rfl rfl (by decide +kernel) ⟨Nat.le_of_ble_eq_true rfl, Nat.le_of_ble_eq_true rfl⟩ rfl hl.1 rfl (Nat.le_of_ble_eq_true rfl) ⟨Nat.le_of_ble_eq_true rfl, Nat.le_of_ble_eq_true rfl⟩ dX13_duels_52 (fun r52 σ52 H locs eσ52 er52 br52 hE52 h => ?_)
          have hE52 : ((gi (ttb σ52) 1).toInt = (gi (ttb σ34) 1).toInt) ∧ ((gi (ttb σ52) 3).toInt = (gi (ttb σ34) 3).toInt) ∧ (0 ≤ (gi (own σ52) 1).toInt ∧ (gi (own σ52) 1).toInt ≤ 65535) := hE52
          obtain ⟨hlpq_52, hldq_52, hst_52⟩ := hE52
          have hNEW : (0 ≤ (gi (ttb σ52) 1).toInt ∧ (gi (ttb σ52) 1).toInt ≤ 6) ∧ (0 ≤ (gi (ttb σ52) 3).toInt ∧ (gi (ttb σ52) 3).toInt ≤ 16 ∧ (gi (ttb σ52) 3).toInt ≤ (g.1.2.1 50 : Int)) ∧ (0 ≤ (gi (own σ52) 1).toInt ∧ (gi (own σ52) 1).toInt ≤ 65535) ∧ ((gi (ttb σ52) 1).toInt = (gi (ttb σ) 1).toInt) ∧ ((gi (ttb σ52) 3).toInt = (gi (ttb σ) 3).toInt) := ⟨(by first | assumption | omega), (by first | assumption | omega), (by first | assumption | omega), (by first | assumption | omega), (by first | assumption | omega)⟩
          clear hlp hld hst hlpq hldq
          obtain ⟨hlp, hld, hst, hlpq, hldq⟩ := hNEW
          have he : f_X13_duels σ w0 w1 w2 w3 = (σ52, r52) := (by have eσ28 := eσ28.symm; subst eσ28; have eσ34 := eσ34.symm; subst eσ34; have er34 := er34.symm; subst er34; have eσ52 := eσ52.symm; subst eσ52; have er52 := er52.symm; subst er52; exact (hf14.trans ((if_neg c18).trans ((if_neg c46).trans rfl))))
          exact w_retz (wXV g) C h hr hlocks (congrArg Prod.fst he) (congrArg Prod.snd he) br52 ⟨hlpq, hldq, (by first | assumption | omega | (unfold Hd; omega))⟩ dX13_duels_55
  exact hL14 (21) w1 w2 (0 : Int32) σ _ _ _ hlp hld hst hlpq hldq (by first | assumption | omega) (by omega) (by exact rfl) h (lv_sub hl [4, 5, 2, 1, 0] rfl)
def f_X13_can (σ : MS × MS) (w0 : Int32) (w1 : Int32) (w2 : Int32) (w3 : Int32) : (MS × MS) × Int32 := if w0 = (0 : Int32) then (if w1 < (0 : Int32) then ((let z65 := (f_X13_reaches σ w0 w1 w2 w3); let σ65 := z65.1; let r65 := z65.2; (σ65, r65))) else ((let z56 := (f_X14_pays σ w1); let σ56 := z56.1; let r56 := z56.2; (σ56, r56)))) else (if w0 = (1 : Int32) then ((let z72 := (f_X13_duels σ w0 w1 w2 w3); let σ72 := z72.1; let r72 := z72.2; (σ72, r72))) else (if w0 = (2 : Int32) then ((let z89 := (f_X5_lends (ttb σ) w1 w2 w3); let σ89 := tput σ z89.1; let r89 := z89.2; (σ89, r89))) else (if w0 = (3 : Int32) then ((let z106 := (f_X5_gives (ttb σ) w1 w2 w3); let σ106 := tput σ z106.1; let r106 := z106.2; (σ106, (1 : Int32)))) else (if w0 = (4 : Int32) then ((let z113 := (f_X5_round (ttb σ)); let σ113 := tput σ z113.1; let r113 := z113.2; if (0 : Int32) ≤ r113 then ((let σ128 := lsi σ113 6 ((gi (own σ113) 6) + (1 : Int32)); (σ128, (1 : Int32)))) else ((σ113, (0 : Int32))))) else ((let σ135 := lsi σ 7 (1 : Int32); (σ135, (1 : Int32))))))))
set_option maxHeartbeats 4000000 in
set_option maxRecDepth 100000 in
theorem k_X13_can (l : Launch) (g : GV) (σ : MS × MS) (a ka : Nat) (w0 : Int32) (w1 : Int32) (w2 : Int32) (w3 : Int32) (ha : g.2.2[ka]? = some (a, .inr (11, [.int w0, .int w1, .int w2, .int w3]))) (hlp : 0 ≤ (gi (ttb σ) 1).toInt ∧ (gi (ttb σ) 1).toInt ≤ 6) (hld : 0 ≤ (gi (ttb σ) 3).toInt ∧ (gi (ttb σ) 3).toInt ≤ 16 ∧ (gi (ttb σ) 3).toInt ≤ (g.1.2.1 50 : Int)) (hst : 0 ≤ (gi (own σ) 1).toInt ∧ (gi (own σ) 1).toInt ≤ 65535) (hQg : ∀ p : Nat, p < g.1.2.1 51 → 0 ≤ (g.1.2.2.2.2.1 2 p).toInt ∧ (g.1.2.2.2.2.1 2 p).toInt ≤ 20) (haw : AW w0 w1 w2 (gi (ttb σ) 1).toInt) : Met l yX13_can (ws_ yX13_can cX13_can 3 (some .boolean)) ({ frames := 7, cells := 0, slots := 0, locals := 160 } : Room) (wPc (dV g) a σ [.ref (g.2.1 99)]) (wQz (dV g) (f_X13_can σ w0 w1 w2 w3).1 (f_X13_can σ w0 w1 w2 w3).2 (fun u r => ((gi (ttb u) 1).toInt = (gi (ttb σ) 1).toInt) ∧ ((gi (ttb u) 3).toInt = (gi (ttb σ) 3).toInt) ∧ (0 ≤ (gi (own u) 1).toInt ∧ (gi (own u) 1).toInt ≤ 65535))) 0 0 (dV g).2.2.2.1 := by
  refine met_W RX13 (by decide) rfl (Nat.le_of_ble_eq_true rfl) ?_
  intro p e s m args below meth c C hr hlocks h ls hl
  have hx := C.1.1
  have hb := C.1.2.1
  have hml := C.1.2.2.1
  have hown := C.1.2.2.2.1
  have hts := C.1.2.2.2.2
  have hl : lv_has ls 3 [(0, .ref a), (1, .ref (g.2.1 99))] := hl
  have hlpq : (gi (ttb σ) 1).toInt = (gi (ttb σ) 1).toInt := rfl
  have hldq : (gi (ttb σ) 3).toInt = (gi (ttb σ) 3).toInt := rfl
  have zl0 : (0 : Int32).toInt = 0 := rfl
  have zl1 : (1 : Int32).toInt = 1 := rfl
  have zl2 : (2 : Int32).toInt = 2 := rfl
  have zl3 : (3 : Int32).toInt = 3 := rfl
  have zl4 : (4 : Int32).toInt = 4 := rfl
  refine lv_aload_n hx hb dX13_can_0 rfl (lv_at hl 1 rfl) ?_
  refine V13_g0 C h dX13_can_1 ?_
  refine lv_astore_n (lv' := [(2, .ref (g.1.2.1 99)), (0, .ref a), (1, .ref (g.2.1 99))]) hx hb dX13_can_4 rfl hl (by decide) rfl (fun ls hl => ?_)
  refine lv_aload_n hx hb dX13_can_5 rfl (lv_at hl 1 rfl) ?_
  refine V13_s0 C h ha rfl dX13_can_6 ?_
  obtain ⟨ra, rb⟩ := haw
  by_cases c9_0 : w0 = (0 : Int32)
  · refine lv_tableIn (off := 35) (tgt := 44) hx hb dX13_can_9 (by rw [c9_0]; decide) (by rw [c9_0]; decide) (by rw [c9_0]; rfl) (by decide) ?_
    have i9_0 := c_eq c9_0
    refine lv_aload_n hx hb dX13_can_44 rfl (lv_at hl 1 rfl) ?_
    refine V13_s1 C h ha rfl dX13_can_45 ?_
    refine lv_if_lt (tgt := 62) hx hb dX13_can_48 (by decide) (fun c48 => ?_) (fun c48 => ?_)
    · have i48 := c_lt c48
      refine lv_aload_n hx hb dX13_can_62 rfl (lv_at hl 1 rfl) ?_
      refine lv_aload_n hx hb dX13_can_63 rfl (lv_at hl 2 rfl) ?_
      refine lv_aload_n hx hb dX13_can_64 rfl (lv_at hl 0 rfl) ?_
      refine V_acallz (ci := 11) (ka := ka) (As := [.ref (g.2.1 99), .ref (g.1.2.1 99)]) (rest := []) 2 C h (k_X13_reaches l g σ a ka w0 w1 w2 w3 ha (by first | assumption | omega) (by first | assumption | omega) (by first | assumption | omega) (by first | assumption | omega)) (lw_V q1473 q1475 qs61 q169 q1476) rfl rfl rfl ha (by decide +kernel) ⟨Nat.le_of_ble_eq_true rfl, Nat.le_of_ble_eq_true rfl⟩ rfl hl.1 rfl (Nat.le_of_ble_eq_true rfl) ⟨Nat.le_of_ble_eq_true rfl, Nat.le_of_ble_eq_true rfl⟩ dX13_can_65 (fun r65 σ65 H locs eσ65 er65 br65 hE65 h => ?_)
      have hE65 : ((gi (ttb σ65) 1).toInt = (gi (ttb σ) 1).toInt) ∧ ((gi (ttb σ65) 3).toInt = (gi (ttb σ) 3).toInt) ∧ (0 ≤ (gi (own σ65) 1).toInt ∧ (gi (own σ65) 1).toInt ≤ 65535) := hE65
      obtain ⟨hlpq_65, hldq_65, hst_65⟩ := hE65
      have hNEW : (0 ≤ (gi (ttb σ65) 1).toInt ∧ (gi (ttb σ65) 1).toInt ≤ 6) ∧ (0 ≤ (gi (ttb σ65) 3).toInt ∧ (gi (ttb σ65) 3).toInt ≤ 16 ∧ (gi (ttb σ65) 3).toInt ≤ (g.1.2.1 50 : Int)) ∧ (0 ≤ (gi (own σ65) 1).toInt ∧ (gi (own σ65) 1).toInt ≤ 65535) ∧ ((gi (ttb σ65) 1).toInt = (gi (ttb σ) 1).toInt) ∧ ((gi (ttb σ65) 3).toInt = (gi (ttb σ) 3).toInt) := ⟨(by first | assumption | omega), (by first | assumption | omega), (by first | assumption | omega), (by first | assumption | omega), (by first | assumption | omega)⟩
      obtain ⟨hlp, hld, hst, hlpq, hldq⟩ := hNEW
      have he : f_X13_can σ w0 w1 w2 w3 = (σ65, r65) := (by have eσ65 := eσ65.symm; subst eσ65; have er65 := er65.symm; subst er65; exact ((if_pos c9_0).trans ((if_pos c48).trans rfl)))
      exact w_retz (wXV g) C h hr hlocks (congrArg Prod.fst he) (congrArg Prod.snd he) br65 ⟨hlpq, hldq, (by first | assumption | omega | (unfold Hd; omega))⟩ dX13_can_68
    · have i48 := c_nlt c48
      refine lv_aload_n hx hb dX13_can_51 rfl (lv_at hl 2 rfl) ?_
      refine lv_aload_n hx hb dX13_can_52 rfl (lv_at hl 1 rfl) ?_
      refine V13_s1 C h ha rfl dX13_can_53 ?_
      refine w_callz (ci := 12) (q0 := 6) (As := [.int w1]) (rest := []) 1 (wXV g) C h (k_X14_pays l g σ w1 (by first | assumption | omega) (by first | assumption | omega) (by first | assumption | omega) (by first | assumption | omega)) (lw_V q1468 q1469 q1470 q172 q1471) rfl rfl rfl rfl (by decide +kernel) ⟨Nat.le_of_ble_eq_true rfl, Nat.le_of_ble_eq_true rfl⟩ rfl hl.1 rfl (Nat.le_of_ble_eq_true rfl) ⟨Nat.le_of_ble_eq_true rfl, Nat.le_of_ble_eq_true rfl⟩ dX13_can_56 (fun r56 σ56 H locs eσ56 er56 br56 hE56 h => ?_)
      have hE56 : ((gi (ttb σ56) 1).toInt = (gi (ttb σ) 1).toInt) ∧ ((gi (ttb σ56) 3).toInt = (gi (ttb σ) 3).toInt) ∧ (0 ≤ (gi (own σ56) 1).toInt ∧ (gi (own σ56) 1).toInt ≤ 65535) := hE56
      obtain ⟨hlpq_56, hldq_56, hst_56⟩ := hE56
      have hNEW : (0 ≤ (gi (ttb σ56) 1).toInt ∧ (gi (ttb σ56) 1).toInt ≤ 6) ∧ (0 ≤ (gi (ttb σ56) 3).toInt ∧ (gi (ttb σ56) 3).toInt ≤ 16 ∧ (gi (ttb σ56) 3).toInt ≤ (g.1.2.1 50 : Int)) ∧ (0 ≤ (gi (own σ56) 1).toInt ∧ (gi (own σ56) 1).toInt ≤ 65535) ∧ ((gi (ttb σ56) 1).toInt = (gi (ttb σ) 1).toInt) ∧ ((gi (ttb σ56) 3).toInt = (gi (ttb σ) 3).toInt) := ⟨(by first | assumption | omega), (by first | assumption | omega), (by first | assumption | omega), (by first | assumption | omega), (by first | assumption | omega)⟩
      obtain ⟨hlp, hld, hst, hlpq, hldq⟩ := hNEW
      refine lv_goto (tgt := 68) hx hb dX13_can_59 (by decide) ?_
      have he : f_X13_can σ w0 w1 w2 w3 = (σ56, r56) := (by have eσ56 := eσ56.symm; subst eσ56; have er56 := er56.symm; subst er56; exact ((if_pos c9_0).trans ((if_neg c48).trans rfl)))
      exact w_retz (wXV g) C h hr hlocks (congrArg Prod.fst he) (congrArg Prod.snd he) br56 ⟨hlpq, hldq, (by first | assumption | omega | (unfold Hd; omega))⟩ dX13_can_68
  · have i9_0 := c_ne c9_0
    by_cases c9_1 : w0 = (1 : Int32)
    · refine lv_tableIn (off := 60) (tgt := 69) hx hb dX13_can_9 (by rw [c9_1]; decide) (by rw [c9_1]; decide) (by rw [c9_1]; rfl) (by decide) ?_
      have i9_1 := c_eq c9_1
      refine lv_aload_n hx hb dX13_can_69 rfl (lv_at hl 1 rfl) ?_
      refine lv_aload_n hx hb dX13_can_70 rfl (lv_at hl 2 rfl) ?_
      refine lv_aload_n hx hb dX13_can_71 rfl (lv_at hl 0 rfl) ?_
      refine V_acallz (ci := 11) (ka := ka) (As := [.ref (g.2.1 99), .ref (g.1.2.1 99)]) (rest := []) 2 C h (k_X13_duels l g σ a ka w0 w1 w2 w3 ha (by first | assumption | omega) (by first | assumption | omega) (by first | assumption | omega) (by first | assumption | omega) (by first | assumption | omega)) (lw_V q1482 q1484 qs62 q169 q1485) rfl rfl rfl ha (by decide +kernel) ⟨Nat.le_of_ble_eq_true rfl, Nat.le_of_ble_eq_true rfl⟩ rfl hl.1 rfl (Nat.le_of_ble_eq_true rfl) ⟨Nat.le_of_ble_eq_true rfl, Nat.le_of_ble_eq_true rfl⟩ dX13_can_72 (fun r72 σ72 H locs eσ72 er72 br72 hE72 h => ?_)
      have hE72 : ((gi (ttb σ72) 1).toInt = (gi (ttb σ) 1).toInt) ∧ ((gi (ttb σ72) 3).toInt = (gi (ttb σ) 3).toInt) ∧ (0 ≤ (gi (own σ72) 1).toInt ∧ (gi (own σ72) 1).toInt ≤ 65535) := hE72
      obtain ⟨hlpq_72, hldq_72, hst_72⟩ := hE72
      have hNEW : (0 ≤ (gi (ttb σ72) 1).toInt ∧ (gi (ttb σ72) 1).toInt ≤ 6) ∧ (0 ≤ (gi (ttb σ72) 3).toInt ∧ (gi (ttb σ72) 3).toInt ≤ 16 ∧ (gi (ttb σ72) 3).toInt ≤ (g.1.2.1 50 : Int)) ∧ (0 ≤ (gi (own σ72) 1).toInt ∧ (gi (own σ72) 1).toInt ≤ 65535) ∧ ((gi (ttb σ72) 1).toInt = (gi (ttb σ) 1).toInt) ∧ ((gi (ttb σ72) 3).toInt = (gi (ttb σ) 3).toInt) := ⟨(by first | assumption | omega), (by first | assumption | omega), (by first | assumption | omega), (by first | assumption | omega), (by first | assumption | omega)⟩
      obtain ⟨hlp, hld, hst, hlpq, hldq⟩ := hNEW
      have he : f_X13_can σ w0 w1 w2 w3 = (σ72, r72) := (by have eσ72 := eσ72.symm; subst eσ72; have er72 := er72.symm; subst er72; exact ((if_neg c9_0).trans ((if_pos c9_1).trans rfl)))
      exact w_retz (wXV g) C h hr hlocks (congrArg Prod.fst he) (congrArg Prod.snd he) br72 ⟨hlpq, hldq, (by first | assumption | omega | (unfold Hd; omega))⟩ dX13_can_75
    · have i9_1 := c_ne c9_1
      by_cases c9_2 : w0 = (2 : Int32)
      · refine lv_tableIn (off := 67) (tgt := 76) hx hb dX13_can_9 (by rw [c9_2]; decide) (by rw [c9_2]; decide) (by rw [c9_2]; rfl) (by decide) ?_
        have i9_2 := c_eq c9_2
        refine lv_aload_n hx hb dX13_can_76 rfl (lv_at hl 0 rfl) ?_
        refine lv_aload_n hx hb dX13_can_77 rfl (lv_at hl 1 rfl) ?_
        refine V13_s1 C h ha rfl dX13_can_78 ?_
        refine lv_aload_n hx hb dX13_can_81 rfl (lv_at hl 1 rfl) ?_
        refine V13_s2 C h ha rfl dX13_can_82 ?_
        refine lv_aload_n hx hb dX13_can_85 rfl (lv_at hl 1 rfl) ?_
        refine V13_s3 C h ha rfl dX13_can_86 ?_
        refine V_tcallz (As := [.int w1, .int w2, .int w3]) (rest := []) 3 C h (k_X5_lends l g.1 (ttb σ) w1 w2 w3 (by first | assumption | omega) (by first | assumption | omega) (by first | assumption | omega) (by first | assumption | omega)) (lw_V q1486 q1249 q1250 q151 q1251) rfl rfl (by decide +kernel) ⟨Nat.le_of_ble_eq_true rfl, Nat.le_of_ble_eq_true rfl⟩ rfl hl.1 rfl (Nat.le_of_ble_eq_true rfl) ⟨Nat.le_of_ble_eq_true rfl, Nat.le_of_ble_eq_true rfl⟩ dX13_can_89 (fun r89 σ89 H locs eσ89 er89 br89 hE89 h => ?_)
        have hE89 : ((gi (ttb σ89) 1).toInt = (gi (ttb σ) 1).toInt) ∧ ((gi (ttb σ89) 3).toInt = (gi (ttb σ) 3).toInt) ∧ (Fr [6, 7] [11, 12, 13] (fun _ => False) (fun _ => False) (ttb σ) (ttb σ89)) := hE89
        obtain ⟨htpq_89, htdq_89, hXF_89⟩ := hE89
        have hNEW : (0 ≤ (gi (ttb σ89) 1).toInt ∧ (gi (ttb σ89) 1).toInt ≤ 6) ∧ (0 ≤ (gi (ttb σ89) 3).toInt ∧ (gi (ttb σ89) 3).toInt ≤ 16 ∧ (gi (ttb σ89) 3).toInt ≤ (g.1.2.1 50 : Int)) ∧ (0 ≤ (gi (own σ89) 1).toInt ∧ (gi (own σ89) 1).toInt ≤ 65535) ∧ ((gi (ttb σ89) 1).toInt = (gi (ttb σ) 1).toInt) ∧ ((gi (ttb σ89) 3).toInt = (gi (ttb σ) 3).toInt) := ⟨(by first | assumption | omega), (by first | assumption | omega), (by rw [eσ89]; exact hst), (by first | assumption | omega), (by first | assumption | omega)⟩
        obtain ⟨hlp, hld, hst, hlpq, hldq⟩ := hNEW
        have he : f_X13_can σ w0 w1 w2 w3 = (σ89, r89) := (by have eσ89 := eσ89.symm; subst eσ89; have er89 := er89.symm; subst er89; exact ((if_neg c9_0).trans ((if_neg c9_1).trans ((if_pos c9_2).trans rfl))))
        exact w_retz (wXV g) C h hr hlocks (congrArg Prod.fst he) (congrArg Prod.snd he) br89 ⟨hlpq, hldq, (by first | assumption | omega | (unfold Hd; omega))⟩ dX13_can_92
      · have i9_2 := c_ne c9_2
        by_cases c9_3 : w0 = (3 : Int32)
        · refine lv_tableIn (off := 84) (tgt := 93) hx hb dX13_can_9 (by rw [c9_3]; decide) (by rw [c9_3]; decide) (by rw [c9_3]; rfl) (by decide) ?_
          have i9_3 := c_eq c9_3
          refine lv_aload_n hx hb dX13_can_93 rfl (lv_at hl 0 rfl) ?_
          refine lv_aload_n hx hb dX13_can_94 rfl (lv_at hl 1 rfl) ?_
          refine V13_s1 C h ha rfl dX13_can_95 ?_
          refine lv_aload_n hx hb dX13_can_98 rfl (lv_at hl 1 rfl) ?_
          refine V13_s2 C h ha rfl dX13_can_99 ?_
          refine lv_aload_n hx hb dX13_can_102 rfl (lv_at hl 1 rfl) ?_
          refine V13_s3 C h ha rfl dX13_can_103 ?_
          refine V_tcalli (As := [.int w1, .int w2, .int w3]) (rest := []) 3 C h (k_X5_gives l g.1 (ttb σ) w1 w2 w3 (by first | assumption | omega) (by first | assumption | omega) (by first | assumption | omega) (by first | assumption | omega)) (lw_V q1487 q1378 q1379 q151 q1380) rfl rfl (by decide +kernel) ⟨Nat.le_of_ble_eq_true rfl, Nat.le_of_ble_eq_true rfl⟩ rfl hl.1 rfl (Nat.le_of_ble_eq_true rfl) ⟨Nat.le_of_ble_eq_true rfl, Nat.le_of_ble_eq_true rfl⟩ dX13_can_106 (fun r106 σ106 H locs eσ106 er106 hE106 h => ?_)
          have hE106 : ((gi (ttb σ106) 1).toInt = (gi (ttb σ) 1).toInt) ∧ ((gi (ttb σ106) 3).toInt = (gi (ttb σ) 3).toInt) ∧ (Fr [6, 7] [11, 12, 13] (fun _ => False) (fun _ => False) (ttb σ) (ttb σ106)) := hE106
          obtain ⟨htpq_106, htdq_106, hXF_106⟩ := hE106
          have hNEW : (0 ≤ (gi (ttb σ106) 1).toInt ∧ (gi (ttb σ106) 1).toInt ≤ 6) ∧ (0 ≤ (gi (ttb σ106) 3).toInt ∧ (gi (ttb σ106) 3).toInt ≤ 16 ∧ (gi (ttb σ106) 3).toInt ≤ (g.1.2.1 50 : Int)) ∧ (0 ≤ (gi (own σ106) 1).toInt ∧ (gi (own σ106) 1).toInt ≤ 65535) ∧ ((gi (ttb σ106) 1).toInt = (gi (ttb σ) 1).toInt) ∧ ((gi (ttb σ106) 3).toInt = (gi (ttb σ) 3).toInt) := ⟨(by first | assumption | omega), (by first | assumption | omega), (by rw [eσ106]; exact hst), (by first | assumption | omega), (by first | assumption | omega)⟩
          obtain ⟨hlp, hld, hst, hlpq, hldq⟩ := hNEW
          refine lv_pop hx hb dX13_can_109 rfl ?_
          refine lv_iconst (v := 1) hx hb dX13_can_110 (by decide) ?_
          have he : f_X13_can σ w0 w1 w2 w3 = (σ106, (1 : Int32)) := (by have eσ106 := eσ106.symm; subst eσ106; have er106 := er106.symm; subst er106; exact ((if_neg c9_0).trans ((if_neg c9_1).trans ((if_neg c9_2).trans ((if_pos c9_3).trans rfl)))))
          exact w_retz (wXV g) C h hr hlocks (congrArg Prod.fst he) (congrArg Prod.snd he) (Or.inr rfl) ⟨hlpq, hldq, (by first | assumption | omega | (unfold Hd; omega))⟩ dX13_can_111
        · have i9_3 := c_ne c9_3
          by_cases c9_4 : w0 = (4 : Int32)
          · refine lv_tableIn (off := 103) (tgt := 112) hx hb dX13_can_9 (by rw [c9_4]; decide) (by rw [c9_4]; decide) (by rw [c9_4]; rfl) (by decide) ?_
            have i9_4 := c_eq c9_4
            refine lv_aload_n hx hb dX13_can_112 rfl (lv_at hl 0 rfl) ?_
            refine V_tcalli (As := []) (rest := []) 0 C h (k_X5_round l g.1 (ttb σ) (by first | assumption | omega) (by first | assumption | omega)) (lw_V q1488 q1334 q1335 q151 q1336) rfl rfl (by decide +kernel) ⟨Nat.le_of_ble_eq_true rfl, Nat.le_of_ble_eq_true rfl⟩ rfl hl.1 rfl (Nat.le_of_ble_eq_true rfl) ⟨Nat.le_of_ble_eq_true rfl, Nat.le_of_ble_eq_true rfl⟩ dX13_can_113 (fun r113 σ113 H locs eσ113 er113 hE113 h => ?_)
            have hE113 : ((gi (ttb σ113) 1).toInt = (gi (ttb σ) 1).toInt) ∧ ((gi (ttb σ113) 3).toInt = (gi (ttb σ) 3).toInt) ∧ (Fr [6, 7] [11, 12, 13] (fun _ => False) (fun _ => False) (ttb σ) (ttb σ113)) := hE113
            obtain ⟨htpq_113, htdq_113, hXF_113⟩ := hE113
            have hNEW : (0 ≤ (gi (ttb σ113) 1).toInt ∧ (gi (ttb σ113) 1).toInt ≤ 6) ∧ (0 ≤ (gi (ttb σ113) 3).toInt ∧ (gi (ttb σ113) 3).toInt ≤ 16 ∧ (gi (ttb σ113) 3).toInt ≤ (g.1.2.1 50 : Int)) ∧ (0 ≤ (gi (own σ113) 1).toInt ∧ (gi (own σ113) 1).toInt ≤ 65535) ∧ ((gi (ttb σ113) 1).toInt = (gi (ttb σ) 1).toInt) ∧ ((gi (ttb σ113) 3).toInt = (gi (ttb σ) 3).toInt) := ⟨(by first | assumption | omega), (by first | assumption | omega), (by rw [eσ113]; exact hst), (by first | assumption | omega), (by first | assumption | omega)⟩
            obtain ⟨hlp, hld, hst, hlpq, hldq⟩ := hNEW
            refine lv_if_ge (tgt := 121) hx hb dX13_can_116 (by decide) (fun c116 => ?_) (fun c116 => ?_)
            · have i116 := c_le c116
              refine lv_aload_n hx hb dX13_can_121 rfl (lv_at hl 2 rfl) ?_
              refine lv_dup hx hb dX13_can_122 rfl ?_
              refine V13_g6 C h dX13_can_123 ?_
              refine lv_iconst (v := 1) hx hb dX13_can_126 (by decide) ?_
              refine lv_iadd hx hb dX13_can_127 ?_
              refine V13_p6 C h dX13_can_128 (fun σ128 H locs eσ128 h => ?_)
              have hNEW : (0 ≤ (gi (ttb σ128) 1).toInt ∧ (gi (ttb σ128) 1).toInt ≤ 6) ∧ (0 ≤ (gi (ttb σ128) 3).toInt ∧ (gi (ttb σ128) 3).toInt ≤ 16 ∧ (gi (ttb σ128) 3).toInt ≤ (g.1.2.1 50 : Int)) ∧ (0 ≤ (gi (own σ128) 1).toInt ∧ (gi (own σ128) 1).toInt ≤ 65535) ∧ ((gi (ttb σ128) 1).toInt = (gi (ttb σ) 1).toInt) ∧ ((gi (ttb σ128) 3).toInt = (gi (ttb σ) 3).toInt) := ⟨(by rw [eσ128] <;> exact hlp), (by rw [eσ128] <;> exact hld), (by rw [eσ128] <;> exact hst), (by rw [eσ128] <;> exact hlpq), (by rw [eσ128] <;> exact hldq)⟩
              clear hlp hld hst hlpq hldq
              obtain ⟨hlp, hld, hst, hlpq, hldq⟩ := hNEW
              refine lv_iconst (v := 1) hx hb dX13_can_131 (by decide) ?_
              have he : f_X13_can σ w0 w1 w2 w3 = (σ128, (1 : Int32)) := (by have eσ113 := eσ113.symm; subst eσ113; have er113 := er113.symm; subst er113; have eσ128 := eσ128.symm; subst eσ128; exact ((if_neg c9_0).trans ((if_neg c9_1).trans ((if_neg c9_2).trans ((if_neg c9_3).trans ((if_pos c9_4).trans ((if_pos c116).trans rfl)))))))
              exact w_retz (wXV g) C h hr hlocks (congrArg Prod.fst he) (congrArg Prod.snd he) (Or.inr rfl) ⟨hlpq, hldq, (by first | assumption | omega | (unfold Hd; omega))⟩ dX13_can_132
            · have i116 := c_nle c116
              refine lv_iconst (v := 0) hx hb dX13_can_119 (by decide) ?_
              have he : f_X13_can σ w0 w1 w2 w3 = (σ113, (0 : Int32)) := (by have eσ113 := eσ113.symm; subst eσ113; have er113 := er113.symm; subst er113; exact ((if_neg c9_0).trans ((if_neg c9_1).trans ((if_neg c9_2).trans ((if_neg c9_3).trans ((if_pos c9_4).trans ((if_neg c116).trans rfl)))))))
              exact w_retz (wXV g) C h hr hlocks (congrArg Prod.fst he) (congrArg Prod.snd he) (Or.inl rfl) ⟨hlpq, hldq, (by first | assumption | omega | (unfold Hd; omega))⟩ dX13_can_120
          · have i9_4 := c_ne c9_4
            refine lv_tableOut (tgt := 133) hx hb dX13_can_9 (by have y0 := c_ne c9_0; rw [show (0 : Int32).toInt = 0 from rfl] at y0; have y1 := c_ne c9_1; rw [show (1 : Int32).toInt = 1 from rfl] at y1; have y2 := c_ne c9_2; rw [show (2 : Int32).toInt = 2 from rfl] at y2; have y3 := c_ne c9_3; rw [show (3 : Int32).toInt = 3 from rfl] at y3; have y4 := c_ne c9_4; rw [show (4 : Int32).toInt = 4 from rfl] at y4; omega) (by decide) ?_
            refine lv_aload_n hx hb dX13_can_133 rfl (lv_at hl 2 rfl) ?_
            refine lv_iconst (v := 1) hx hb dX13_can_134 (by decide) ?_
            refine V13_p7 C h rfl dX13_can_135 (fun σ135 H locs eσ135 h => ?_)
            have hNEW : (0 ≤ (gi (ttb σ135) 1).toInt ∧ (gi (ttb σ135) 1).toInt ≤ 6) ∧ (0 ≤ (gi (ttb σ135) 3).toInt ∧ (gi (ttb σ135) 3).toInt ≤ 16 ∧ (gi (ttb σ135) 3).toInt ≤ (g.1.2.1 50 : Int)) ∧ (0 ≤ (gi (own σ135) 1).toInt ∧ (gi (own σ135) 1).toInt ≤ 65535) ∧ ((gi (ttb σ135) 1).toInt = (gi (ttb σ) 1).toInt) ∧ ((gi (ttb σ135) 3).toInt = (gi (ttb σ) 3).toInt) := ⟨(by rw [eσ135] <;> exact hlp), (by rw [eσ135] <;> exact hld), (by rw [eσ135] <;> exact hst), (by rw [eσ135] <;> exact hlpq), (by rw [eσ135] <;> exact hldq)⟩
            obtain ⟨hlp, hld, hst, hlpq, hldq⟩ := hNEW
            refine lv_iconst (v := 1) hx hb dX13_can_138 (by decide) ?_
            have he : f_X13_can σ w0 w1 w2 w3 = (σ135, (1 : Int32)) := (by have eσ135 := eσ135.symm; subst eσ135; exact ((if_neg c9_0).trans ((if_neg c9_1).trans ((if_neg c9_2).trans ((if_neg c9_3).trans ((if_neg c9_4).trans rfl))))))
            exact w_retz (wXV g) C h hr hlocks (congrArg Prod.fst he) (congrArg Prod.snd he) (Or.inr rfl) ⟨hlpq, hldq, (by first | assumption | omega | (unfold Hd; omega))⟩ dX13_can_139
def f_X13_does (σ : MS × MS) (w0 : Int32) (w1 : Int32) (w2 : Int32) (w3 : Int32) : MS × MS := (let z2 := (f_X13_can σ w0 w1 w2 w3); let σ2 := z2.1; let r2 := z2.2; if r2 = (0 : Int32) then ((let σ15 := lsi σ2 3 ((gi (own σ2) 3) + (1 : Int32)); σ15)) else (σ2))
set_option maxHeartbeats 4000000 in
set_option maxRecDepth 100000 in
theorem k_X13_does (l : Launch) (g : GV) (σ : MS × MS) (a ka : Nat) (w0 : Int32) (w1 : Int32) (w2 : Int32) (w3 : Int32) (ha : g.2.2[ka]? = some (a, .inr (11, [.int w0, .int w1, .int w2, .int w3]))) (hlp : 0 ≤ (gi (ttb σ) 1).toInt ∧ (gi (ttb σ) 1).toInt ≤ 6) (hld : 0 ≤ (gi (ttb σ) 3).toInt ∧ (gi (ttb σ) 3).toInt ≤ 16 ∧ (gi (ttb σ) 3).toInt ≤ (g.1.2.1 50 : Int)) (hst : 0 ≤ (gi (own σ) 1).toInt ∧ (gi (own σ) 1).toInt ≤ 65535) (hQg : ∀ p : Nat, p < g.1.2.1 51 → 0 ≤ (g.1.2.2.2.2.1 2 p).toInt ∧ (g.1.2.2.2.2.1 2 p).toInt ≤ 20) (haw : AW w0 w1 w2 (gi (ttb σ) 1).toInt) : Met l yX13_does (ws_ yX13_does cX13_does 2 none) ({ frames := 8, cells := 0, slots := 0, locals := 182 } : Room) (wPc (dV g) a σ [.ref (g.2.1 99)]) (wQv (dV g) (f_X13_does σ w0 w1 w2 w3) (fun u => ((gi (ttb u) 1).toInt = (gi (ttb σ) 1).toInt) ∧ ((gi (ttb u) 3).toInt = (gi (ttb σ) 3).toInt) ∧ (0 ≤ (gi (own u) 1).toInt ∧ (gi (own u) 1).toInt ≤ 65535))) 0 0 (dV g).2.2.2.1 := by
  refine met_W RX13 (by decide) rfl (Nat.le_of_ble_eq_true rfl) ?_
  intro p e s m args below meth c C hr hlocks h ls hl
  have hx := C.1.1
  have hb := C.1.2.1
  have hml := C.1.2.2.1
  have hown := C.1.2.2.2.1
  have hts := C.1.2.2.2.2
  have hl : lv_has ls 2 [(0, .ref a), (1, .ref (g.2.1 99))] := hl
  have hlpq : (gi (ttb σ) 1).toInt = (gi (ttb σ) 1).toInt := rfl
  have hldq : (gi (ttb σ) 3).toInt = (gi (ttb σ) 3).toInt := rfl
  have zl0 : (0 : Int32).toInt = 0 := rfl
  have zl1 : (1 : Int32).toInt = 1 := rfl
  refine lv_aload_n hx hb dX13_does_0 rfl (lv_at hl 0 rfl) ?_
  refine lv_aload_n hx hb dX13_does_1 rfl (lv_at hl 1 rfl) ?_
  refine V_acallz (ci := 11) (ka := ka) (As := [.ref (g.2.1 99)]) (rest := []) 1 C h (k_X13_can l g σ a ka w0 w1 w2 w3 ha (by first | assumption | omega) (by first | assumption | omega) (by first | assumption | omega) (by first | assumption | omega) (by first | assumption | omega)) (lw_V q1464 q1466 qs60 q169 q1467) rfl rfl rfl ha (by decide +kernel) ⟨Nat.le_of_ble_eq_true rfl, Nat.le_of_ble_eq_true rfl⟩ rfl hl.1 rfl (Nat.le_of_ble_eq_true rfl) ⟨Nat.le_of_ble_eq_true rfl, Nat.le_of_ble_eq_true rfl⟩ dX13_does_2 (fun r2 σ2 H locs eσ2 er2 br2 hE2 h => ?_)
  have hE2 : ((gi (ttb σ2) 1).toInt = (gi (ttb σ) 1).toInt) ∧ ((gi (ttb σ2) 3).toInt = (gi (ttb σ) 3).toInt) ∧ (0 ≤ (gi (own σ2) 1).toInt ∧ (gi (own σ2) 1).toInt ≤ 65535) := hE2
  obtain ⟨hlpq_2, hldq_2, hst_2⟩ := hE2
  have hNEW : (0 ≤ (gi (ttb σ2) 1).toInt ∧ (gi (ttb σ2) 1).toInt ≤ 6) ∧ (0 ≤ (gi (ttb σ2) 3).toInt ∧ (gi (ttb σ2) 3).toInt ≤ 16 ∧ (gi (ttb σ2) 3).toInt ≤ (g.1.2.1 50 : Int)) ∧ (0 ≤ (gi (own σ2) 1).toInt ∧ (gi (own σ2) 1).toInt ≤ 65535) ∧ ((gi (ttb σ2) 1).toInt = (gi (ttb σ) 1).toInt) ∧ ((gi (ttb σ2) 3).toInt = (gi (ttb σ) 3).toInt) := ⟨(by first | assumption | omega), (by first | assumption | omega), (by first | assumption | omega), (by first | assumption | omega), (by first | assumption | omega)⟩
  obtain ⟨hlp, hld, hst, hlpq, hldq⟩ := hNEW
  refine lv_if_ne (tgt := 18) hx hb dX13_does_5 (by decide) (fun c5 => ?_) (fun c5 => ?_)
  · have i5 := c_ne c5
    have he : f_X13_does σ w0 w1 w2 w3 = σ2 := (by have eσ2 := eσ2.symm; subst eσ2; have er2 := er2.symm; subst er2; exact ((if_neg c5).trans rfl))
    exact w_retv (wXV g) C h hr hlocks he ⟨hlpq, hldq, (by first | assumption | omega | (unfold Hd; omega))⟩ dX13_does_18
  · have i5 := c_eq c5
    refine lv_aload_n hx hb dX13_does_8 rfl (lv_at hl 1 rfl) ?_
    refine lv_dup hx hb dX13_does_9 rfl ?_
    refine V13_g3 C h dX13_does_10 ?_
    refine lv_iconst (v := 1) hx hb dX13_does_13 (by decide) ?_
    refine lv_iadd hx hb dX13_does_14 ?_
    refine V13_p3 C h dX13_does_15 (fun σ15 H locs eσ15 h => ?_)
    have hNEW : (0 ≤ (gi (ttb σ15) 1).toInt ∧ (gi (ttb σ15) 1).toInt ≤ 6) ∧ (0 ≤ (gi (ttb σ15) 3).toInt ∧ (gi (ttb σ15) 3).toInt ≤ 16 ∧ (gi (ttb σ15) 3).toInt ≤ (g.1.2.1 50 : Int)) ∧ (0 ≤ (gi (own σ15) 1).toInt ∧ (gi (own σ15) 1).toInt ≤ 65535) ∧ ((gi (ttb σ15) 1).toInt = (gi (ttb σ) 1).toInt) ∧ ((gi (ttb σ15) 3).toInt = (gi (ttb σ) 3).toInt) := ⟨(by rw [eσ15] <;> exact hlp), (by rw [eσ15] <;> exact hld), (by rw [eσ15] <;> exact hst), (by rw [eσ15] <;> exact hlpq), (by rw [eσ15] <;> exact hldq)⟩
    clear hlp hld hst hlpq hldq
    obtain ⟨hlp, hld, hst, hlpq, hldq⟩ := hNEW
    have he : f_X13_does σ w0 w1 w2 w3 = σ15 := (by have eσ2 := eσ2.symm; subst eσ2; have er2 := er2.symm; subst er2; have eσ15 := eσ15.symm; subst eσ15; exact ((if_pos c5).trans rfl))
    exact w_retv (wXV g) C h hr hlocks he ⟨hlpq, hldq, (by first | assumption | omega | (unfold Hd; omega))⟩ dX13_does_18
def f_X12_is (σ : MS × MS) (w0 : Int32) (w1 : Int32) (w2 : Int32) (w3 : Int32) (w4 : Int32) : Int32 := if w0 = (2 : Int32) then ((let r13 := (f_X5_turn (ttb σ) (gi (ttb σ) 5)); if r13 = w1 then ((1 : Int32)) else ((0 : Int32)))) else ((let z60_ : Int32 := (if w0 = (0 : Int32) then ((ga (ttb σ) 11 w1)) else ((let r57 := (f_X5_owes (ttb σ) w1 w2); r57))); let t0_60 := z60_; if w3 = (60 : Int32) then (if w4 ≤ t0_60 then ((0 : Int32)) else ((1 : Int32))) else (if w3 = (62 : Int32) then (if t0_60 ≤ w4 then ((0 : Int32)) else ((1 : Int32))) else (if t0_60 = w4 then ((1 : Int32)) else ((0 : Int32))))))
set_option maxHeartbeats 4000000 in
set_option maxRecDepth 100000 in
theorem k_X12_is (l : Launch) (g : GV) (σ : MS × MS) (a ka : Nat) (b0 : Nat) (b1 : Int32) (w0 : Int32) (w1 : Int32) (w2 : Int32) (w3 : Int32) (w4 : Int32) (ha : g.2.2[ka]? = some (a, .inr (10, [.ref b0, .int b1, .int w0, .int w1, .int w2, .int w3, .int w4]))) (hlp : 0 ≤ (gi (ttb σ) 1).toInt ∧ (gi (ttb σ) 1).toInt ≤ 6) (hld : 0 ≤ (gi (ttb σ) 3).toInt ∧ (gi (ttb σ) 3).toInt ≤ 16 ∧ (gi (ttb σ) 3).toInt ≤ (g.1.2.1 50 : Int)) (haw : WWh w0 w1 w2 (gi (ttb σ) 1).toInt) : Met l yX12_is (ws_ yX12_is cX12_is 3 (some .boolean)) ({ frames := 4, cells := 0, slots := 0, locals := 90 } : Room) (wPc (dV g) a σ [.ref (g.1.2.1 99)]) (wQz (dV g) σ (f_X12_is σ w0 w1 w2 w3 w4) (fun u r => True)) 0 0 (dV g).2.2.2.1 := by
  refine met_W RX12 (by decide) rfl (Nat.le_of_ble_eq_true rfl) ?_
  intro p e s m args below meth c C hr hlocks h ls hl
  have hx := C.1.1
  have hb := C.1.2.1
  have hml := C.1.2.2.1
  have hown := C.1.2.2.2.1
  have hts := C.1.2.2.2.2
  have hl : lv_has ls 3 [(0, .ref a), (1, .ref (g.1.2.1 99))] := hl
  have zl0 : (0 : Int32).toInt = 0 := rfl
  have zl1 : (1 : Int32).toInt = 1 := rfl
  have zl2 : (2 : Int32).toInt = 2 := rfl
  have zl60 : (60 : Int32).toInt = 60 := rfl
  have zl62 : (62 : Int32).toInt = 62 := rfl
  refine lv_aload_n hx hb dX12_is_0 rfl (lv_at hl 0 rfl) ?_
  refine V12_s2 C h ha rfl dX12_is_1 ?_
  obtain ⟨ra, rb⟩ := haw
  refine lv_iconst (v := 2) hx hb dX12_is_4 (by decide) ?_
  refine lv_icmp_ne (tgt := 29) hx hb dX12_is_5 (by decide) (fun c5 => ?_) (fun c5 => ?_)
  · have i5 := c_ne c5
    refine lv_aload_n hx hb dX12_is_29 rfl (lv_at hl 0 rfl) ?_
    refine V12_s2 C h ha rfl dX12_is_30 ?_
    have j60 : ∀ (t0_60 : Int32) (H : Heap) (locs : List Loc) (ls : Array Slot) (ej60 : (if w0 = (0 : Int32) then ((ga (ttb σ) 11 w1)) else ((let r57 := (f_X5_owes (ttb σ) w1 w2); r57))) = t0_60) (h : wH (dV g) σ s H locs) (hl : lv_has ls 3 [(0, .ref a)]), W p l e ({ frames := 4, cells := 0, slots := 0, locals := 90 } : Room) s m args below meth c H locs 0 0 (MQ below (wQz (dV g) σ (f_X12_is σ w0 w1 w2 w3 w4) (fun u r => True)) args s 0 0 (dV g).2.2.2.1) (F0 m 60 ls [.int t0_60]) := by
      intro t0_60 H locs ls ej60 h hl
      have et0_60 := ej60.symm
      refine lv_istore_n (lv' := [(2, .int t0_60), (0, .ref a)]) hx hb dX12_is_60 rfl hl (by decide) rfl (fun ls hl => ?_)
      refine lv_aload_n hx hb dX12_is_61 rfl (lv_at hl 1 rfl) ?_
      refine V12_s5 C h ha rfl dX12_is_62 ?_
      refine lv_bipush (v := 60) hx hb dX12_is_65 (by decide) ?_
      refine lv_icmp_ne (tgt := 86) hx hb dX12_is_67 (by decide) (fun c67 => ?_) (fun c67 => ?_)
      · have i67 := c_ne c67
        refine lv_aload_n hx hb dX12_is_86 rfl (lv_at hl 1 rfl) ?_
        refine V12_s5 C h ha rfl dX12_is_87 ?_
        refine lv_bipush (v := 62) hx hb dX12_is_90 (by decide) ?_
        refine lv_icmp_ne (tgt := 111) hx hb dX12_is_92 (by decide) (fun c92 => ?_) (fun c92 => ?_)
        · have i92 := c_ne c92
          refine lv_iload_n hx hb dX12_is_111 rfl (lv_at hl 0 rfl) ?_
          refine lv_aload_n hx hb dX12_is_112 rfl (lv_at hl 1 rfl) ?_
          refine V12_s6 C h ha rfl dX12_is_113 ?_
          refine lv_icmp_ne (tgt := 123) hx hb dX12_is_116 (by decide) (fun c116 => ?_) (fun c116 => ?_)
          · have i116 := c_ne c116
            refine lv_iconst (v := 0) hx hb dX12_is_123 (by decide) ?_
            have he : f_X12_is σ w0 w1 w2 w3 w4 = (0 : Int32) := (by have et0_60 := et0_60.symm; subst et0_60; exact ((if_neg c5).trans ((if_neg c67).trans ((if_neg c92).trans ((if_neg c116).trans rfl)))))
            exact w_retz (wXV g) C h hr hlocks rfl he (Or.inl rfl) trivial dX12_is_124
          · have i116 := c_eq c116
            refine lv_iconst (v := 1) hx hb dX12_is_119 (by decide) ?_
            refine lv_goto (tgt := 124) hx hb dX12_is_120 (by decide) ?_
            have he : f_X12_is σ w0 w1 w2 w3 w4 = (1 : Int32) := (by have et0_60 := et0_60.symm; subst et0_60; exact ((if_neg c5).trans ((if_neg c67).trans ((if_neg c92).trans ((if_pos c116).trans rfl)))))
            exact w_retz (wXV g) C h hr hlocks rfl he (Or.inr rfl) trivial dX12_is_124
        · have i92 := c_eq c92
          refine lv_iload_n hx hb dX12_is_95 rfl (lv_at hl 0 rfl) ?_
          refine lv_aload_n hx hb dX12_is_96 rfl (lv_at hl 1 rfl) ?_
          refine V12_s6 C h ha rfl dX12_is_97 ?_
          refine lv_icmp_le (tgt := 107) hx hb dX12_is_100 (by decide) (fun c100 => ?_) (fun c100 => ?_)
          · have i100 := c_le c100
            refine lv_iconst (v := 0) hx hb dX12_is_107 (by decide) ?_
            refine lv_goto (tgt := 124) hx hb dX12_is_108 (by decide) ?_
            have he : f_X12_is σ w0 w1 w2 w3 w4 = (0 : Int32) := (by have et0_60 := et0_60.symm; subst et0_60; exact ((if_neg c5).trans ((if_neg c67).trans ((if_pos c92).trans ((if_pos c100).trans rfl)))))
            exact w_retz (wXV g) C h hr hlocks rfl he (Or.inl rfl) trivial dX12_is_124
          · have i100 := c_nle c100
            refine lv_iconst (v := 1) hx hb dX12_is_103 (by decide) ?_
            refine lv_goto (tgt := 124) hx hb dX12_is_104 (by decide) ?_
            have he : f_X12_is σ w0 w1 w2 w3 w4 = (1 : Int32) := (by have et0_60 := et0_60.symm; subst et0_60; exact ((if_neg c5).trans ((if_neg c67).trans ((if_pos c92).trans ((if_neg c100).trans rfl)))))
            exact w_retz (wXV g) C h hr hlocks rfl he (Or.inr rfl) trivial dX12_is_124
      · have i67 := c_eq c67
        refine lv_iload_n hx hb dX12_is_70 rfl (lv_at hl 0 rfl) ?_
        refine lv_aload_n hx hb dX12_is_71 rfl (lv_at hl 1 rfl) ?_
        refine V12_s6 C h ha rfl dX12_is_72 ?_
        refine lv_icmp_ge (tgt := 82) hx hb dX12_is_75 (by decide) (fun c75 => ?_) (fun c75 => ?_)
        · have i75 := c_le c75
          refine lv_iconst (v := 0) hx hb dX12_is_82 (by decide) ?_
          refine lv_goto (tgt := 124) hx hb dX12_is_83 (by decide) ?_
          have he : f_X12_is σ w0 w1 w2 w3 w4 = (0 : Int32) := (by have et0_60 := et0_60.symm; subst et0_60; exact ((if_neg c5).trans ((if_pos c67).trans ((if_pos c75).trans rfl))))
          exact w_retz (wXV g) C h hr hlocks rfl he (Or.inl rfl) trivial dX12_is_124
        · have i75 := c_nle c75
          refine lv_iconst (v := 1) hx hb dX12_is_78 (by decide) ?_
          refine lv_goto (tgt := 124) hx hb dX12_is_79 (by decide) ?_
          have he : f_X12_is σ w0 w1 w2 w3 w4 = (1 : Int32) := (by have et0_60 := et0_60.symm; subst et0_60; exact ((if_neg c5).trans ((if_pos c67).trans ((if_neg c75).trans rfl))))
          exact w_retz (wXV g) C h hr hlocks rfl he (Or.inr rfl) trivial dX12_is_124
    refine lv_if_ne (tgt := 48) hx hb dX12_is_33 (by decide) (fun c33 => ?_) (fun c33 => ?_)
    · have i33 := c_ne c33
      refine lv_aload_n hx hb dX12_is_48 rfl (lv_at hl 1 rfl) ?_
      refine lv_aload_n hx hb dX12_is_49 rfl (lv_at hl 0 rfl) ?_
      refine V12_s3 C h ha rfl dX12_is_50 ?_
      refine lv_aload_n hx hb dX12_is_53 rfl (lv_at hl 0 rfl) ?_
      refine V12_s4 C h ha rfl dX12_is_54 ?_
      refine V_tcalli (As := [.int w1, .int w2]) (rest := []) 2 C h (k_X5_owes l g.1 (ttb σ) w1 w2 (by first | assumption | omega) (by first | assumption | omega)) (lw_V q1501 q1144 q1145 q151 q1146) rfl rfl (by decide +kernel) ⟨Nat.le_of_ble_eq_true rfl, Nat.le_of_ble_eq_true rfl⟩ rfl hl.1 rfl (Nat.le_of_ble_eq_true rfl) ⟨Nat.le_of_ble_eq_true rfl, Nat.le_of_ble_eq_true rfl⟩ dX12_is_57 (fun r57 σ57 H locs eσ57 er57 hE57 h => ?_)
      have h : wH (dV g) σ s H locs := by rw [eσ57] at h; exact h
      clear hE57
      clear eσ57
      exact j60 _ _ _ _ (by have er57 := er57.symm; subst er57; exact ((if_neg c33).trans rfl)) h (lv_sub hl [0] rfl)
    · have i33 := c_eq c33
      refine lv_aload_n hx hb dX12_is_36 rfl (lv_at hl 1 rfl) ?_
      refine V12_t11 C h dX12_is_37 ?_
      refine lv_aload_n hx hb dX12_is_40 rfl (lv_at hl 0 rfl) ?_
      refine V12_s3 C h ha rfl dX12_is_41 ?_
      refine V_l211 C h (ix_of (rfl : w1.toInt = w1.toInt) (by omega)) dX12_is_44 ?_
      refine lv_goto (tgt := 60) hx hb dX12_is_45 (by decide) ?_
      exact j60 _ _ _ _ (by exact ((if_pos c33).trans rfl)) h (lv_sub hl [0] rfl)
  · have i5 := c_eq c5
    refine lv_aload_n hx hb dX12_is_8 rfl (lv_at hl 1 rfl) ?_
    refine lv_aload_n hx hb dX12_is_9 rfl (lv_at hl 1 rfl) ?_
    refine V12_t5 C h dX12_is_10 ?_
    refine V_tcalli (As := [.int (gi (ttb σ) 5)]) (rest := []) 1 C h (k_X5_turn l g.1 (ttb σ) (gi (ttb σ) 5) (by first | assumption | omega)) (lw_V q1500 q1155 q1156 q151 q1157) rfl rfl (by decide +kernel) ⟨Nat.le_of_ble_eq_true rfl, Nat.le_of_ble_eq_true rfl⟩ rfl hl.1 rfl (Nat.le_of_ble_eq_true rfl) ⟨Nat.le_of_ble_eq_true rfl, Nat.le_of_ble_eq_true rfl⟩ dX12_is_13 (fun r13 σ13 H locs eσ13 er13 hE13 h => ?_)
    have h : wH (dV g) σ s H locs := by rw [eσ13] at h; exact h
    clear hE13
    clear eσ13
    refine lv_aload_n hx hb dX12_is_16 rfl (lv_at hl 0 rfl) ?_
    refine V12_s3 C h ha rfl dX12_is_17 ?_
    refine lv_icmp_ne (tgt := 27) hx hb dX12_is_20 (by decide) (fun c20 => ?_) (fun c20 => ?_)
    · have i20 := c_ne c20
      refine lv_iconst (v := 0) hx hb dX12_is_27 (by decide) ?_
      have he : f_X12_is σ w0 w1 w2 w3 w4 = (0 : Int32) := (by have er13 := er13.symm; subst er13; exact ((if_pos c5).trans ((if_neg c20).trans rfl)))
      exact w_retz (wXV g) C h hr hlocks rfl he (Or.inl rfl) trivial dX12_is_28
    · have i20 := c_eq c20
      refine lv_iconst (v := 1) hx hb dX12_is_23 (by decide) ?_
      refine lv_goto (tgt := 28) hx hb dX12_is_24 (by decide) ?_
      have he : f_X12_is σ w0 w1 w2 w3 w4 = (1 : Int32) := (by have er13 := er13.symm; subst er13; exact ((if_pos c5).trans ((if_pos c20).trans rfl)))
      exact w_retz (wXV g) C h hr hlocks rfl he (Or.inr rfl) trivial dX12_is_28
