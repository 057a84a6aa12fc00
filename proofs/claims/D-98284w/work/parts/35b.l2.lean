/-! walks of methods by contract, printed by gen/mkwalk.py -/
set_option maxRecDepth 100000
def f_X0_areThree (σ : MS × MS) (p1 : Int32) (p2 : Int32) (p3 : Int32) : Int32 := (let r3 := (f_X0_areTwo σ p1 p2); if r3 = (0 : Int32) then ((0 : Int32)) else ((let r12 := (f_X0_areTwo σ p2 p3); if r12 = (0 : Int32) then ((0 : Int32)) else (if p1 = p3 then ((0 : Int32)) else ((1 : Int32))))))
set_option maxHeartbeats 4000000 in
set_option maxRecDepth 100000 in
theorem k_X0_areThree (l : Launch) (g : GL) (σ : MS × MS) (p1 : Int32) (p2 : Int32) (p3 : Int32) (hlp : 0 ≤ (gi (ttb σ) 1).toInt ∧ (gi (ttb σ) 1).toInt ≤ 6) : Met l yX0_areThree (ws_ yX0_areThree cX0_areThree 4 (some .boolean)) ({ frames := 3, cells := 0, slots := 0, locals := 68 } : Room) (wPc (dL g) (g.2.2.1 99) σ [.int p1, .int p2, .int p3]) (wQz (dL g) σ (f_X0_areThree σ p1 p2 p3) (fun u r => True)) 0 0 (dL g).2.2.2.1 := by
  refine met_W RX0 (by decide) rfl (Nat.le_of_ble_eq_true rfl) ?_
  intro p e s m args below meth c C hr hlocks h ls hl
  have hx := C.1.1
  have hb := C.1.2.1
  have hml := C.1.2.2.1
  have hown := C.1.2.2.2.1
  have hts := C.1.2.2.2.2
  have hl : lv_has ls 4 [(0, .ref (g.2.2.1 99)), (1, .int p1), (2, .int p2), (3, .int p3)] := hl
  have zl0 : (0 : Int32).toInt = 0 := rfl
  have zl1 : (1 : Int32).toInt = 1 := rfl
  refine lv_aload_n hx hb dX0_areThree_0 rfl (lv_at hl 0 rfl) ?_
  refine lv_iload_n hx hb dX0_areThree_1 rfl (lv_at hl 1 rfl) ?_
  refine lv_iload_n hx hb dX0_areThree_2 rfl (lv_at hl 2 rfl) ?_
  refine w_callz (ci := 0) (q0 := 6) (As := [.int p1, .int p2]) (rest := []) 2 (wXL g) C h (k_X0_areTwo l g σ p1 p2 (by first | assumption | omega)) (lw_V q1178 q1180 qs48 q144 q1181) rfl rfl rfl rfl (by decide +kernel) ⟨Nat.le_of_ble_eq_true rfl, Nat.le_of_ble_eq_true rfl⟩ rfl hl.1 rfl (Nat.le_of_ble_eq_true rfl) ⟨Nat.le_of_ble_eq_true rfl, Nat.le_of_ble_eq_true rfl⟩ dX0_areThree_3 (fun r3 σ3 H locs eσ3 er3 br3 hE3 h => ?_)
  rw [eσ3] at h
  clear hE3
  clear eσ3
  refine lv_if_eq (tgt := 27) hx hb dX0_areThree_6 (by decide) (fun c6 => ?_) (fun c6 => ?_)
  · have i6 := c_eq c6
    refine lv_iconst (v := 0) hx hb dX0_areThree_27 (by decide) ?_
    have he : f_X0_areThree σ p1 p2 p3 = (0 : Int32) := (by have er3 := er3.symm; subst er3; exact ((if_pos c6).trans rfl))
    exact w_retz (wXL g) C h hr hlocks rfl he (Or.inl rfl) trivial dX0_areThree_28
  · have i6 := c_ne c6
    have okr3 := lAreTwo_ok hlp er3 c6
    refine lv_aload_n hx hb dX0_areThree_9 rfl (lv_at hl 0 rfl) ?_
    refine lv_iload_n hx hb dX0_areThree_10 rfl (lv_at hl 2 rfl) ?_
    refine lv_iload_n hx hb dX0_areThree_11 rfl (lv_at hl 3 rfl) ?_
    refine w_callz (ci := 0) (q0 := 6) (As := [.int p2, .int p3]) (rest := []) 2 (wXL g) C h (k_X0_areTwo l g σ p2 p3 (by first | assumption | omega)) (lw_V q1178 q1180 qs48 q144 q1181) rfl rfl rfl rfl (by decide +kernel) ⟨Nat.le_of_ble_eq_true rfl, Nat.le_of_ble_eq_true rfl⟩ rfl hl.1 rfl (Nat.le_of_ble_eq_true rfl) ⟨Nat.le_of_ble_eq_true rfl, Nat.le_of_ble_eq_true rfl⟩ dX0_areThree_12 (fun r12 σ12 H locs eσ12 er12 br12 hE12 h => ?_)
    rw [eσ12] at h
    clear hE12
    clear eσ12
    refine lv_if_eq (tgt := 27) hx hb dX0_areThree_15 (by decide) (fun c15 => ?_) (fun c15 => ?_)
    · have i15 := c_eq c15
      refine lv_iconst (v := 0) hx hb dX0_areThree_27 (by decide) ?_
      have he : f_X0_areThree σ p1 p2 p3 = (0 : Int32) := (by have er3 := er3.symm; subst er3; have er12 := er12.symm; subst er12; exact ((if_neg c6).trans ((if_pos c15).trans rfl)))
      exact w_retz (wXL g) C h hr hlocks rfl he (Or.inl rfl) trivial dX0_areThree_28
    · have i15 := c_ne c15
      have okr12 := lAreTwo_ok hlp er12 c15
      refine lv_iload_n hx hb dX0_areThree_18 rfl (lv_at hl 1 rfl) ?_
      refine lv_iload_n hx hb dX0_areThree_19 rfl (lv_at hl 3 rfl) ?_
      refine lv_icmp_eq (tgt := 27) hx hb dX0_areThree_20 (by decide) (fun c20 => ?_) (fun c20 => ?_)
      · have i20 := c_eq c20
        refine lv_iconst (v := 0) hx hb dX0_areThree_27 (by decide) ?_
        have he : f_X0_areThree σ p1 p2 p3 = (0 : Int32) := (by have er3 := er3.symm; subst er3; have er12 := er12.symm; subst er12; exact ((if_neg c6).trans ((if_neg c15).trans ((if_pos c20).trans rfl))))
        exact w_retz (wXL g) C h hr hlocks rfl he (Or.inl rfl) trivial dX0_areThree_28
      · have i20 := c_ne c20
        refine lv_iconst (v := 1) hx hb dX0_areThree_23 (by decide) ?_
        refine lv_goto (tgt := 28) hx hb dX0_areThree_24 (by decide) ?_
        have he : f_X0_areThree σ p1 p2 p3 = (1 : Int32) := (by have er3 := er3.symm; subst er3; have er12 := er12.symm; subst er12; exact ((if_neg c6).trans ((if_neg c15).trans ((if_neg c20).trans rfl))))
        exact w_retz (wXL g) C h hr hlocks rfl he (Or.inr rfl) trivial dX0_areThree_28
theorem lAreThree_ok {σ : MS × MS} {a b c r : Int32} (hp : 0 ≤ (gi (ttb σ) 1).toInt ∧ (gi (ttb σ) 1).toInt ≤ 6) (h : r = f_X0_areThree σ a b c) (hr : ¬ r = 0) : (0 ≤ a.toInt ∧ a.toInt < (gi (ttb σ) 1).toInt) ∧ (0 ≤ b.toInt ∧ b.toInt < (gi (ttb σ) 1).toInt) ∧ (0 ≤ c.toInt ∧ c.toInt < (gi (ttb σ) 1).toInt) := by
  unfold f_X0_areThree at h
  dsimp only at h
  split at h
  · exact absurd h hr
  · rename_i h1
    split at h
    · exact absurd h hr
    · rename_i h2
      exact ⟨(lAreTwo_ok hp rfl h1).1, (lAreTwo_ok hp rfl h1).2.1, (lAreTwo_ok hp rfl h2).2.1⟩
def f_X0_reach_L60 (σ : MS × MS) (y1_60 : Int32) (y2_60 : Int32) : Nat → Int32 → Int32 → Int32 × Int32
  | 0, x3_60, x4_60 => (x3_60, x4_60)
  | n + 1, x3_60, x4_60 => if (gi (ttb σ) 1) ≤ x4_60 then ((x3_60, x4_60)) else ((let r76 := (f_X0_has y1_60 x4_60); (let z95_ : Int32 := (if r76 = (0 : Int32) then ((0 : Int32)) else ((ga (ttb σ) 22 x4_60))); let t0_95 := z95_; (let v96 := (x3_60 + t0_95); f_X0_reach_L60 σ y1_60 y2_60 n v96 (x4_60 + (1 : Int32))))))
def f_X0_reach (σ : MS × MS) (p1 : Int32) (p2 : Int32) : (MS × MS) × Int32 := (let r3 := (f_X0_isPerson σ p2); (let z43_ : Int32 := (if r3 = (0 : Int32) then ((1 : Int32)) else ((let r24 := (f_X0_isIn p1.toInt64 (1 : Int64) (((1 : Int32) <<< ((gi (ttb σ) 1) &&& (31 : Int32))) - (1 : Int32)).toInt64); if r24 = (0 : Int32) then ((1 : Int32)) else ((let r32 := (f_X0_has p1 p2); if r32 = (0 : Int32) then ((1 : Int32)) else ((0 : Int32))))))); let t0_43 := z43_; (let σ43 := lsi σ 7 t0_43; if (gi (own σ43) 7) ≤ (0 : Int32) then ((let zL60 := f_X0_reach_L60 σ43 p1 p2 (7) (0 : Int32) (0 : Int32); let x3_60e := zL60.1; let x4_60e := zL60.2; (let z114_ : Int32 := (if x3_60e = (0 : Int32) then ((6 : Int32)) else ((0 : Int32))); let t0_114 := z114_; (let σ114 := lsi σ43 7 t0_114; (let jj140 := (fun (σJ140 : (MS × MS)) => if (gi (own σJ140) 7) = (0 : Int32) then ((σJ140, (1 : Int32))) else ((σJ140, (0 : Int32)))); if (gi (own σ114) 7) = (0 : Int32) then ((let z136 := (f_X0_fraction σ114 (ga (ttb σ114) 22 p2).toInt64 x3_60e.toInt64); let σ136 := z136.1; let r136 := z136.2; jj140 σ136)) else (jj140 σ114)))))) else ((σ43, (0 : Int32))))))
set_option maxHeartbeats 4000000 in
set_option maxRecDepth 100000 in
theorem k_X0_reach (l : Launch) (g : GL) (σ : MS × MS) (p1 : Int32) (p2 : Int32) (hlp : 0 ≤ (gi (ttb σ) 1).toInt ∧ (gi (ttb σ) 1).toInt ≤ 6) (hld : 0 ≤ (gi (ttb σ) 3).toInt ∧ (gi (ttb σ) 3).toInt ≤ 16 ∧ (gi (ttb σ) 3).toInt ≤ (g.1.2.1 50 : Int)) : Met l yX0_reach (ws_ yX0_reach cX0_reach 5 (some .boolean)) ({ frames := 2, cells := 0, slots := 0, locals := 53 } : Room) (wPc (dL g) (g.2.2.1 99) σ [.int p1, .int p2]) (wQz (dL g) (f_X0_reach σ p1 p2).1 (f_X0_reach σ p1 p2).2 (fun u r => ((gi (ttb u) 1).toInt = (gi (ttb σ) 1).toInt) ∧ ((gi (ttb u) 3).toInt = (gi (ttb σ) 3).toInt))) 0 0 (dL g).2.2.2.1 := by
  refine met_W RX0 (by decide) rfl (Nat.le_of_ble_eq_true rfl) ?_
  intro p e s m args below meth c C hr hlocks h ls hl
  have hx := C.1.1
  have hb := C.1.2.1
  have hml := C.1.2.2.1
  have hown := C.1.2.2.2.1
  have hts := C.1.2.2.2.2
  have hl : lv_has ls 5 [(0, .ref (g.2.2.1 99)), (1, .int p1), (2, .int p2)] := hl
  have hlpq : (gi (ttb σ) 1).toInt = (gi (ttb σ) 1).toInt := rfl
  have hldq : (gi (ttb σ) 3).toInt = (gi (ttb σ) 3).toInt := rfl
  have zl0 : (0 : Int32).toInt = 0 := rfl
  have zl1 : (1 : Int32).toInt = 1 := rfl
  have zl6 : (6 : Int32).toInt = 6 := rfl
  refine lv_aload_n hx hb dX0_reach_0 rfl (lv_at hl 0 rfl) ?_
  refine lv_aload_n hx hb dX0_reach_1 rfl (lv_at hl 0 rfl) ?_
  refine lv_iload_n hx hb dX0_reach_2 rfl (lv_at hl 2 rfl) ?_
  refine w_callz (ci := 0) (q0 := 6) (As := [.int p2]) (rest := [.ref (g.2.2.1 99)]) 1 (wXL g) C h (k_X0_isPerson l g σ p2 (by first | assumption | omega)) (lw_V q1024 q1026 qs41 q144 q1027) rfl rfl rfl rfl (by decide +kernel) ⟨Nat.le_of_ble_eq_true rfl, Nat.le_of_ble_eq_true rfl⟩ rfl hl.1 rfl (Nat.le_of_ble_eq_true rfl) ⟨Nat.le_of_ble_eq_true rfl, Nat.le_of_ble_eq_true rfl⟩ dX0_reach_3 (fun r3 σ3 H locs eσ3 er3 br3 hE3 h => ?_)
  rw [eσ3] at h
  clear hE3
  clear eσ3
  have j43 : ∀ (t0_43 : Int32) (H : Heap) (locs : List Loc) (ls : Array Slot) (ej43 : (if r3 = (0 : Int32) then ((1 : Int32)) else ((let r24 := (f_X0_isIn p1.toInt64 (1 : Int64) (((1 : Int32) <<< ((gi (ttb σ) 1) &&& (31 : Int32))) - (1 : Int32)).toInt64); if r24 = (0 : Int32) then ((1 : Int32)) else ((let r32 := (f_X0_has p1 p2); if r32 = (0 : Int32) then ((1 : Int32)) else ((0 : Int32))))))) = t0_43) (bt0_43 : t0_43 = 0 ∨ t0_43 = 1) (hI43 : (0 < t0_43.toInt) ∨ (0 ≤ p2.toInt ∧ p2.toInt < (gi (ttb σ) 1).toInt)) (h : wH (dL g) σ s H locs) (hl : lv_has ls 5 [(0, .ref (g.2.2.1 99)), (1, .int p1), (2, .int p2)]), W p l e ({ frames := 2, cells := 0, slots := 0, locals := 53 } : Room) s m args below meth c H locs 0 0 (MQ below (wQz (dL g) (f_X0_reach σ p1 p2).1 (f_X0_reach σ p1 p2).2 (fun u r => ((gi (ttb u) 1).toInt = (gi (ttb σ) 1).toInt) ∧ ((gi (ttb u) 3).toInt = (gi (ttb σ) 3).toInt))) args s 0 0 (dL g).2.2.2.1) (F0 m 43 ls [.int t0_43, .ref (g.2.2.1 99)]) := by
    intro t0_43 H locs ls ej43 bt0_43 hI43 h hl
    have et0_43 := ej43.symm
    refine L_p7 C h dX0_reach_43 (fun σ43 H locs eσ43 h => ?_)
    have hNEW : (0 ≤ (gi (ttb σ43) 1).toInt ∧ (gi (ttb σ43) 1).toInt ≤ 6) ∧ (0 ≤ (gi (ttb σ43) 3).toInt ∧ (gi (ttb σ43) 3).toInt ≤ 16 ∧ (gi (ttb σ43) 3).toInt ≤ (g.1.2.1 50 : Int)) ∧ ((gi (ttb σ43) 1).toInt = (gi (ttb σ) 1).toInt) ∧ ((gi (ttb σ43) 3).toInt = (gi (ttb σ) 3).toInt) := ⟨(by rw [eσ43] <;> exact hlp), (by rw [eσ43] <;> exact hld), (by rw [eσ43] <;> exact hlpq), (by rw [eσ43] <;> exact hldq)⟩
    obtain ⟨hlp, hld, hlpq, hldq⟩ := hNEW
    have q7_43 : (gi (own σ43) 7).toInt = t0_43.toInt := by rw [eσ43]; rfl
    refine lv_aload_n hx hb dX0_reach_46 rfl (lv_at hl 0 rfl) ?_
    refine L_g7 C h dX0_reach_47 ?_
    refine lv_if_le (tgt := 55) hx hb dX0_reach_50 (by decide) (fun c50 => ?_) (fun c50 => ?_)
    · have i50 := c_le c50
      refine lv_iconst (v := 0) hx hb dX0_reach_55 (by decide) ?_
      refine lv_istore_n (lv' := [(3, .int (0 : Int32)), (0, .ref (g.2.2.1 99)), (1, .int p1), (2, .int p2)]) hx hb dX0_reach_56 rfl hl (by decide) rfl (fun ls hl => ?_)
      refine lv_iconst (v := 0) hx hb dX0_reach_57 (by decide) ?_
      refine lv_istore (lv' := [(4, .int (0 : Int32)), (3, .int (0 : Int32)), (0, .ref (g.2.2.1 99)), (1, .int p1), (2, .int p2)]) hx hb dX0_reach_58 hl (by decide) rfl (fun ls hl => ?_)
      have hL60 : ∀ (n : Nat) (x3_60 : Int32) (x4_60 : Int32) (H : Heap) (locs : List Loc) (ls : Array Slot), (0 ≤ x4_60.toInt ∧ x4_60.toInt ≤ (gi (ttb σ43) 1).toInt) → ((gi (ttb σ43) 1).toInt - x4_60.toInt).toNat < n → wH (dL g) σ43 s H locs → lv_has ls 5 [(0, .ref (g.2.2.1 99)), (1, .int p1), (2, .int p2), (3, .int x3_60), (4, .int x4_60)] → (∀ (x3_60' : Int32) (x4_60' : Int32) (H : Heap) (locs : List Loc) (ls : Array Slot), f_X0_reach_L60 σ43 p1 p2 n x3_60 x4_60 = (x3_60', x4_60') → (0 ≤ x4_60'.toInt ∧ x4_60'.toInt ≤ (gi (ttb σ43) 1).toInt) → wH (dL g) σ43 s H locs → lv_has ls 5 [(0, .ref (g.2.2.1 99)), (2, .int p2), (3, .int x3_60')] → W p l e ({ frames := 2, cells := 0, slots := 0, locals := 53 } : Room) s m args below meth c H locs 0 0 (MQ below (wQz (dL g) (f_X0_reach σ p1 p2).1 (f_X0_reach σ p1 p2).2 (fun u r => ((gi (ttb u) 1).toInt = (gi (ttb σ) 1).toInt) ∧ ((gi (ttb u) 3).toInt = (gi (ttb σ) 3).toInt))) args s 0 0 (dL g).2.2.2.1) (F0 m 103 ls [])) → W p l e ({ frames := 2, cells := 0, slots := 0, locals := 53 } : Room) s m args below meth c H locs 0 0 (MQ below (wQz (dL g) (f_X0_reach σ p1 p2).1 (f_X0_reach σ p1 p2).2 (fun u r => ((gi (ttb u) 1).toInt = (gi (ttb σ) 1).toInt) ∧ ((gi (ttb u) 3).toInt = (gi (ttb σ) 3).toInt))) args s 0 0 (dL g).2.2.2.1) (F0 m 60 ls []) := by
        intro n
        induction n with
        | zero =>
          intro x3_60 x4_60 H locs ls _ hm; exact absurd hm (Nat.not_lt_zero _)
        | succ n ih =>
          intro x3_60 x4_60 H locs ls hI60 hm h hl kk
          refine lv_iload hx hb dX0_reach_60 (lv_at hl 4 rfl) ?_
          refine lv_aload_n hx hb dX0_reach_62 rfl (lv_at hl 0 rfl) ?_
          refine L_at (rest := [.int x4_60]) C h ⟨Nat.le_of_ble_eq_true rfl, Nat.le_of_ble_eq_true rfl⟩ hl.1 (Nat.le_of_ble_eq_true rfl) ⟨Nat.le_of_ble_eq_true rfl, Nat.le_of_ble_eq_true rfl⟩ dX0_reach_63 (fun H locs h => ?_)
          refine L_t1 C h dX0_reach_66 ?_
          refine lv_icmp_ge (tgt := 103) hx hb dX0_reach_69 (by decide) (fun c69 => ?_) (fun c69 => ?_)
          · have i69 := c_le c69
            exact kk x3_60 x4_60 _ _ _ (show f_X0_reach_L60 σ43 p1 p2 (n + 1) x3_60 x4_60 = (x3_60, x4_60) from (by exact ((if_pos c69).trans rfl)))  (by first | assumption | omega) h (lv_sub hl [0, 2, 3] rfl)
          · have i69 := c_nle c69
            refine lv_iload_n hx hb dX0_reach_72 rfl (lv_at hl 3 rfl) ?_
            refine lv_iload_n hx hb dX0_reach_73 rfl (lv_at hl 1 rfl) ?_
            refine lv_iload hx hb dX0_reach_74 (lv_at hl 4 rfl) ?_
            refine s_callz (As := [.int p1, .int x4_60]) (rest := [.int x3_60]) 2 C.1 (k_X0_has l p1 x4_60) (lw_S q1219 q1220 q144 q1221) rfl rfl (by decide +kernel) ⟨Nat.le_of_ble_eq_true rfl, Nat.le_of_ble_eq_true rfl⟩ rfl hl.1 rfl (Nat.le_of_ble_eq_true rfl) ⟨Nat.le_of_ble_eq_true rfl, Nat.le_of_ble_eq_true rfl⟩ dX0_reach_76 h.2.2.1 (fun r76 H locs er76 br76 hz1 hk1 hS1 => ?_)
            have h := h.same hk1 hS1
            clear hz1 hk1 hS1
            have j95 : ∀ (t0_95 : Int32) (H : Heap) (locs : List Loc) (ls : Array Slot) (ej95 : (if r76 = (0 : Int32) then ((0 : Int32)) else ((ga (ttb σ43) 22 x4_60))) = t0_95) (h : wH (dL g) σ43 s H locs) (hl : lv_has ls 5 [(0, .ref (g.2.2.1 99)), (1, .int p1), (2, .int p2), (4, .int x4_60)]), W p l e ({ frames := 2, cells := 0, slots := 0, locals := 53 } : Room) s m args below meth c H locs 0 0 (MQ below (wQz (dL g) (f_X0_reach σ p1 p2).1 (f_X0_reach σ p1 p2).2 (fun u r => ((gi (ttb u) 1).toInt = (gi (ttb σ) 1).toInt) ∧ ((gi (ttb u) 3).toInt = (gi (ttb σ) 3).toInt))) args s 0 0 (dL g).2.2.2.1) (F0 m 95 ls [.int t0_95, .int x3_60]) := by
              intro t0_95 H locs ls ej95 h hl
              have et0_95 := ej95.symm
              refine lv_iadd hx hb dX0_reach_95 ?_
              refine lv_topi (fun v96 ev96 => ?_)
              refine lv_istore_n (lv' := [(3, .int v96), (0, .ref (g.2.2.1 99)), (1, .int p1), (2, .int p2), (4, .int x4_60)]) hx hb dX0_reach_96 rfl hl (by decide) rfl (fun ls hl => ?_)
              refine lv_iinc (v := (x4_60 + (1 : Int32))) (lv' := [(4, .int (x4_60 + (1 : Int32))), (3, .int v96), (0, .ref (g.2.2.1 99)), (1, .int p1), (2, .int p2)]) hx hb dX0_reach_97 hl (k := 4) rfl rfl (by decide) rfl (fun ls hl => ?_)
              refine lv_goto (tgt := 60) hx hb dX0_reach_100 (by decide) ?_
              have tt4 : (x4_60 + (1 : Int32)).toInt = (x4_60.toInt + (1)) := (i_add (rfl : x4_60.toInt = x4_60.toInt) zl1 (by omega))
              exact ih v96 (x4_60 + (1 : Int32)) _ _ _  (by first | assumption | omega) (by omega) h (lv_sub hl [2, 3, 4, 1, 0] rfl) (fun x3_60' x4_60' H locs ls en hI h hl => kk x3_60' x4_60' H locs ls ((show f_X0_reach_L60 σ43 p1 p2 (n + 1) x3_60 x4_60 = f_X0_reach_L60 σ43 p1 p2 n v96 (x4_60 + (1 : Int32)) from (by have er76 := er76.symm; subst er76; have et0_95 := et0_95.symm; subst et0_95; have ev96 := ev96.symm; subst ev96; exact ((if_neg c69).trans rfl))).trans en) hI h hl)
            refine lv_if_eq (tgt := 94) hx hb dX0_reach_79 (by decide) (fun c79 => ?_) (fun c79 => ?_)
            · have i79 := c_eq c79
              refine lv_iconst (v := 0) hx hb dX0_reach_94 (by decide) ?_
              exact j95 _ _ _ _ (by exact ((if_pos c79).trans rfl)) h (lv_sub hl [0, 1, 2, 4] rfl)
            · have i79 := c_ne c79
              have okr76 := lhas_ok er76 c79
              refine lv_aload_n hx hb dX0_reach_82 rfl (lv_at hl 0 rfl) ?_
              refine lv_iload hx hb dX0_reach_83 (lv_at hl 4 rfl) ?_
              refine L_one (rest := [.int x3_60]) C h (by omega) ⟨Nat.le_of_ble_eq_true rfl, Nat.le_of_ble_eq_true rfl⟩ hl.1 (Nat.le_of_ble_eq_true rfl) ⟨Nat.le_of_ble_eq_true rfl, Nat.le_of_ble_eq_true rfl⟩ dX0_reach_85 (fun H locs h => ?_)
              refine L_f2 C h (by omega) dX0_reach_88 ?_
              refine lv_goto (tgt := 95) hx hb dX0_reach_91 (by decide) ?_
              exact j95 _ _ _ _ (by exact ((if_neg c79).trans rfl)) h (lv_sub hl [0, 1, 2, 4] rfl)
      refine hL60 (7) (0 : Int32) (0 : Int32) _ _ _  (by first | assumption | omega) (by omega) h (lv_sub hl [2, 3, 4, 1, 0] rfl) (fun x3_60e x4_60e H locs ls eL60 hI60 h hl => ?_)
      have ex3_60e : x3_60e = (f_X0_reach_L60 σ43 p1 p2 (7) (0 : Int32) (0 : Int32)).1 := by rw [eL60]
      have ex4_60e : x4_60e = (f_X0_reach_L60 σ43 p1 p2 (7) (0 : Int32) (0 : Int32)).2 := by rw [eL60]
      refine lv_aload_n hx hb dX0_reach_103 rfl (lv_at hl 0 rfl) ?_
      refine lv_iload_n hx hb dX0_reach_104 rfl (lv_at hl 2 rfl) ?_
      have j114 : ∀ (t0_114 : Int32) (H : Heap) (locs : List Loc) (ls : Array Slot) (ej114 : (if x3_60e = (0 : Int32) then ((6 : Int32)) else ((0 : Int32))) = t0_114) (hI114 : (0 < t0_114.toInt) ∨ (t0_114.toInt = 0 ∧ ¬ x3_60e.toInt = 0)) (h : wH (dL g) σ43 s H locs) (hl : lv_has ls 5 [(0, .ref (g.2.2.1 99)), (2, .int p2), (3, .int x3_60e)]), W p l e ({ frames := 2, cells := 0, slots := 0, locals := 53 } : Room) s m args below meth c H locs 0 0 (MQ below (wQz (dL g) (f_X0_reach σ p1 p2).1 (f_X0_reach σ p1 p2).2 (fun u r => ((gi (ttb u) 1).toInt = (gi (ttb σ) 1).toInt) ∧ ((gi (ttb u) 3).toInt = (gi (ttb σ) 3).toInt))) args s 0 0 (dL g).2.2.2.1) (F0 m 114 ls [.int t0_114, .ref (g.2.2.1 99)]) := by
        intro t0_114 H locs ls ej114 hI114 h hl
        have et0_114 := ej114.symm
        refine L_p7 C h dX0_reach_114 (fun σ114 H locs eσ114 h => ?_)
        have hNEW : (0 ≤ (gi (ttb σ114) 1).toInt ∧ (gi (ttb σ114) 1).toInt ≤ 6) ∧ (0 ≤ (gi (ttb σ114) 3).toInt ∧ (gi (ttb σ114) 3).toInt ≤ 16 ∧ (gi (ttb σ114) 3).toInt ≤ (g.1.2.1 50 : Int)) ∧ ((gi (ttb σ114) 1).toInt = (gi (ttb σ) 1).toInt) ∧ ((gi (ttb σ114) 3).toInt = (gi (ttb σ) 3).toInt) := ⟨(by rw [eσ114] <;> exact hlp), (by rw [eσ114] <;> exact hld), (by rw [eσ114] <;> exact hlpq), (by rw [eσ114] <;> exact hldq)⟩
        obtain ⟨hlp, hld, hlpq, hldq⟩ := hNEW
        have q7_114 : (gi (own σ114) 7).toInt = t0_114.toInt := by rw [eσ114]; rfl
        refine lv_aload_n hx hb dX0_reach_117 rfl (lv_at hl 0 rfl) ?_
        refine L_g7 C h dX0_reach_118 ?_
        have j140 : ∀ (σJ140 : (MS × MS)) (H : Heap) (locs : List Loc) (ls : Array Slot) (ej140 : f_X0_reach σ p1 p2 = if (gi (own σJ140) 7) = (0 : Int32) then ((σJ140, (1 : Int32))) else ((σJ140, (0 : Int32)))) (hlp : 0 ≤ (gi (ttb σJ140) 1).toInt ∧ (gi (ttb σJ140) 1).toInt ≤ 6) (hld : 0 ≤ (gi (ttb σJ140) 3).toInt ∧ (gi (ttb σJ140) 3).toInt ≤ 16 ∧ (gi (ttb σJ140) 3).toInt ≤ (g.1.2.1 50 : Int)) (hlpq : (gi (ttb σJ140) 1).toInt = (gi (ttb σ) 1).toInt) (hldq : (gi (ttb σJ140) 3).toInt = (gi (ttb σ) 3).toInt) (h : wH (dL g) σJ140 s H locs) (hl : lv_has ls 5 [(0, .ref (g.2.2.1 99))]), W p l e ({ frames := 2, cells := 0, slots := 0, locals := 53 } : Room) s m args below meth c H locs 0 0 (MQ below (wQz (dL g) (f_X0_reach σ p1 p2).1 (f_X0_reach σ p1 p2).2 (fun u r => ((gi (ttb u) 1).toInt = (gi (ttb σ) 1).toInt) ∧ ((gi (ttb u) 3).toInt = (gi (ttb σ) 3).toInt))) args s 0 0 (dL g).2.2.2.1) (F0 m 140 ls []) := by
          intro σJ140 H locs ls ej140 hlp hld hlpq hldq h hl
          refine lv_aload_n hx hb dX0_reach_140 rfl (lv_at hl 0 rfl) ?_
          refine L_g7 C h dX0_reach_141 ?_
          refine lv_if_ne (tgt := 151) hx hb dX0_reach_144 (by decide) (fun c144 => ?_) (fun c144 => ?_)
          · have i144 := c_ne c144
            refine lv_iconst (v := 0) hx hb dX0_reach_151 (by decide) ?_
            have he : f_X0_reach σ p1 p2 = (σJ140, (0 : Int32)) := (by exact (ej140.trans ((if_neg c144).trans rfl)))
            exact w_retz (wXL g) C h hr hlocks (congrArg Prod.fst he) (congrArg Prod.snd he) (Or.inl rfl) ⟨hlpq, hldq⟩ dX0_reach_152
          · have i144 := c_eq c144
            refine lv_iconst (v := 1) hx hb dX0_reach_147 (by decide) ?_
            refine lv_goto (tgt := 152) hx hb dX0_reach_148 (by decide) ?_
            have he : f_X0_reach σ p1 p2 = (σJ140, (1 : Int32)) := (by exact (ej140.trans ((if_pos c144).trans rfl)))
            exact w_retz (wXL g) C h hr hlocks (congrArg Prod.fst he) (congrArg Prod.snd he) (Or.inr rfl) ⟨hlpq, hldq⟩ dX0_reach_152
        refine lv_if_ne (tgt := 140) hx hb dX0_reach_121 (by decide) (fun c121 => ?_) (fun c121 => ?_)
        · have i121 := c_ne c121
          exact j140 _ _ _ _ (by have er3 := er3.symm; subst er3; have et0_43 := et0_43.symm; subst et0_43; have eσ43 := eσ43.symm; subst eσ43; have ex3_60e := ex3_60e.symm; subst ex3_60e; have ex4_60e := ex4_60e.symm; subst ex4_60e; have et0_114 := et0_114.symm; subst et0_114; have eσ114 := eσ114.symm; subst eσ114; exact ((if_pos c50).trans ((if_neg c121).trans rfl))) hlp hld hlpq hldq h (lv_sub hl [0] rfl)
        · have i121 := c_eq c121
          have nz136 : ¬ x3_60e.toInt = 0 := by omega
          refine lv_aload_n hx hb dX0_reach_124 rfl (lv_at hl 0 rfl) ?_
          refine lv_aload_n hx hb dX0_reach_125 rfl (lv_at hl 0 rfl) ?_
          refine lv_iload_n hx hb dX0_reach_126 rfl (lv_at hl 1 rfl) ?_
          refine L_one (rest := [.ref (g.2.2.1 99)]) C h (by omega) ⟨Nat.le_of_ble_eq_true rfl, Nat.le_of_ble_eq_true rfl⟩ hl.1 (Nat.le_of_ble_eq_true rfl) ⟨Nat.le_of_ble_eq_true rfl, Nat.le_of_ble_eq_true rfl⟩ dX0_reach_127 (fun H locs h => ?_)
          refine L_f2 C h (by omega) dX0_reach_130 ?_
          refine lv_i2l (v := (ga (ttb σ114) 22 p2).toInt64) hx hb dX0_reach_133 rfl ?_
          refine lv_iload_n hx hb dX0_reach_134 rfl (lv_at hl 2 rfl) ?_
          refine lv_i2l (v := x3_60e.toInt64) hx hb dX0_reach_135 rfl ?_
          refine w_calli (ci := 0) (q0 := 6) (As := [.long (ga (ttb σ114) 22 p2).toInt64, .long x3_60e.toInt64]) (rest := []) 2 (wXL g) C h (k_X0_fraction l g σ114 (ga (ttb σ114) 22 p2).toInt64 x3_60e.toInt64 (by first | assumption | omega) (by first | assumption | omega) (i2l_ne (fun q => absurd (by rw [q]; rfl) nz136))) (lw_V q1190 q1192 qs51 q144 q1193) rfl rfl rfl rfl (by decide +kernel) ⟨Nat.le_of_ble_eq_true rfl, Nat.le_of_ble_eq_true rfl⟩ rfl hl.1 rfl (Nat.le_of_ble_eq_true rfl) ⟨Nat.le_of_ble_eq_true rfl, Nat.le_of_ble_eq_true rfl⟩ dX0_reach_136 (fun r136 σ136 H locs eσ136 er136 hE136 h => ?_)
          have hE136 : ((gi (ttb σ136) 1).toInt = (gi (ttb σ114) 1).toInt) ∧ ((gi (ttb σ136) 3).toInt = (gi (ttb σ114) 3).toInt) := hE136
          obtain ⟨hlpq_136, hldq_136⟩ := hE136
          have hNEW : (0 ≤ (gi (ttb σ136) 1).toInt ∧ (gi (ttb σ136) 1).toInt ≤ 6) ∧ (0 ≤ (gi (ttb σ136) 3).toInt ∧ (gi (ttb σ136) 3).toInt ≤ 16 ∧ (gi (ttb σ136) 3).toInt ≤ (g.1.2.1 50 : Int)) ∧ ((gi (ttb σ136) 1).toInt = (gi (ttb σ) 1).toInt) ∧ ((gi (ttb σ136) 3).toInt = (gi (ttb σ) 3).toInt) := ⟨(by first | assumption | omega), (by first | assumption | omega), (by first | assumption | omega), (by first | assumption | omega)⟩
          clear hlp hld hlpq hldq
          obtain ⟨hlp, hld, hlpq, hldq⟩ := hNEW
          refine lv_pop hx hb dX0_reach_139 rfl ?_
          exact j140 _ _ _ _ (by have er3 := er3.symm; subst er3; have et0_43 := et0_43.symm; subst et0_43; have eσ43 := eσ43.symm; subst eσ43; have ex3_60e := ex3_60e.symm; subst ex3_60e; have ex4_60e := ex4_60e.symm; subst ex4_60e; have et0_114 := et0_114.symm; subst et0_114; have eσ114 := eσ114.symm; subst eσ114; have eσ136 := eσ136.symm; subst eσ136; have er136 := er136.symm; subst er136; exact ((if_pos c50).trans ((if_pos c121).trans rfl))) hlp hld hlpq hldq h (lv_sub hl [0] rfl)
      refine lv_if_ne (tgt := 113) hx hb dX0_reach_105 (by decide) (fun c105 => ?_) (fun c105 => ?_)
      · have i105 := c_ne c105
        refine lv_iconst (v := 0) hx hb dX0_reach_113 (by decide) ?_
        exact j114 _ _ _ _ (by exact ((if_neg c105).trans rfl)) (by first | assumption | omega) h hl
      · have i105 := c_eq c105
        refine lv_bipush (v := 6) hx hb dX0_reach_108 (by decide) ?_
        refine lv_goto (tgt := 114) hx hb dX0_reach_110 (by decide) ?_
        exact j114 _ _ _ _ (by exact ((if_pos c105).trans rfl)) (by first | assumption | omega) h hl
    · have i50 := c_nle c50
      refine lv_iconst (v := 0) hx hb dX0_reach_53 (by decide) ?_
      have he : f_X0_reach σ p1 p2 = (σ43, (0 : Int32)) := (by have er3 := er3.symm; subst er3; have et0_43 := et0_43.symm; subst et0_43; have eσ43 := eσ43.symm; subst eσ43; exact ((if_neg c50).trans rfl))
      exact w_retz (wXL g) C h hr hlocks (congrArg Prod.fst he) (congrArg Prod.snd he) (Or.inl rfl) ⟨hlpq, hldq⟩ dX0_reach_54
  refine lv_if_eq (tgt := 42) hx hb dX0_reach_6 (by decide) (fun c6 => ?_) (fun c6 => ?_)
  · have i6 := c_eq c6
    refine lv_iconst (v := 1) hx hb dX0_reach_42 (by decide) ?_
    exact j43 _ _ _ _ (by exact ((if_pos c6).trans rfl)) (Or.inr rfl) (by first | assumption | omega) h hl
  · have i6 := c_ne c6
    have okr3 := lIsPerson_ok hlp er3 c6
    refine lv_iload_n hx hb dX0_reach_9 rfl (lv_at hl 1 rfl) ?_
    refine lv_i2l (v := p1.toInt64) hx hb dX0_reach_10 rfl ?_
    refine lv_lconst (v := 1) hx hb dX0_reach_11 (by decide) ?_
    refine lv_iconst (v := 1) hx hb dX0_reach_12 (by decide) ?_
    refine lv_aload_n hx hb dX0_reach_13 rfl (lv_at hl 0 rfl) ?_
    refine L_at (rest := [.int (1 : Int32), .long (1 : Int64), .long p1.toInt64, .ref (g.2.2.1 99)]) C h ⟨Nat.le_of_ble_eq_true rfl, Nat.le_of_ble_eq_true rfl⟩ hl.1 (Nat.le_of_ble_eq_true rfl) ⟨Nat.le_of_ble_eq_true rfl, Nat.le_of_ble_eq_true rfl⟩ dX0_reach_14 (fun H locs h => ?_)
    refine L_t1 C h dX0_reach_17 ?_
    refine lv_ishl hx hb dX0_reach_20 ?_
    refine lv_iconst (v := 1) hx hb dX0_reach_21 (by decide) ?_
    refine lv_isub hx hb dX0_reach_22 ?_
    refine lv_i2l (v := (((1 : Int32) <<< ((gi (ttb σ) 1) &&& (31 : Int32))) - (1 : Int32)).toInt64) hx hb dX0_reach_23 rfl ?_
    refine s_callz (As := [.long p1.toInt64, .long (1 : Int64), .long (((1 : Int32) <<< ((gi (ttb σ) 1) &&& (31 : Int32))) - (1 : Int32)).toInt64]) (rest := [.ref (g.2.2.1 99)]) 3 C.1 (k_X0_isIn l p1.toInt64 (1 : Int64) (((1 : Int32) <<< ((gi (ttb σ) 1) &&& (31 : Int32))) - (1 : Int32)).toInt64) (lw_S q994 q995 q144 q996) rfl rfl (by decide +kernel) ⟨Nat.le_of_ble_eq_true rfl, Nat.le_of_ble_eq_true rfl⟩ rfl hl.1 rfl (Nat.le_of_ble_eq_true rfl) ⟨Nat.le_of_ble_eq_true rfl, Nat.le_of_ble_eq_true rfl⟩ dX0_reach_24 h.2.2.1 (fun r24 H locs er24 br24 hz1 hk1 hS1 => ?_)
    have h := h.same hk1 hS1
    clear hz1 hk1 hS1
    refine lv_if_eq (tgt := 42) hx hb dX0_reach_27 (by decide) (fun c27 => ?_) (fun c27 => ?_)
    · have i27 := c_eq c27
      refine lv_iconst (v := 1) hx hb dX0_reach_42 (by decide) ?_
      exact j43 _ _ _ _ (by have er24 := er24.symm; subst er24; exact ((if_neg c6).trans ((if_pos c27).trans rfl))) (Or.inr rfl) (by first | assumption | omega) h hl
    · have i27 := c_ne c27
      have okr24 := lIsIn_ok er24 c27
      refine lv_iload_n hx hb dX0_reach_30 rfl (lv_at hl 1 rfl) ?_
      refine lv_iload_n hx hb dX0_reach_31 rfl (lv_at hl 2 rfl) ?_
      refine s_callz (As := [.int p1, .int p2]) (rest := [.ref (g.2.2.1 99)]) 2 C.1 (k_X0_has l p1 p2) (lw_S q1219 q1220 q144 q1221) rfl rfl (by decide +kernel) ⟨Nat.le_of_ble_eq_true rfl, Nat.le_of_ble_eq_true rfl⟩ rfl hl.1 rfl (Nat.le_of_ble_eq_true rfl) ⟨Nat.le_of_ble_eq_true rfl, Nat.le_of_ble_eq_true rfl⟩ dX0_reach_32 h.2.2.1 (fun r32 H locs er32 br32 hz1 hk1 hS1 => ?_)
      have h := h.same hk1 hS1
      clear hz1 hk1 hS1
      refine lv_if_eq (tgt := 42) hx hb dX0_reach_35 (by decide) (fun c35 => ?_) (fun c35 => ?_)
      · have i35 := c_eq c35
        refine lv_iconst (v := 1) hx hb dX0_reach_42 (by decide) ?_
        exact j43 _ _ _ _ (by have er24 := er24.symm; subst er24; have er32 := er32.symm; subst er32; exact ((if_neg c6).trans ((if_neg c27).trans ((if_pos c35).trans rfl)))) (Or.inr rfl) (by first | assumption | omega) h hl
      · have i35 := c_ne c35
        have okr32 := lhas_ok er32 c35
        refine lv_iconst (v := 0) hx hb dX0_reach_38 (by decide) ?_
        refine lv_goto (tgt := 43) hx hb dX0_reach_39 (by decide) ?_
        exact j43 _ _ _ _ (by have er24 := er24.symm; subst er24; have er32 := er32.symm; subst er32; exact ((if_neg c6).trans ((if_neg c27).trans ((if_neg c35).trans rfl)))) (Or.inl rfl) (by first | assumption | omega) h hl
def f_X0_easyOn_L30 (σ : MS × MS) (y1_30 : Int32) : Nat → Int32 → Int32 → Int32 × Int32
  | 0, x2_30, x3_30 => (x2_30, x3_30)
  | n + 1, x2_30, x3_30 => if (gi (ttb σ) 1) ≤ x3_30 then ((x2_30, x3_30)) else (if x3_30 = y1_30 then (f_X0_easyOn_L30 σ y1_30 n x2_30 (x3_30 + (1 : Int32))) else ((let r49 := (f_X0_ending σ y1_30 x3_30); if (lg_cmp r49 (0 : Int64)) = (0 : Int32) then (f_X0_easyOn_L30 σ y1_30 n x2_30 (x3_30 + (1 : Int32))) else (if x2_30 < (0 : Int32) then (f_X0_easyOn_L30 σ y1_30 n x3_30 (x3_30 + (1 : Int32))) else ((let r67 := (f_X0_stays σ y1_30 x3_30); let r73 := (f_X0_ending σ y1_30 x2_30); let r80 := (f_X0_stays σ y1_30 x2_30); let r86 := (f_X0_ending σ y1_30 x3_30); if (0 : Int32) ≤ (lg_cmp (r67 * r73) (r80 * r86)) then (f_X0_easyOn_L30 σ y1_30 n x2_30 (x3_30 + (1 : Int32))) else (f_X0_easyOn_L30 σ y1_30 n x3_30 (x3_30 + (1 : Int32)))))))))
def f_X0_easyOn (σ : MS × MS) (p1 : Int32) : (MS × MS) × Int32 := (let r3 := (f_X0_isPerson σ p1); (let z14_ : Int32 := (if r3 = (0 : Int32) then ((1 : Int32)) else ((0 : Int32))); let t0_14 := z14_; (let σ14 := lsi σ 7 t0_14; if (gi (own σ14) 7) ≤ (0 : Int32) then ((let zL30 := f_X0_easyOn_L30 σ14 p1 (7) (-1 : Int32) (0 : Int32); let x2_30e := zL30.1; let x3_30e := zL30.2; (let z104 := (f_X0_answer σ14 x2_30e); let σ104 := z104.1; let r104 := z104.2; (σ104, r104)))) else ((σ14, (-1 : Int32))))))
set_option maxHeartbeats 4000000 in
set_option maxRecDepth 100000 in
theorem k_X0_easyOn (l : Launch) (g : GL) (σ : MS × MS) (p1 : Int32) (hlp : 0 ≤ (gi (ttb σ) 1).toInt ∧ (gi (ttb σ) 1).toInt ≤ 6) (hld : 0 ≤ (gi (ttb σ) 3).toInt ∧ (gi (ttb σ) 3).toInt ≤ 16 ∧ (gi (ttb σ) 3).toInt ≤ (g.1.2.1 50 : Int)) : Met l yX0_easyOn (ws_ yX0_easyOn cX0_easyOn 4 (some .int)) ({ frames := 2, cells := 0, slots := 0, locals := 46 } : Room) (wPc (dL g) (g.2.2.1 99) σ [.int p1]) (wQi (dL g) (f_X0_easyOn σ p1).1 (f_X0_easyOn σ p1).2 (fun u r => ((gi (ttb u) 1).toInt = (gi (ttb σ) 1).toInt) ∧ ((gi (ttb u) 3).toInt = (gi (ttb σ) 3).toInt))) 0 0 (dL g).2.2.2.1 := by
  refine met_W RX0 (by decide) rfl (Nat.le_of_ble_eq_true rfl) ?_
  intro p e s m args below meth c C hr hlocks h ls hl
  have hx := C.1.1
  have hb := C.1.2.1
  have hml := C.1.2.2.1
  have hown := C.1.2.2.2.1
  have hts := C.1.2.2.2.2
  have hl : lv_has ls 4 [(0, .ref (g.2.2.1 99)), (1, .int p1)] := hl
  have hlpq : (gi (ttb σ) 1).toInt = (gi (ttb σ) 1).toInt := rfl
  have hldq : (gi (ttb σ) 3).toInt = (gi (ttb σ) 3).toInt := rfl
  have zlm1 : (-1 : Int32).toInt = -1 := rfl
  have zl0 : (0 : Int32).toInt = 0 := rfl
  have zl1 : (1 : Int32).toInt = 1 := rfl
  refine lv_aload_n hx hb dX0_easyOn_0 rfl (lv_at hl 0 rfl) ?_
  refine lv_aload_n hx hb dX0_easyOn_1 rfl (lv_at hl 0 rfl) ?_
  refine lv_iload_n hx hb dX0_easyOn_2 rfl (lv_at hl 1 rfl) ?_
  refine w_callz (ci := 0) (q0 := 6) (As := [.int p1]) (rest := [.ref (g.2.2.1 99)]) 1 (wXL g) C h (k_X0_isPerson l g σ p1 (by first | assumption | omega)) (lw_V q1024 q1026 qs41 q144 q1027) rfl rfl rfl rfl (by decide +kernel) ⟨Nat.le_of_ble_eq_true rfl, Nat.le_of_ble_eq_true rfl⟩ rfl hl.1 rfl (Nat.le_of_ble_eq_true rfl) ⟨Nat.le_of_ble_eq_true rfl, Nat.le_of_ble_eq_true rfl⟩ dX0_easyOn_3 (fun r3 σ3 H locs eσ3 er3 br3 hE3 h => ?_)
  rw [eσ3] at h
  clear hE3
  clear eσ3
  have j14 : ∀ (t0_14 : Int32) (H : Heap) (locs : List Loc) (ls : Array Slot) (ej14 : (if r3 = (0 : Int32) then ((1 : Int32)) else ((0 : Int32))) = t0_14) (bt0_14 : t0_14 = 0 ∨ t0_14 = 1) (hI14 : (0 < t0_14.toInt) ∨ (0 ≤ p1.toInt ∧ p1.toInt < (gi (ttb σ) 1).toInt)) (h : wH (dL g) σ s H locs) (hl : lv_has ls 4 [(0, .ref (g.2.2.1 99)), (1, .int p1)]), W p l e ({ frames := 2, cells := 0, slots := 0, locals := 46 } : Room) s m args below meth c H locs 0 0 (MQ below (wQi (dL g) (f_X0_easyOn σ p1).1 (f_X0_easyOn σ p1).2 (fun u r => ((gi (ttb u) 1).toInt = (gi (ttb σ) 1).toInt) ∧ ((gi (ttb u) 3).toInt = (gi (ttb σ) 3).toInt))) args s 0 0 (dL g).2.2.2.1) (F0 m 14 ls [.int t0_14, .ref (g.2.2.1 99)]) := by
    intro t0_14 H locs ls ej14 bt0_14 hI14 h hl
    have et0_14 := ej14.symm
    refine L_p7 C h dX0_easyOn_14 (fun σ14 H locs eσ14 h => ?_)
    have hNEW : (0 ≤ (gi (ttb σ14) 1).toInt ∧ (gi (ttb σ14) 1).toInt ≤ 6) ∧ (0 ≤ (gi (ttb σ14) 3).toInt ∧ (gi (ttb σ14) 3).toInt ≤ 16 ∧ (gi (ttb σ14) 3).toInt ≤ (g.1.2.1 50 : Int)) ∧ ((gi (ttb σ14) 1).toInt = (gi (ttb σ) 1).toInt) ∧ ((gi (ttb σ14) 3).toInt = (gi (ttb σ) 3).toInt) := ⟨(by rw [eσ14] <;> exact hlp), (by rw [eσ14] <;> exact hld), (by rw [eσ14] <;> exact hlpq), (by rw [eσ14] <;> exact hldq)⟩
    obtain ⟨hlp, hld, hlpq, hldq⟩ := hNEW
    have q7_14 : (gi (own σ14) 7).toInt = t0_14.toInt := by rw [eσ14]; rfl
    refine lv_aload_n hx hb dX0_easyOn_17 rfl (lv_at hl 0 rfl) ?_
    refine L_g7 C h dX0_easyOn_18 ?_
    refine lv_if_le (tgt := 26) hx hb dX0_easyOn_21 (by decide) (fun c21 => ?_) (fun c21 => ?_)
    · have i21 := c_le c21
      refine lv_iconst (v := -1) hx hb dX0_easyOn_26 (by decide) ?_
      refine lv_istore_n (lv' := [(2, .int (-1 : Int32)), (0, .ref (g.2.2.1 99)), (1, .int p1)]) hx hb dX0_easyOn_27 rfl hl (by decide) rfl (fun ls hl => ?_)
      refine lv_iconst (v := 0) hx hb dX0_easyOn_28 (by decide) ?_
      refine lv_istore_n (lv' := [(3, .int (0 : Int32)), (2, .int (-1 : Int32)), (0, .ref (g.2.2.1 99)), (1, .int p1)]) hx hb dX0_easyOn_29 rfl hl (by decide) rfl (fun ls hl => ?_)
      have hL30 : ∀ (n : Nat) (x2_30 : Int32) (x3_30 : Int32) (H : Heap) (locs : List Loc) (ls : Array Slot), (0 ≤ x3_30.toInt ∧ x3_30.toInt ≤ (gi (ttb σ14) 1).toInt ∧ -1 ≤ x2_30.toInt ∧ x2_30.toInt < x3_30.toInt) → ((gi (ttb σ14) 1).toInt - x3_30.toInt).toNat < n → wH (dL g) σ14 s H locs → lv_has ls 4 [(0, .ref (g.2.2.1 99)), (1, .int p1), (2, .int x2_30), (3, .int x3_30)] → (∀ (x2_30' : Int32) (x3_30' : Int32) (H : Heap) (locs : List Loc) (ls : Array Slot), f_X0_easyOn_L30 σ14 p1 n x2_30 x3_30 = (x2_30', x3_30') → (0 ≤ x3_30'.toInt ∧ x3_30'.toInt ≤ (gi (ttb σ14) 1).toInt ∧ -1 ≤ x2_30'.toInt ∧ x2_30'.toInt < x3_30'.toInt) → wH (dL g) σ14 s H locs → lv_has ls 4 [(0, .ref (g.2.2.1 99)), (2, .int x2_30')] → W p l e ({ frames := 2, cells := 0, slots := 0, locals := 46 } : Room) s m args below meth c H locs 0 0 (MQ below (wQi (dL g) (f_X0_easyOn σ p1).1 (f_X0_easyOn σ p1).2 (fun u r => ((gi (ttb u) 1).toInt = (gi (ttb σ) 1).toInt) ∧ ((gi (ttb u) 3).toInt = (gi (ttb σ) 3).toInt))) args s 0 0 (dL g).2.2.2.1) (F0 m 102 ls [])) → W p l e ({ frames := 2, cells := 0, slots := 0, locals := 46 } : Room) s m args below meth c H locs 0 0 (MQ below (wQi (dL g) (f_X0_easyOn σ p1).1 (f_X0_easyOn σ p1).2 (fun u r => ((gi (ttb u) 1).toInt = (gi (ttb σ) 1).toInt) ∧ ((gi (ttb u) 3).toInt = (gi (ttb σ) 3).toInt))) args s 0 0 (dL g).2.2.2.1) (F0 m 30 ls []) := by
        intro n
        induction n with
        | zero =>
          intro x2_30 x3_30 H locs ls _ hm; exact absurd hm (Nat.not_lt_zero _)
        | succ n ih =>
          intro x2_30 x3_30 H locs ls hI30 hm h hl kk
          refine lv_iload_n hx hb dX0_easyOn_30 rfl (lv_at hl 3 rfl) ?_
          refine lv_aload_n hx hb dX0_easyOn_31 rfl (lv_at hl 0 rfl) ?_
          refine L_at (rest := [.int x3_30]) C h ⟨Nat.le_of_ble_eq_true rfl, Nat.le_of_ble_eq_true rfl⟩ hl.1 (Nat.le_of_ble_eq_true rfl) ⟨Nat.le_of_ble_eq_true rfl, Nat.le_of_ble_eq_true rfl⟩ dX0_easyOn_32 (fun H locs h => ?_)
          refine L_t1 C h dX0_easyOn_35 ?_
          refine lv_icmp_ge (tgt := 102) hx hb dX0_easyOn_38 (by decide) (fun c38 => ?_) (fun c38 => ?_)
          · have i38 := c_le c38
            exact kk x2_30 x3_30 _ _ _ (show f_X0_easyOn_L30 σ14 p1 (n + 1) x2_30 x3_30 = (x2_30, x3_30) from (by exact ((if_pos c38).trans rfl)))  (by first | assumption | omega) h (lv_sub hl [0, 2] rfl)
          · have i38 := c_nle c38
            refine lv_iload_n hx hb dX0_easyOn_41 rfl (lv_at hl 3 rfl) ?_
            refine lv_iload_n hx hb dX0_easyOn_42 rfl (lv_at hl 1 rfl) ?_
            refine lv_icmp_eq (tgt := 96) hx hb dX0_easyOn_43 (by decide) (fun c43 => ?_) (fun c43 => ?_)
            · have i43 := c_eq c43
              refine lv_iinc (v := (x3_30 + (1 : Int32))) (lv' := [(3, .int (x3_30 + (1 : Int32))), (0, .ref (g.2.2.1 99)), (1, .int p1), (2, .int x2_30)]) hx hb dX0_easyOn_96 hl (k := 3) rfl rfl (by decide) rfl (fun ls hl => ?_)
              refine lv_goto (tgt := 30) hx hb dX0_easyOn_99 (by decide) ?_
              have tt3 : (x3_30 + (1 : Int32)).toInt = (x3_30.toInt + (1)) := (i_add (rfl : x3_30.toInt = x3_30.toInt) zl1 (by omega))
              exact ih x2_30 (x3_30 + (1 : Int32)) _ _ _  (by first | assumption | omega) (by omega) h (lv_sub hl [1, 2, 3, 0] rfl) (fun x2_30' x3_30' H locs ls en hI h hl => kk x2_30' x3_30' H locs ls ((show f_X0_easyOn_L30 σ14 p1 (n + 1) x2_30 x3_30 = f_X0_easyOn_L30 σ14 p1 n x2_30 (x3_30 + (1 : Int32)) from (by exact ((if_neg c38).trans ((if_pos c43).trans rfl)))).trans en) hI h hl)
            · have i43 := c_ne c43
              refine lv_aload_n hx hb dX0_easyOn_46 rfl (lv_at hl 0 rfl) ?_
              refine lv_iload_n hx hb dX0_easyOn_47 rfl (lv_at hl 1 rfl) ?_
              refine lv_iload_n hx hb dX0_easyOn_48 rfl (lv_at hl 3 rfl) ?_
              refine w_calll (ci := 0) (q0 := 6) (As := [.int p1, .int x3_30]) (rest := []) 2 (wXL g) C h (k_X0_ending l g σ14 p1 x3_30 (by first | assumption | omega) (by first | assumption | omega) (by first | assumption | omega)) (lw_V q1182 q1184 qs49 q144 q1185) rfl rfl rfl rfl (by decide +kernel) ⟨Nat.le_of_ble_eq_true rfl, Nat.le_of_ble_eq_true rfl⟩ rfl hl.1 rfl (Nat.le_of_ble_eq_true rfl) ⟨Nat.le_of_ble_eq_true rfl, Nat.le_of_ble_eq_true rfl⟩ dX0_easyOn_49 (fun r49 σ49 H locs eσ49 er49 hE49 h => ?_)
              rw [eσ49] at h
              clear hE49
              clear eσ49
              refine lv_lconst (v := 0) hx hb dX0_easyOn_52 (by decide) ?_
              refine W.lcmp hx hb dX0_easyOn_53 ?_
              refine lv_if_ne (tgt := 60) hx hb dX0_easyOn_54 (by decide) (fun c54 => ?_) (fun c54 => ?_)
              · have i54 := c_ne c54
                refine lv_iload_n hx hb dX0_easyOn_60 rfl (lv_at hl 2 rfl) ?_
                refine lv_if_lt (tgt := 94) hx hb dX0_easyOn_61 (by decide) (fun c61 => ?_) (fun c61 => ?_)
                · have i61 := c_lt c61
                  refine lv_iload_n hx hb dX0_easyOn_94 rfl (lv_at hl 3 rfl) ?_
                  refine lv_istore_n (lv' := [(2, .int x3_30), (0, .ref (g.2.2.1 99)), (1, .int p1), (3, .int x3_30)]) hx hb dX0_easyOn_95 rfl hl (by decide) rfl (fun ls hl => ?_)
                  refine lv_iinc (v := (x3_30 + (1 : Int32))) (lv' := [(3, .int (x3_30 + (1 : Int32))), (2, .int x3_30), (0, .ref (g.2.2.1 99)), (1, .int p1)]) hx hb dX0_easyOn_96 hl (k := 3) rfl rfl (by decide) rfl (fun ls hl => ?_)
                  refine lv_goto (tgt := 30) hx hb dX0_easyOn_99 (by decide) ?_
                  have tt3 : (x3_30 + (1 : Int32)).toInt = (x3_30.toInt + (1)) := (i_add (rfl : x3_30.toInt = x3_30.toInt) zl1 (by omega))
                  exact ih x3_30 (x3_30 + (1 : Int32)) _ _ _  (by first | assumption | omega) (by omega) h (lv_sub hl [2, 3, 1, 0] rfl) (fun x2_30' x3_30' H locs ls en hI h hl => kk x2_30' x3_30' H locs ls ((show f_X0_easyOn_L30 σ14 p1 (n + 1) x2_30 x3_30 = f_X0_easyOn_L30 σ14 p1 n x3_30 (x3_30 + (1 : Int32)) from (by have er49 := er49.symm; subst er49; exact ((if_neg c38).trans ((if_neg c43).trans ((if_neg c54).trans ((if_pos c61).trans rfl)))))).trans en) hI h hl)
                · have i61 := c_nlt c61
                  refine lv_aload_n hx hb dX0_easyOn_64 rfl (lv_at hl 0 rfl) ?_
                  refine lv_iload_n hx hb dX0_easyOn_65 rfl (lv_at hl 1 rfl) ?_
                  refine lv_iload_n hx hb dX0_easyOn_66 rfl (lv_at hl 3 rfl) ?_
                  refine w_calll (ci := 0) (q0 := 6) (As := [.int p1, .int x3_30]) (rest := []) 2 (wXL g) C h (k_X0_stays l g σ14 p1 x3_30 (by first | assumption | omega) (by first | assumption | omega) (by first | assumption | omega)) (lw_V q1186 q1188 qs50 q144 q1189) rfl rfl rfl rfl (by decide +kernel) ⟨Nat.le_of_ble_eq_true rfl, Nat.le_of_ble_eq_true rfl⟩ rfl hl.1 rfl (Nat.le_of_ble_eq_true rfl) ⟨Nat.le_of_ble_eq_true rfl, Nat.le_of_ble_eq_true rfl⟩ dX0_easyOn_67 (fun r67 σ67 H locs eσ67 er67 hE67 h => ?_)
                  rw [eσ67] at h
                  clear hE67
                  clear eσ67
                  refine lv_aload_n hx hb dX0_easyOn_70 rfl (lv_at hl 0 rfl) ?_
                  refine lv_iload_n hx hb dX0_easyOn_71 rfl (lv_at hl 1 rfl) ?_
                  refine lv_iload_n hx hb dX0_easyOn_72 rfl (lv_at hl 2 rfl) ?_
                  refine w_calll (ci := 0) (q0 := 6) (As := [.int p1, .int x2_30]) (rest := [.long r67]) 2 (wXL g) C h (k_X0_ending l g σ14 p1 x2_30 (by first | assumption | omega) (by first | assumption | omega) (by first | assumption | omega)) (lw_V q1182 q1184 qs49 q144 q1185) rfl rfl rfl rfl (by decide +kernel) ⟨Nat.le_of_ble_eq_true rfl, Nat.le_of_ble_eq_true rfl⟩ rfl hl.1 rfl (Nat.le_of_ble_eq_true rfl) ⟨Nat.le_of_ble_eq_true rfl, Nat.le_of_ble_eq_true rfl⟩ dX0_easyOn_73 (fun r73 σ73 H locs eσ73 er73 hE73 h => ?_)
                  rw [eσ73] at h
                  clear hE73
                  clear eσ73
                  refine lv_lmul hx hb dX0_easyOn_76 ?_
                  refine lv_aload_n hx hb dX0_easyOn_77 rfl (lv_at hl 0 rfl) ?_
                  refine lv_iload_n hx hb dX0_easyOn_78 rfl (lv_at hl 1 rfl) ?_
                  refine lv_iload_n hx hb dX0_easyOn_79 rfl (lv_at hl 2 rfl) ?_
                  refine w_calll (ci := 0) (q0 := 6) (As := [.int p1, .int x2_30]) (rest := [.long (r67 * r73)]) 2 (wXL g) C h (k_X0_stays l g σ14 p1 x2_30 (by first | assumption | omega) (by first | assumption | omega) (by first | assumption | omega)) (lw_V q1186 q1188 qs50 q144 q1189) rfl rfl rfl rfl (by decide +kernel) ⟨Nat.le_of_ble_eq_true rfl, Nat.le_of_ble_eq_true rfl⟩ rfl hl.1 rfl (Nat.le_of_ble_eq_true rfl) ⟨Nat.le_of_ble_eq_true rfl, Nat.le_of_ble_eq_true rfl⟩ dX0_easyOn_80 (fun r80 σ80 H locs eσ80 er80 hE80 h => ?_)
                  rw [eσ80] at h
                  clear hE80
                  clear eσ80
                  refine lv_aload_n hx hb dX0_easyOn_83 rfl (lv_at hl 0 rfl) ?_
                  refine lv_iload_n hx hb dX0_easyOn_84 rfl (lv_at hl 1 rfl) ?_
                  refine lv_iload_n hx hb dX0_easyOn_85 rfl (lv_at hl 3 rfl) ?_
                  refine w_calll (ci := 0) (q0 := 6) (As := [.int p1, .int x3_30]) (rest := [.long r80, .long (r67 * r73)]) 2 (wXL g) C h (k_X0_ending l g σ14 p1 x3_30 (by first | assumption | omega) (by first | assumption | omega) (by first | assumption | omega)) (lw_V q1182 q1184 qs49 q144 q1185) rfl rfl rfl rfl (by decide +kernel) ⟨Nat.le_of_ble_eq_true rfl, Nat.le_of_ble_eq_true rfl⟩ rfl hl.1 rfl (Nat.le_of_ble_eq_true rfl) ⟨Nat.le_of_ble_eq_true rfl, Nat.le_of_ble_eq_true rfl⟩ dX0_easyOn_86 (fun r86 σ86 H locs eσ86 er86 hE86 h => ?_)
                  rw [eσ86] at h
                  clear hE86
                  clear eσ86
                  refine lv_lmul hx hb dX0_easyOn_89 ?_
                  refine W.lcmp hx hb dX0_easyOn_90 ?_
                  refine lv_if_ge (tgt := 96) hx hb dX0_easyOn_91 (by decide) (fun c91 => ?_) (fun c91 => ?_)
                  · have i91 := c_le c91
                    refine lv_iinc (v := (x3_30 + (1 : Int32))) (lv' := [(3, .int (x3_30 + (1 : Int32))), (0, .ref (g.2.2.1 99)), (1, .int p1), (2, .int x2_30)]) hx hb dX0_easyOn_96 hl (k := 3) rfl rfl (by decide) rfl (fun ls hl => ?_)
                    refine lv_goto (tgt := 30) hx hb dX0_easyOn_99 (by decide) ?_
                    have tt3 : (x3_30 + (1 : Int32)).toInt = (x3_30.toInt + (1)) := (i_add (rfl : x3_30.toInt = x3_30.toInt) zl1 (by omega))
                    exact ih x2_30 (x3_30 + (1 : Int32)) _ _ _  (by first | assumption | omega) (by omega) h (lv_sub hl [1, 2, 3, 0] rfl) (fun x2_30' x3_30' H locs ls en hI h hl => kk x2_30' x3_30' H locs ls ((show f_X0_easyOn_L30 σ14 p1 (n + 1) x2_30 x3_30 = f_X0_easyOn_L30 σ14 p1 n x2_30 (x3_30 + (1 : Int32)) from (by have er49 := er49.symm; subst er49; have er67 := er67.symm; subst er67; have er73 := er73.symm; subst er73; have er80 := er80.symm; subst er80; have er86 := er86.symm; subst er86; exact ((if_neg c38).trans ((if_neg c43).trans ((if_neg c54).trans ((if_neg c61).trans ((if_pos c91).trans rfl))))))).trans en) hI h hl)
                  · have i91 := c_nle c91
                    refine lv_iload_n hx hb dX0_easyOn_94 rfl (lv_at hl 3 rfl) ?_
                    refine lv_istore_n (lv' := [(2, .int x3_30), (0, .ref (g.2.2.1 99)), (1, .int p1), (3, .int x3_30)]) hx hb dX0_easyOn_95 rfl hl (by decide) rfl (fun ls hl => ?_)
                    refine lv_iinc (v := (x3_30 + (1 : Int32))) (lv' := [(3, .int (x3_30 + (1 : Int32))), (2, .int x3_30), (0, .ref (g.2.2.1 99)), (1, .int p1)]) hx hb dX0_easyOn_96 hl (k := 3) rfl rfl (by decide) rfl (fun ls hl => ?_)
                    refine lv_goto (tgt := 30) hx hb dX0_easyOn_99 (by decide) ?_
                    have tt3 : (x3_30 + (1 : Int32)).toInt = (x3_30.toInt + (1)) := (i_add (rfl : x3_30.toInt = x3_30.toInt) zl1 (by omega))
                    exact ih x3_30 (x3_30 + (1 : Int32)) _ _ _  (by first | assumption | omega) (by omega) h (lv_sub hl [2, 3, 1, 0] rfl) (fun x2_30' x3_30' H locs ls en hI h hl => kk x2_30' x3_30' H locs ls ((show f_X0_easyOn_L30 σ14 p1 (n + 1) x2_30 x3_30 = f_X0_easyOn_L30 σ14 p1 n x3_30 (x3_30 + (1 : Int32)) from (by have er49 := er49.symm; subst er49; have er67 := er67.symm; subst er67; have er73 := er73.symm; subst er73; have er80 := er80.symm; subst er80; have er86 := er86.symm; subst er86; exact ((if_neg c38).trans ((if_neg c43).trans ((if_neg c54).trans ((if_neg c61).trans ((if_neg c91).trans rfl))))))).trans en) hI h hl)
              · have i54 := c_eq c54
                refine lv_goto (tgt := 96) hx hb dX0_easyOn_57 (by decide) ?_
                refine lv_iinc (v := (x3_30 + (1 : Int32))) (lv' := [(3, .int (x3_30 + (1 : Int32))), (0, .ref (g.2.2.1 99)), (1, .int p1), (2, .int x2_30)]) hx hb dX0_easyOn_96 hl (k := 3) rfl rfl (by decide) rfl (fun ls hl => ?_)
                refine lv_goto (tgt := 30) hx hb dX0_easyOn_99 (by decide) ?_
                have tt3 : (x3_30 + (1 : Int32)).toInt = (x3_30.toInt + (1)) := (i_add (rfl : x3_30.toInt = x3_30.toInt) zl1 (by omega))
                exact ih x2_30 (x3_30 + (1 : Int32)) _ _ _  (by first | assumption | omega) (by omega) h (lv_sub hl [1, 2, 3, 0] rfl) (fun x2_30' x3_30' H locs ls en hI h hl => kk x2_30' x3_30' H locs ls ((show f_X0_easyOn_L30 σ14 p1 (n + 1) x2_30 x3_30 = f_X0_easyOn_L30 σ14 p1 n x2_30 (x3_30 + (1 : Int32)) from (by have er49 := er49.symm; subst er49; exact ((if_neg c38).trans ((if_neg c43).trans ((if_pos c54).trans rfl))))).trans en) hI h hl)
      refine hL30 (7) (-1 : Int32) (0 : Int32) _ _ _  (by first | assumption | omega) (by omega) h (lv_sub hl [2, 3, 1, 0] rfl) (fun x2_30e x3_30e H locs ls eL30 hI30 h hl => ?_)
      have ex2_30e : x2_30e = (f_X0_easyOn_L30 σ14 p1 (7) (-1 : Int32) (0 : Int32)).1 := by rw [eL30]
      have ex3_30e : x3_30e = (f_X0_easyOn_L30 σ14 p1 (7) (-1 : Int32) (0 : Int32)).2 := by rw [eL30]
      refine lv_aload_n hx hb dX0_easyOn_102 rfl (lv_at hl 0 rfl) ?_
      refine lv_iload_n hx hb dX0_easyOn_103 rfl (lv_at hl 1 rfl) ?_
      refine w_calli (ci := 0) (q0 := 6) (As := [.int x2_30e]) (rest := []) 1 (wXL g) C h (k_X0_answer l g σ14 x2_30e) (lw_V q1033 q1035 qs43 q144 q1036) rfl rfl rfl rfl (by decide +kernel) ⟨Nat.le_of_ble_eq_true rfl, Nat.le_of_ble_eq_true rfl⟩ rfl hl.1 rfl (Nat.le_of_ble_eq_true rfl) ⟨Nat.le_of_ble_eq_true rfl, Nat.le_of_ble_eq_true rfl⟩ dX0_easyOn_104 (fun r104 σ104 H locs eσ104 er104 hE104 h => ?_)
      clear hE104
      have hNEW : (0 ≤ (gi (ttb σ104) 1).toInt ∧ (gi (ttb σ104) 1).toInt ≤ 6) ∧ (0 ≤ (gi (ttb σ104) 3).toInt ∧ (gi (ttb σ104) 3).toInt ≤ 16 ∧ (gi (ttb σ104) 3).toInt ≤ (g.1.2.1 50 : Int)) ∧ ((gi (ttb σ104) 1).toInt = (gi (ttb σ) 1).toInt) ∧ ((gi (ttb σ104) 3).toInt = (gi (ttb σ) 3).toInt) := ⟨(by rw [eσ104, lanswer_s] <;> exact hlp), (by rw [eσ104, lanswer_s] <;> exact hld), (by rw [eσ104, lanswer_s] <;> exact hlpq), (by rw [eσ104, lanswer_s] <;> exact hldq)⟩
      obtain ⟨hlp, hld, hlpq, hldq⟩ := hNEW
      have he : f_X0_easyOn σ p1 = (σ104, r104) := (by have er3 := er3.symm; subst er3; have et0_14 := et0_14.symm; subst et0_14; have eσ14 := eσ14.symm; subst eσ14; have ex2_30e := ex2_30e.symm; subst ex2_30e; have ex3_30e := ex3_30e.symm; subst ex3_30e; have eσ104 := eσ104.symm; subst eσ104; have er104 := er104.symm; subst er104; exact ((if_pos c21).trans rfl))
      exact w_reti (wXL g) C h hr hlocks (congrArg Prod.fst he) (congrArg Prod.snd he) ⟨hlpq, hldq⟩ dX0_easyOn_107
    · have i21 := c_nle c21
      refine lv_iconst (v := -1) hx hb dX0_easyOn_24 (by decide) ?_
      have he : f_X0_easyOn σ p1 = (σ14, (-1 : Int32)) := (by have er3 := er3.symm; subst er3; have et0_14 := et0_14.symm; subst et0_14; have eσ14 := eσ14.symm; subst eσ14; exact ((if_neg c21).trans rfl))
      exact w_reti (wXL g) C h hr hlocks (congrArg Prod.fst he) (congrArg Prod.snd he) ⟨hlpq, hldq⟩ dX0_easyOn_25
  refine lv_if_eq (tgt := 13) hx hb dX0_easyOn_6 (by decide) (fun c6 => ?_) (fun c6 => ?_)
  · have i6 := c_eq c6
    refine lv_iconst (v := 1) hx hb dX0_easyOn_13 (by decide) ?_
    exact j14 _ _ _ _ (by exact ((if_pos c6).trans rfl)) (Or.inr rfl) (by first | assumption | omega) h hl
  · have i6 := c_ne c6
    have okr3 := lIsPerson_ok hlp er3 c6
    refine lv_iconst (v := 0) hx hb dX0_easyOn_9 (by decide) ?_
    refine lv_goto (tgt := 14) hx hb dX0_easyOn_10 (by decide) ?_
    exact j14 _ _ _ _ (by exact ((if_neg c6).trans rfl)) (Or.inl rfl) (by first | assumption | omega) h hl
def f_X0_regretOf (σ : MS × MS) (p1 : Int32) : Int32 := (let r9 := (f_X0_paidByAll σ); let r28 := (f_X5_balance (ttb σ) p1); (((ga (ttb σ) 23 p1) * (r9 - (ga (ttb σ) 11 p1))) - r28))
set_option maxHeartbeats 4000000 in
set_option maxRecDepth 100000 in
theorem k_X0_regretOf (l : Launch) (g : GL) (σ : MS × MS) (p1 : Int32) (hlp : 0 ≤ (gi (ttb σ) 1).toInt ∧ (gi (ttb σ) 1).toInt ≤ 6) (hld : 0 ≤ (gi (ttb σ) 3).toInt ∧ (gi (ttb σ) 3).toInt ≤ 16 ∧ (gi (ttb σ) 3).toInt ≤ (g.1.2.1 50 : Int)) (h1p : 0 ≤ p1.toInt ∧ p1.toInt < (gi (ttb σ) 1).toInt) : Met l yX0_regretOf (ws_ yX0_regretOf cX0_regretOf 2 (some .int)) ({ frames := 2, cells := 0, slots := 0, locals := 45 } : Room) (wPc (dL g) (g.2.2.1 99) σ [.int p1]) (wQi (dL g) σ (f_X0_regretOf σ p1) (fun u r => True)) 0 0 (dL g).2.2.2.1 := by
  refine met_W RX0 (by decide) rfl (Nat.le_of_ble_eq_true rfl) ?_
  intro p e s m args below meth c C hr hlocks h ls hl
  have hx := C.1.1
  have hb := C.1.2.1
  have hml := C.1.2.2.1
  have hown := C.1.2.2.2.1
  have hts := C.1.2.2.2.2
  have hl : lv_has ls 2 [(0, .ref (g.2.2.1 99)), (1, .int p1)] := hl
  refine lv_aload_n hx hb dX0_regretOf_0 rfl (lv_at hl 0 rfl) ?_
  refine lv_iload_n hx hb dX0_regretOf_1 rfl (lv_at hl 1 rfl) ?_
  refine L_one (rest := []) C h (by omega) ⟨Nat.le_of_ble_eq_true rfl, Nat.le_of_ble_eq_true rfl⟩ hl.1 (Nat.le_of_ble_eq_true rfl) ⟨Nat.le_of_ble_eq_true rfl, Nat.le_of_ble_eq_true rfl⟩ dX0_regretOf_2 (fun H locs h => ?_)
  refine L_f3 C h (by omega) dX0_regretOf_5 ?_
  refine lv_aload_n hx hb dX0_regretOf_8 rfl (lv_at hl 0 rfl) ?_
  refine w_calli (ci := 0) (q0 := 6) (As := []) (rest := [.int (ga (ttb σ) 23 p1)]) 0 (wXL g) C h (k_X0_paidByAll l g σ (by first | assumption | omega)) (lw_V q1015 q1017 qs40 q144 q1018) rfl rfl rfl rfl (by decide +kernel) ⟨Nat.le_of_ble_eq_true rfl, Nat.le_of_ble_eq_true rfl⟩ rfl hl.1 rfl (Nat.le_of_ble_eq_true rfl) ⟨Nat.le_of_ble_eq_true rfl, Nat.le_of_ble_eq_true rfl⟩ dX0_regretOf_9 (fun r9 σ9 H locs eσ9 er9 hE9 h => ?_)
  rw [eσ9] at h
  clear hE9
  clear eσ9
  refine lv_aload_n hx hb dX0_regretOf_12 rfl (lv_at hl 0 rfl) ?_
  refine L_at (rest := [.int r9, .int (ga (ttb σ) 23 p1)]) C h ⟨Nat.le_of_ble_eq_true rfl, Nat.le_of_ble_eq_true rfl⟩ hl.1 (Nat.le_of_ble_eq_true rfl) ⟨Nat.le_of_ble_eq_true rfl, Nat.le_of_ble_eq_true rfl⟩ dX0_regretOf_13 (fun H locs h => ?_)
  refine L_t11 C h dX0_regretOf_16 ?_
  refine lv_iload_n hx hb dX0_regretOf_19 rfl (lv_at hl 1 rfl) ?_
  refine L_l211 C h (ix_of (rfl : p1.toInt = p1.toInt) (by omega)) dX0_regretOf_20 ?_
  refine lv_isub hx hb dX0_regretOf_21 ?_
  refine lv_imul hx hb dX0_regretOf_22 ?_
  refine lv_aload_n hx hb dX0_regretOf_23 rfl (lv_at hl 0 rfl) ?_
  refine L_at (rest := [.int ((ga (ttb σ) 23 p1) * (r9 - (ga (ttb σ) 11 p1)))]) C h ⟨Nat.le_of_ble_eq_true rfl, Nat.le_of_ble_eq_true rfl⟩ hl.1 (Nat.le_of_ble_eq_true rfl) ⟨Nat.le_of_ble_eq_true rfl, Nat.le_of_ble_eq_true rfl⟩ dX0_regretOf_24 (fun H locs h => ?_)
  refine lv_iload_n hx hb dX0_regretOf_27 rfl (lv_at hl 1 rfl) ?_
  refine L_tcalli (As := [.int p1]) (rest := [.int ((ga (ttb σ) 23 p1) * (r9 - (ga (ttb σ) 11 p1)))]) 1 C h (k_X5_balance l g.1 (ttb σ) p1 (by first | assumption | omega) (by first | assumption | omega)) (lw_V q1234 q1163 q1164 q151 q1165) rfl rfl (by decide +kernel) ⟨Nat.le_of_ble_eq_true rfl, Nat.le_of_ble_eq_true rfl⟩ rfl hl.1 rfl (Nat.le_of_ble_eq_true rfl) ⟨Nat.le_of_ble_eq_true rfl, Nat.le_of_ble_eq_true rfl⟩ dX0_regretOf_28 (fun r28 σ28 H locs eσ28 er28 hE28 h => ?_)
  have h : wH (dL g) σ s H locs := by rw [eσ28] at h; exact h
  clear hE28
  clear eσ28
  refine lv_isub hx hb dX0_regretOf_31 ?_
  have he : f_X0_regretOf σ p1 = (((ga (ttb σ) 23 p1) * (r9 - (ga (ttb σ) 11 p1))) - r28) := (by have er9 := er9.symm; subst er9; have er28 := er28.symm; subst er28; exact rfl)
  exact w_reti (wXL g) C h hr hlocks rfl he trivial dX0_regretOf_32
def f_X0_regret (σ : MS × MS) (p1 : Int32) : (MS × MS) × Int32 := (let r3 := (f_X0_isPerson σ p1); (let z14_ : Int32 := (if r3 = (0 : Int32) then ((1 : Int32)) else ((0 : Int32))); let t0_14 := z14_; (let σ14 := lsi σ 7 t0_14; if (gi (own σ14) 7) ≤ (0 : Int32) then ((let r30 := (f_X0_regretOf σ14 p1); (σ14, r30))) else ((σ14, (-1 : Int32))))))
set_option maxHeartbeats 4000000 in
set_option maxRecDepth 100000 in
theorem k_X0_regret (l : Launch) (g : GL) (σ : MS × MS) (p1 : Int32) (hlp : 0 ≤ (gi (ttb σ) 1).toInt ∧ (gi (ttb σ) 1).toInt ≤ 6) (hld : 0 ≤ (gi (ttb σ) 3).toInt ∧ (gi (ttb σ) 3).toInt ≤ 16 ∧ (gi (ttb σ) 3).toInt ≤ (g.1.2.1 50 : Int)) : Met l yX0_regret (ws_ yX0_regret cX0_regret 2 (some .int)) ({ frames := 3, cells := 0, slots := 0, locals := 66 } : Room) (wPc (dL g) (g.2.2.1 99) σ [.int p1]) (wQi (dL g) (f_X0_regret σ p1).1 (f_X0_regret σ p1).2 (fun u r => ((gi (ttb u) 1).toInt = (gi (ttb σ) 1).toInt) ∧ ((gi (ttb u) 3).toInt = (gi (ttb σ) 3).toInt))) 0 0 (dL g).2.2.2.1 := by
  refine met_W RX0 (by decide) rfl (Nat.le_of_ble_eq_true rfl) ?_
  intro p e s m args below meth c C hr hlocks h ls hl
  have hx := C.1.1
  have hb := C.1.2.1
  have hml := C.1.2.2.1
  have hown := C.1.2.2.2.1
  have hts := C.1.2.2.2.2
  have hl : lv_has ls 2 [(0, .ref (g.2.2.1 99)), (1, .int p1)] := hl
  have hlpq : (gi (ttb σ) 1).toInt = (gi (ttb σ) 1).toInt := rfl
  have hldq : (gi (ttb σ) 3).toInt = (gi (ttb σ) 3).toInt := rfl
  have zlm1 : (-1 : Int32).toInt = -1 := rfl
  have zl0 : (0 : Int32).toInt = 0 := rfl
  have zl1 : (1 : Int32).toInt = 1 := rfl
  refine lv_aload_n hx hb dX0_regret_0 rfl (lv_at hl 0 rfl) ?_
  refine lv_aload_n hx hb dX0_regret_1 rfl (lv_at hl 0 rfl) ?_
  refine lv_iload_n hx hb dX0_regret_2 rfl (lv_at hl 1 rfl) ?_
  refine w_callz (ci := 0) (q0 := 6) (As := [.int p1]) (rest := [.ref (g.2.2.1 99)]) 1 (wXL g) C h (k_X0_isPerson l g σ p1 (by first | assumption | omega)) (lw_V q1024 q1026 qs41 q144 q1027) rfl rfl rfl rfl (by decide +kernel) ⟨Nat.le_of_ble_eq_true rfl, Nat.le_of_ble_eq_true rfl⟩ rfl hl.1 rfl (Nat.le_of_ble_eq_true rfl) ⟨Nat.le_of_ble_eq_true rfl, Nat.le_of_ble_eq_true rfl⟩ dX0_regret_3 (fun r3 σ3 H locs eσ3 er3 br3 hE3 h => ?_)
  rw [eσ3] at h
  clear hE3
  clear eσ3
  have j14 : ∀ (t0_14 : Int32) (H : Heap) (locs : List Loc) (ls : Array Slot) (ej14 : (if r3 = (0 : Int32) then ((1 : Int32)) else ((0 : Int32))) = t0_14) (bt0_14 : t0_14 = 0 ∨ t0_14 = 1) (hI14 : (0 < t0_14.toInt) ∨ (0 ≤ p1.toInt ∧ p1.toInt < (gi (ttb σ) 1).toInt)) (h : wH (dL g) σ s H locs) (hl : lv_has ls 2 [(0, .ref (g.2.2.1 99)), (1, .int p1)]), W p l e ({ frames := 3, cells := 0, slots := 0, locals := 66 } : Room) s m args below meth c H locs 0 0 (MQ below (wQi (dL g) (f_X0_regret σ p1).1 (f_X0_regret σ p1).2 (fun u r => ((gi (ttb u) 1).toInt = (gi (ttb σ) 1).toInt) ∧ ((gi (ttb u) 3).toInt = (gi (ttb σ) 3).toInt))) args s 0 0 (dL g).2.2.2.1) (F0 m 14 ls [.int t0_14, .ref (g.2.2.1 99)]) := by
    intro t0_14 H locs ls ej14 bt0_14 hI14 h hl
    have et0_14 := ej14.symm
    refine L_p7 C h dX0_regret_14 (fun σ14 H locs eσ14 h => ?_)
    have hNEW : (0 ≤ (gi (ttb σ14) 1).toInt ∧ (gi (ttb σ14) 1).toInt ≤ 6) ∧ (0 ≤ (gi (ttb σ14) 3).toInt ∧ (gi (ttb σ14) 3).toInt ≤ 16 ∧ (gi (ttb σ14) 3).toInt ≤ (g.1.2.1 50 : Int)) ∧ ((gi (ttb σ14) 1).toInt = (gi (ttb σ) 1).toInt) ∧ ((gi (ttb σ14) 3).toInt = (gi (ttb σ) 3).toInt) := ⟨(by rw [eσ14] <;> exact hlp), (by rw [eσ14] <;> exact hld), (by rw [eσ14] <;> exact hlpq), (by rw [eσ14] <;> exact hldq)⟩
    obtain ⟨hlp, hld, hlpq, hldq⟩ := hNEW
    have q7_14 : (gi (own σ14) 7).toInt = t0_14.toInt := by rw [eσ14]; rfl
    refine lv_aload_n hx hb dX0_regret_17 rfl (lv_at hl 0 rfl) ?_
    refine L_g7 C h dX0_regret_18 ?_
    refine lv_if_le (tgt := 28) hx hb dX0_regret_21 (by decide) (fun c21 => ?_) (fun c21 => ?_)
    · have i21 := c_le c21
      refine lv_aload_n hx hb dX0_regret_28 rfl (lv_at hl 0 rfl) ?_
      refine lv_iload_n hx hb dX0_regret_29 rfl (lv_at hl 1 rfl) ?_
      refine w_calli (ci := 0) (q0 := 6) (As := [.int p1]) (rest := []) 1 (wXL g) C h (k_X0_regretOf l g σ14 p1 (by first | assumption | omega) (by first | assumption | omega) (by first | assumption | omega)) (lw_V q1230 q1232 qs53 q144 q1233) rfl rfl rfl rfl (by decide +kernel) ⟨Nat.le_of_ble_eq_true rfl, Nat.le_of_ble_eq_true rfl⟩ rfl hl.1 rfl (Nat.le_of_ble_eq_true rfl) ⟨Nat.le_of_ble_eq_true rfl, Nat.le_of_ble_eq_true rfl⟩ dX0_regret_30 (fun r30 σ30 H locs eσ30 er30 hE30 h => ?_)
      rw [eσ30] at h
      clear hE30
      clear eσ30
      have he : f_X0_regret σ p1 = (σ14, r30) := (by have er3 := er3.symm; subst er3; have et0_14 := et0_14.symm; subst et0_14; have eσ14 := eσ14.symm; subst eσ14; have er30 := er30.symm; subst er30; exact ((if_pos c21).trans rfl))
      exact w_reti (wXL g) C h hr hlocks (congrArg Prod.fst he) (congrArg Prod.snd he) ⟨hlpq, hldq⟩ dX0_regret_33
    · have i21 := c_nle c21
      refine lv_iconst (v := -1) hx hb dX0_regret_24 (by decide) ?_
      refine lv_goto (tgt := 33) hx hb dX0_regret_25 (by decide) ?_
      have he : f_X0_regret σ p1 = (σ14, (-1 : Int32)) := (by have er3 := er3.symm; subst er3; have et0_14 := et0_14.symm; subst et0_14; have eσ14 := eσ14.symm; subst eσ14; exact ((if_neg c21).trans rfl))
      exact w_reti (wXL g) C h hr hlocks (congrArg Prod.fst he) (congrArg Prod.snd he) ⟨hlpq, hldq⟩ dX0_regret_33
  refine lv_if_eq (tgt := 13) hx hb dX0_regret_6 (by decide) (fun c6 => ?_) (fun c6 => ?_)
  · have i6 := c_eq c6
    refine lv_iconst (v := 1) hx hb dX0_regret_13 (by decide) ?_
    exact j14 _ _ _ _ (by exact ((if_pos c6).trans rfl)) (Or.inr rfl) (by first | assumption | omega) h hl
  · have i6 := c_ne c6
    have okr3 := lIsPerson_ok hlp er3 c6
    refine lv_iconst (v := 0) hx hb dX0_regret_9 (by decide) ?_
    refine lv_goto (tgt := 14) hx hb dX0_regret_10 (by decide) ?_
    exact j14 _ _ _ _ (by exact ((if_neg c6).trans rfl)) (Or.inl rfl) (by first | assumption | omega) h hl
def f_X0_sorest_L4 (σ : MS × MS) : Nat → Int32 → Int32 → Int32 × Int32
  | 0, x1_4, x2_4 => (x1_4, x2_4)
  | n + 1, x1_4, x2_4 => if (gi (ttb σ) 1) ≤ x2_4 then ((x1_4, x2_4)) else (if x1_4 < (0 : Int32) then (f_X0_sorest_L4 σ n x2_4 (x2_4 + (1 : Int32))) else ((let r21 := (f_X0_regretOf σ x2_4); let r26 := (f_X0_regretOf σ x1_4); if r21 ≤ r26 then (f_X0_sorest_L4 σ n x1_4 (x2_4 + (1 : Int32))) else (f_X0_sorest_L4 σ n x2_4 (x2_4 + (1 : Int32))))))
def f_X0_sorest (σ : MS × MS) : (MS × MS) × Int32 := (let zL4 := f_X0_sorest_L4 σ (7) (-1 : Int32) (0 : Int32); let x1_4e := zL4.1; let x2_4e := zL4.2; (let z42 := (f_X0_answer σ x1_4e); let σ42 := z42.1; let r42 := z42.2; (σ42, r42)))
set_option maxHeartbeats 4000000 in
set_option maxRecDepth 100000 in
theorem k_X0_sorest (l : Launch) (g : GL) (σ : MS × MS) (hlp : 0 ≤ (gi (ttb σ) 1).toInt ∧ (gi (ttb σ) 1).toInt ≤ 6) (hld : 0 ≤ (gi (ttb σ) 3).toInt ∧ (gi (ttb σ) 3).toInt ≤ 16 ∧ (gi (ttb σ) 3).toInt ≤ (g.1.2.1 50 : Int)) : Met l yX0_sorest (ws_ yX0_sorest cX0_sorest 3 (some .int)) ({ frames := 3, cells := 0, slots := 0, locals := 66 } : Room) (wPc (dL g) (g.2.2.1 99) σ []) (wQi (dL g) (f_X0_sorest σ).1 (f_X0_sorest σ).2 (fun u r => ((gi (ttb u) 1).toInt = (gi (ttb σ) 1).toInt) ∧ ((gi (ttb u) 3).toInt = (gi (ttb σ) 3).toInt))) 0 0 (dL g).2.2.2.1 := by
  refine met_W RX0 (by decide) rfl (Nat.le_of_ble_eq_true rfl) ?_
  intro p e s m args below meth c C hr hlocks h ls hl
  have hx := C.1.1
  have hb := C.1.2.1
  have hml := C.1.2.2.1
  have hown := C.1.2.2.2.1
  have hts := C.1.2.2.2.2
  have hl : lv_has ls 3 [(0, .ref (g.2.2.1 99))] := hl
  have hlpq : (gi (ttb σ) 1).toInt = (gi (ttb σ) 1).toInt := rfl
  have hldq : (gi (ttb σ) 3).toInt = (gi (ttb σ) 3).toInt := rfl
  have zlm1 : (-1 : Int32).toInt = -1 := rfl
  have zl0 : (0 : Int32).toInt = 0 := rfl
  have zl1 : (1 : Int32).toInt = 1 := rfl
  refine lv_iconst (v := -1) hx hb dX0_sorest_0 (by decide) ?_
  refine lv_istore_n (lv' := [(1, .int (-1 : Int32)), (0, .ref (g.2.2.1 99))]) hx hb dX0_sorest_1 rfl hl (by decide) rfl (fun ls hl => ?_)
  refine lv_iconst (v := 0) hx hb dX0_sorest_2 (by decide) ?_
  refine lv_istore_n (lv' := [(2, .int (0 : Int32)), (1, .int (-1 : Int32)), (0, .ref (g.2.2.1 99))]) hx hb dX0_sorest_3 rfl hl (by decide) rfl (fun ls hl => ?_)
  have hL4 : ∀ (n : Nat) (x1_4 : Int32) (x2_4 : Int32) (H : Heap) (locs : List Loc) (ls : Array Slot), (0 ≤ x2_4.toInt ∧ x2_4.toInt ≤ (gi (ttb σ) 1).toInt ∧ -1 ≤ x1_4.toInt ∧ x1_4.toInt < x2_4.toInt) → ((gi (ttb σ) 1).toInt - x2_4.toInt).toNat < n → wH (dL g) σ s H locs → lv_has ls 3 [(0, .ref (g.2.2.1 99)), (1, .int x1_4), (2, .int x2_4)] → (∀ (x1_4' : Int32) (x2_4' : Int32) (H : Heap) (locs : List Loc) (ls : Array Slot), f_X0_sorest_L4 σ n x1_4 x2_4 = (x1_4', x2_4') → (0 ≤ x2_4'.toInt ∧ x2_4'.toInt ≤ (gi (ttb σ) 1).toInt ∧ -1 ≤ x1_4'.toInt ∧ x1_4'.toInt < x2_4'.toInt) → wH (dL g) σ s H locs → lv_has ls 3 [(0, .ref (g.2.2.1 99)), (1, .int x1_4')] → W p l e ({ frames := 3, cells := 0, slots := 0, locals := 66 } : Room) s m args below meth c H locs 0 0 (MQ below (wQi (dL g) (f_X0_sorest σ).1 (f_X0_sorest σ).2 (fun u r => ((gi (ttb u) 1).toInt = (gi (ttb σ) 1).toInt) ∧ ((gi (ttb u) 3).toInt = (gi (ttb σ) 3).toInt))) args s 0 0 (dL g).2.2.2.1) (F0 m 40 ls [])) → W p l e ({ frames := 3, cells := 0, slots := 0, locals := 66 } : Room) s m args below meth c H locs 0 0 (MQ below (wQi (dL g) (f_X0_sorest σ).1 (f_X0_sorest σ).2 (fun u r => ((gi (ttb u) 1).toInt = (gi (ttb σ) 1).toInt) ∧ ((gi (ttb u) 3).toInt = (gi (ttb σ) 3).toInt))) args s 0 0 (dL g).2.2.2.1) (F0 m 4 ls []) := by
    intro n
    induction n with
    | zero =>
      intro x1_4 x2_4 H locs ls _ hm; exact absurd hm (Nat.not_lt_zero _)
    | succ n ih =>
      intro x1_4 x2_4 H locs ls hI4 hm h hl kk
      refine lv_iload_n hx hb dX0_sorest_4 rfl (lv_at hl 2 rfl) ?_
      refine lv_aload_n hx hb dX0_sorest_5 rfl (lv_at hl 0 rfl) ?_
      refine L_at (rest := [.int x2_4]) C h ⟨Nat.le_of_ble_eq_true rfl, Nat.le_of_ble_eq_true rfl⟩ hl.1 (Nat.le_of_ble_eq_true rfl) ⟨Nat.le_of_ble_eq_true rfl, Nat.le_of_ble_eq_true rfl⟩ dX0_sorest_6 (fun H locs h => ?_)
      refine L_t1 C h dX0_sorest_9 ?_
      refine lv_icmp_ge (tgt := 40) hx hb dX0_sorest_12 (by decide) (fun c12 => ?_) (fun c12 => ?_)
      · have i12 := c_le c12
        exact kk x1_4 x2_4 _ _ _ (show f_X0_sorest_L4 σ (n + 1) x1_4 x2_4 = (x1_4, x2_4) from (by exact ((if_pos c12).trans rfl)))  (by first | assumption | omega) h (lv_sub hl [0, 1] rfl)
      · have i12 := c_nle c12
        refine lv_iload_n hx hb dX0_sorest_15 rfl (lv_at hl 1 rfl) ?_
        refine lv_if_lt (tgt := 32) hx hb dX0_sorest_16 (by decide) (fun c16 => ?_) (fun c16 => ?_)
        · have i16 := c_lt c16
          refine lv_iload_n hx hb dX0_sorest_32 rfl (lv_at hl 2 rfl) ?_
          refine lv_istore_n (lv' := [(1, .int x2_4), (0, .ref (g.2.2.1 99)), (2, .int x2_4)]) hx hb dX0_sorest_33 rfl hl (by decide) rfl (fun ls hl => ?_)
          refine lv_iinc (v := (x2_4 + (1 : Int32))) (lv' := [(2, .int (x2_4 + (1 : Int32))), (1, .int x2_4), (0, .ref (g.2.2.1 99))]) hx hb dX0_sorest_34 hl (k := 2) rfl rfl (by decide) rfl (fun ls hl => ?_)
          refine lv_goto (tgt := 4) hx hb dX0_sorest_37 (by decide) ?_
          have tt2 : (x2_4 + (1 : Int32)).toInt = (x2_4.toInt + (1)) := (i_add (rfl : x2_4.toInt = x2_4.toInt) zl1 (by omega))
          exact ih x2_4 (x2_4 + (1 : Int32)) _ _ _  (by first | assumption | omega) (by omega) h (lv_sub hl [2, 1, 0] rfl) (fun x1_4' x2_4' H locs ls en hI h hl => kk x1_4' x2_4' H locs ls ((show f_X0_sorest_L4 σ (n + 1) x1_4 x2_4 = f_X0_sorest_L4 σ n x2_4 (x2_4 + (1 : Int32)) from (by exact ((if_neg c12).trans ((if_pos c16).trans rfl)))).trans en) hI h hl)
        · have i16 := c_nlt c16
          refine lv_aload_n hx hb dX0_sorest_19 rfl (lv_at hl 0 rfl) ?_
          refine lv_iload_n hx hb dX0_sorest_20 rfl (lv_at hl 2 rfl) ?_
          refine w_calli (ci := 0) (q0 := 6) (As := [.int x2_4]) (rest := []) 1 (wXL g) C h (k_X0_regretOf l g σ x2_4 (by first | assumption | omega) (by first | assumption | omega) (by first | assumption | omega)) (lw_V q1230 q1232 qs53 q144 q1233) rfl rfl rfl rfl (by decide +kernel) ⟨Nat.le_of_ble_eq_true rfl, Nat.le_of_ble_eq_true rfl⟩ rfl hl.1 rfl (Nat.le_of_ble_eq_true rfl) ⟨Nat.le_of_ble_eq_true rfl, Nat.le_of_ble_eq_true rfl⟩ dX0_sorest_21 (fun r21 σ21 H locs eσ21 er21 hE21 h => ?_)
          rw [eσ21] at h
          clear hE21
          clear eσ21
          refine lv_aload_n hx hb dX0_sorest_24 rfl (lv_at hl 0 rfl) ?_
          refine lv_iload_n hx hb dX0_sorest_25 rfl (lv_at hl 1 rfl) ?_
          refine w_calli (ci := 0) (q0 := 6) (As := [.int x1_4]) (rest := [.int r21]) 1 (wXL g) C h (k_X0_regretOf l g σ x1_4 (by first | assumption | omega) (by first | assumption | omega) (by first | assumption | omega)) (lw_V q1230 q1232 qs53 q144 q1233) rfl rfl rfl rfl (by decide +kernel) ⟨Nat.le_of_ble_eq_true rfl, Nat.le_of_ble_eq_true rfl⟩ rfl hl.1 rfl (Nat.le_of_ble_eq_true rfl) ⟨Nat.le_of_ble_eq_true rfl, Nat.le_of_ble_eq_true rfl⟩ dX0_sorest_26 (fun r26 σ26 H locs eσ26 er26 hE26 h => ?_)
          rw [eσ26] at h
          clear hE26
          clear eσ26
          refine lv_icmp_le (tgt := 34) hx hb dX0_sorest_29 (by decide) (fun c29 => ?_) (fun c29 => ?_)
          · have i29 := c_le c29
            refine lv_iinc (v := (x2_4 + (1 : Int32))) (lv' := [(2, .int (x2_4 + (1 : Int32))), (0, .ref (g.2.2.1 99)), (1, .int x1_4)]) hx hb dX0_sorest_34 hl (k := 2) rfl rfl (by decide) rfl (fun ls hl => ?_)
            refine lv_goto (tgt := 4) hx hb dX0_sorest_37 (by decide) ?_
            have tt2 : (x2_4 + (1 : Int32)).toInt = (x2_4.toInt + (1)) := (i_add (rfl : x2_4.toInt = x2_4.toInt) zl1 (by omega))
            exact ih x1_4 (x2_4 + (1 : Int32)) _ _ _  (by first | assumption | omega) (by omega) h (lv_sub hl [1, 2, 0] rfl) (fun x1_4' x2_4' H locs ls en hI h hl => kk x1_4' x2_4' H locs ls ((show f_X0_sorest_L4 σ (n + 1) x1_4 x2_4 = f_X0_sorest_L4 σ n x1_4 (x2_4 + (1 : Int32)) from (by have er21 := er21.symm; subst er21; have er26 := er26.symm; subst er26; exact ((if_neg c12).trans ((if_neg c16).trans ((if_pos c29).trans rfl))))).trans en) hI h hl)
          · have i29 := c_nle c29
            refine lv_iload_n hx hb dX0_sorest_32 rfl (lv_at hl 2 rfl) ?_
            refine lv_istore_n (lv' := [(1, .int x2_4), (0, .ref (g.2.2.1 99)), (2, .int x2_4)]) hx hb dX0_sorest_33 rfl hl (by decide) rfl (fun ls hl => ?_)
            refine lv_iinc (v := (x2_4 + (1 : Int32))) (lv' := [(2, .int (x2_4 + (1 : Int32))), (1, .int x2_4), (0, .ref (g.2.2.1 99))]) hx hb dX0_sorest_34 hl (k := 2) rfl rfl (by decide) rfl (fun ls hl => ?_)
            refine lv_goto (tgt := 4) hx hb dX0_sorest_37 (by decide) ?_
            have tt2 : (x2_4 + (1 : Int32)).toInt = (x2_4.toInt + (1)) := (i_add (rfl : x2_4.toInt = x2_4.toInt) zl1 (by omega))
            exact ih x2_4 (x2_4 + (1 : Int32)) _ _ _  (by first | assumption | omega) (by omega) h (lv_sub hl [2, 1, 0] rfl) (fun x1_4' x2_4' H locs ls en hI h hl => kk x1_4' x2_4' H locs ls ((show f_X0_sorest_L4 σ (n + 1) x1_4 x2_4 = f_X0_sorest_L4 σ n x2_4 (x2_4 + (1 : Int32)) from (by have er21 := er21.symm; subst er21; have er26 := er26.symm; subst er26; exact ((if_neg c12).trans ((if_neg c16).trans ((if_neg c29).trans rfl))))).trans en) hI h hl)
  refine hL4 (7) (-1 : Int32) (0 : Int32) _ _ _  (by first | assumption | omega) (by omega) h (lv_sub hl [2, 1, 0] rfl) (fun x1_4e x2_4e H locs ls eL4 hI4 h hl => ?_)
  have ex1_4e : x1_4e = (f_X0_sorest_L4 σ (7) (-1 : Int32) (0 : Int32)).1 := by rw [eL4]
  have ex2_4e : x2_4e = (f_X0_sorest_L4 σ (7) (-1 : Int32) (0 : Int32)).2 := by rw [eL4]
  refine lv_aload_n hx hb dX0_sorest_40 rfl (lv_at hl 0 rfl) ?_
  refine lv_iload_n hx hb dX0_sorest_41 rfl (lv_at hl 1 rfl) ?_
  refine w_calli (ci := 0) (q0 := 6) (As := [.int x1_4e]) (rest := []) 1 (wXL g) C h (k_X0_answer l g σ x1_4e) (lw_V q1033 q1035 qs43 q144 q1036) rfl rfl rfl rfl (by decide +kernel) ⟨Nat.le_of_ble_eq_true rfl, Nat.le_of_ble_eq_true rfl⟩ rfl hl.1 rfl (Nat.le_of_ble_eq_true rfl) ⟨Nat.le_of_ble_eq_true rfl, Nat.le_of_ble_eq_true rfl⟩ dX0_sorest_42 (fun r42 σ42 H locs eσ42 er42 hE42 h => ?_)
  clear hE42
  have hNEW : (0 ≤ (gi (ttb σ42) 1).toInt ∧ (gi (ttb σ42) 1).toInt ≤ 6) ∧ (0 ≤ (gi (ttb σ42) 3).toInt ∧ (gi (ttb σ42) 3).toInt ≤ 16 ∧ (gi (ttb σ42) 3).toInt ≤ (g.1.2.1 50 : Int)) ∧ ((gi (ttb σ42) 1).toInt = (gi (ttb σ) 1).toInt) ∧ ((gi (ttb σ42) 3).toInt = (gi (ttb σ) 3).toInt) := ⟨(by rw [eσ42, lanswer_s] <;> exact hlp), (by rw [eσ42, lanswer_s] <;> exact hld), (by rw [eσ42, lanswer_s] <;> exact hlpq), (by rw [eσ42, lanswer_s] <;> exact hldq)⟩
  obtain ⟨hlp, hld, hlpq, hldq⟩ := hNEW
  have he : f_X0_sorest σ = (σ42, r42) := (by have ex1_4e := ex1_4e.symm; subst ex1_4e; have ex2_4e := ex2_4e.symm; subst ex2_4e; have eσ42 := eσ42.symm; subst eσ42; have er42 := er42.symm; subst er42; exact rfl)
  exact w_reti (wXL g) C h hr hlocks (congrArg Prod.fst he) (congrArg Prod.snd he) ⟨hlpq, hldq⟩ dX0_sorest_45
