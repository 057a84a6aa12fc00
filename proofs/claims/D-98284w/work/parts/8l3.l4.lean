/-! walks of methods by contract, printed by gen/mkwalk.py -/
set_option maxRecDepth 100000
theorem lend_st1 (σ : MS × MS) (v a b : Int32) : f_X0_ending (lsi σ 7 v) a b = f_X0_ending σ a b := by unfold f_X0_ending; rfl
theorem lend_st2 (σ : MS × MS) (v a b : Int32) (h : ¬ f_X0_ending σ a b = 0) : ¬ f_X0_ending (lsi σ 7 v) a b = 0 := by rw [lend_st1]; exact h
theorem lend_pos {σ : MS × MS} {a b : Int32} (ha : 0 ≤ (ga (ttb σ) 21 a).toInt ∧ (ga (ttb σ) 21 a).toInt ≤ 16) (hb : 0 ≤ (ga (ttb σ) 21 b).toInt ∧ (ga (ttb σ) 21 b).toInt ≤ 16) (h : ¬ f_X0_ending σ a b = 0) : 1 ≤ (f_X0_ending σ a b).toInt ∧ (f_X0_ending σ a b).toInt ≤ 256 := by
  unfold f_X0_ending at h ⊢
  obtain ⟨x, hx, ex⟩ := small_nI (n := 16) ha
  obtain ⟨y, hy, ey⟩ := small_nI (n := 16) hb
  rw [ex, ey] at h ⊢
  have hn : ¬ (nI x = 16 ∧ nI y = 16) := by
    rintro ⟨p, q⟩
    rw [p, q] at h
    exact h (by decide)
  rw [Int32.toInt_toInt64]
  exact behind_k x (by omega) y (by omega) hn
theorem lwhole_k : ∀ i, i < 17 → ∀ j, j < 17 → ¬ (nI i = 16 ∧ nI j = 16) → ∀ k, k < 17 → 1 ≤ ((4096 : Int64) - ((nI i).toInt64 * (nI j).toInt64) * (nI k).toInt64).toInt ∧ ((4096 : Int64) - ((nI i).toInt64 * (nI j).toInt64) * (nI k).toInt64).toInt ≤ 4096 := by decide +kernel
theorem lwhole {σ : MS × MS} {a b c : Int32} (ha : 0 ≤ (ga (ttb σ) 21 a).toInt ∧ (ga (ttb σ) 21 a).toInt ≤ 16) (hb : 0 ≤ (ga (ttb σ) 21 b).toInt ∧ (ga (ttb σ) 21 b).toInt ≤ 16) (hc : 0 ≤ (ga (ttb σ) 21 c).toInt ∧ (ga (ttb σ) 21 c).toInt ≤ 16) (h : ¬ f_X0_ending σ a b = 0) : 1 ≤ ((4096 : Int64) - ((ga (ttb σ) 21 a).toInt64 * (ga (ttb σ) 21 b).toInt64) * (ga (ttb σ) 21 c).toInt64).toInt ∧ ((4096 : Int64) - ((ga (ttb σ) 21 a).toInt64 * (ga (ttb σ) 21 b).toInt64) * (ga (ttb σ) 21 c).toInt64).toInt ≤ 4096 := by
  unfold f_X0_ending at h
  obtain ⟨x, hx, ex⟩ := small_nI (n := 16) ha
  obtain ⟨y, hy, ey⟩ := small_nI (n := 16) hb
  obtain ⟨z, hz, ez⟩ := small_nI (n := 16) hc
  rw [ex, ey] at h
  rw [ex, ey, ez]
  exact lwhole_k x (by omega) y (by omega) (by
    rintro ⟨p, q⟩
    rw [p, q] at h
    exact h (by decide)) z (by omega)
def f_X0_trio (σ : MS × MS) (p1 : Int32) (p2 : Int32) (p3 : Int32) (p4 : Int32) : (MS × MS) × Int32 := (let r5 := (f_X0_areThree σ p1 p2 p3); (let z67_ : Int32 := (if r5 = (0 : Int32) then ((1 : Int32)) else ((let r18 := (f_X0_isIn p4.toInt64 (0 : Int64) (2 : Int64)); if r18 = (0 : Int32) then ((1 : Int32)) else ((let r31 := (f_X0_ending σ p1 p2); if (lg_cmp r31 (0 : Int64)) = (0 : Int32) then ((6 : Int32)) else ((let r42 := (f_X0_ending σ p2 p3); if (lg_cmp r42 (0 : Int64)) = (0 : Int32) then ((6 : Int32)) else ((let r53 := (f_X0_ending σ p3 p1); if (lg_cmp r53 (0 : Int64)) = (0 : Int32) then ((6 : Int32)) else ((0 : Int32))))))))))); let t0_67 := z67_; (let σ67 := lsi σ 7 t0_67; if (gi (own σ67) 7) ≤ (0 : Int32) then ((let v88 := (ga (ttb σ67) 21 p1).toInt64; let v99 := (ga (ttb σ67) 21 p2).toInt64; let v110 := (ga (ttb σ67) 21 p3).toInt64; let v124 := ((4096 : Int64) - ((v88 * v99) * v110)); let v136 := (((16 : Int64) - v88) * (256 : Int64)); let v151 := ((v88 * ((16 : Int64) - v99)) * (16 : Int64)); let v165 := ((v88 * v99) * ((16 : Int64) - v110)); if p4 = (0 : Int32) then ((let r178 := (f_X0_ending σ67 p3 p1); let r184 := (f_X0_stays σ67 p3 p1); let r192 := (f_X0_ending σ67 p1 p2); let r201 := (f_X0_stays σ67 p1 p2); let r208 := (f_X0_ending σ67 p3 p1); let r218 := (f_X0_ending σ67 p3 p1); let r225 := (f_X0_ending σ67 p1 p2); let z229 := (f_X0_fraction σ67 (((v151 * (r178 - r184)) * r192) + ((v165 * r201) * r208)) ((v124 * r218) * r225)); let σ229 := z229.1; let r229 := z229.2; (σ229, (1 : Int32)))) else (if p4 = (1 : Int32) then ((let r248 := (f_X0_ending σ67 p1 p2); let r254 := (f_X0_stays σ67 p1 p2); let r262 := (f_X0_ending σ67 p2 p3); let r271 := (f_X0_stays σ67 p2 p3); let r278 := (f_X0_ending σ67 p1 p2); let r288 := (f_X0_ending σ67 p1 p2); let r295 := (f_X0_ending σ67 p2 p3); let z299 := (f_X0_fraction σ67 (((v165 * (r248 - r254)) * r262) + ((v136 * r271) * r278)) ((v124 * r288) * r295)); let σ299 := z299.1; let r299 := z299.2; (σ299, (1 : Int32)))) else ((let r312 := (f_X0_ending σ67 p2 p3); let r318 := (f_X0_stays σ67 p2 p3); let r326 := (f_X0_ending σ67 p3 p1); let r335 := (f_X0_stays σ67 p3 p1); let r342 := (f_X0_ending σ67 p2 p3); let r352 := (f_X0_ending σ67 p2 p3); let r359 := (f_X0_ending σ67 p3 p1); let z363 := (f_X0_fraction σ67 (((v136 * (r312 - r318)) * r326) + ((v151 * r335) * r342)) ((v124 * r352) * r359)); let σ363 := z363.1; let r363 := z363.2; (σ363, (1 : Int32))))))) else ((σ67, (0 : Int32))))))
set_option maxHeartbeats 4000000 in
set_option maxRecDepth 100000 in
theorem k_X0_trio (l : Launch) (g : GL) (σ : MS × MS) (p1 : Int32) (p2 : Int32) (p3 : Int32) (p4 : Int32) (hlp : 0 ≤ (gi (ttb σ) 1).toInt ∧ (gi (ttb σ) 1).toInt ≤ 6) (hld : 0 ≤ (gi (ttb σ) 3).toInt ∧ (gi (ttb σ) 3).toInt ≤ 16 ∧ (gi (ttb σ) 3).toInt ≤ (g.1.2.1 50 : Int)) (hLI : ∀ x : Int32, (0 ≤ x.toInt ∧ x.toInt < (gi (ttb σ) 1).toInt) → 0 ≤ (ga (ttb σ) 21 x).toInt ∧ (ga (ttb σ) 21 x).toInt ≤ 16) : Met l yX0_trio (ws_ yX0_trio cX0_trio 19 (some .boolean)) ({ frames := 4, cells := 0, slots := 0, locals := 91 } : Room) (wPc (dL g) (g.2.2.1 99) σ [.int p1, .int p2, .int p3, .int p4]) (wQz (dL g) (f_X0_trio σ p1 p2 p3 p4).1 (f_X0_trio σ p1 p2 p3 p4).2 (fun u r => ((gi (ttb u) 1).toInt = (gi (ttb σ) 1).toInt) ∧ ((gi (ttb u) 3).toInt = (gi (ttb σ) 3).toInt))) 0 0 (dL g).2.2.2.1 := by
  refine met_W RX0 (by decide) rfl (Nat.le_of_ble_eq_true rfl) ?_
  intro p e s m args below meth c C hr hlocks h ls hl
  have hx := C.1.1
  have hb := C.1.2.1
  have hml := C.1.2.2.1
  have hown := C.1.2.2.2.1
  have hts := C.1.2.2.2.2
  have hl : lv_has ls 19 [(0, .ref (g.2.2.1 99)), (1, .int p1), (2, .int p2), (3, .int p3), (4, .int p4)] := hl
  have hlpq : (gi (ttb σ) 1).toInt = (gi (ttb σ) 1).toInt := rfl
  have hldq : (gi (ttb σ) 3).toInt = (gi (ttb σ) 3).toInt := rfl
  have zl0 : (0 : Int32).toInt = 0 := rfl
  have zl1 : (1 : Int32).toInt = 1 := rfl
  have zl6 : (6 : Int32).toInt = 6 := rfl
  refine lv_aload_n hx hb dX0_trio_0 rfl (lv_at hl 0 rfl) ?_
  refine lv_aload_n hx hb dX0_trio_1 rfl (lv_at hl 0 rfl) ?_
  refine lv_iload_n hx hb dX0_trio_2 rfl (lv_at hl 1 rfl) ?_
  refine lv_iload_n hx hb dX0_trio_3 rfl (lv_at hl 2 rfl) ?_
  refine lv_iload_n hx hb dX0_trio_4 rfl (lv_at hl 3 rfl) ?_
  refine w_callz (ci := 0) (q0 := 6) (As := [.int p1, .int p2, .int p3]) (rest := [.ref (g.2.2.1 99)]) 3 (wXL g) C h (k_X0_areThree l g σ p1 p2 p3 (by first | with_reducible assumption | assumption | omega)) (lw_V q1209 q1211 qs52 q144 q1212) rfl rfl rfl rfl (by decide +kernel) ⟨Nat.le_of_ble_eq_true rfl, Nat.le_of_ble_eq_true rfl⟩ rfl hl.1 rfl (Nat.le_of_ble_eq_true rfl) ⟨Nat.le_of_ble_eq_true rfl, Nat.le_of_ble_eq_true rfl⟩ dX0_trio_5 (fun r5 σ5 H locs eσ5 er5 br5 hE5 h => ?_)
  rw [eσ5] at h
  clear hE5
  clear eσ5
  have j67 : ∀ (t0_67 : Int32) (H : Heap) (locs : List Loc) (ls : Array Slot) (ej67 : (if r5 = (0 : Int32) then ((1 : Int32)) else ((let r18 := (f_X0_isIn p4.toInt64 (0 : Int64) (2 : Int64)); if r18 = (0 : Int32) then ((1 : Int32)) else ((let r31 := (f_X0_ending σ p1 p2); if (lg_cmp r31 (0 : Int64)) = (0 : Int32) then ((6 : Int32)) else ((let r42 := (f_X0_ending σ p2 p3); if (lg_cmp r42 (0 : Int64)) = (0 : Int32) then ((6 : Int32)) else ((let r53 := (f_X0_ending σ p3 p1); if (lg_cmp r53 (0 : Int64)) = (0 : Int32) then ((6 : Int32)) else ((0 : Int32))))))))))) = t0_67) (hI67 : (0 < t0_67.toInt) ∨ ((0 ≤ p1.toInt ∧ p1.toInt < (gi (ttb σ) 1).toInt) ∧ (0 ≤ p2.toInt ∧ p2.toInt < (gi (ttb σ) 1).toInt) ∧ (0 ≤ p3.toInt ∧ p3.toInt < (gi (ttb σ) 1).toInt) ∧ ¬ f_X0_ending σ p1 p2 = 0 ∧ ¬ f_X0_ending σ p2 p3 = 0 ∧ ¬ f_X0_ending σ p3 p1 = 0)) (h : wH (dL g) σ s H locs) (hl : lv_has ls 19 [(0, .ref (g.2.2.1 99)), (1, .int p1), (2, .int p2), (3, .int p3), (4, .int p4)]), W p l e ({ frames := 4, cells := 0, slots := 0, locals := 91 } : Room) s m args below meth c H locs 0 0 (MQ below (wQz (dL g) (f_X0_trio σ p1 p2 p3 p4).1 (f_X0_trio σ p1 p2 p3 p4).2 (fun u r => ((gi (ttb u) 1).toInt = (gi (ttb σ) 1).toInt) ∧ ((gi (ttb u) 3).toInt = (gi (ttb σ) 3).toInt))) args s 0 0 (dL g).2.2.2.1) (F0 m 67 ls [.int t0_67, .ref (g.2.2.1 99)]) := by
    intro t0_67 H locs ls ej67 hI67 h hl
    have et0_67 := ej67.symm
    refine L_p7 C h dX0_trio_67 (fun σ67 H locs eσ67 h => ?_)
    have hNEW : (0 ≤ (gi (ttb σ67) 1).toInt ∧ (gi (ttb σ67) 1).toInt ≤ 6) ∧ (0 ≤ (gi (ttb σ67) 3).toInt ∧ (gi (ttb σ67) 3).toInt ≤ 16 ∧ (gi (ttb σ67) 3).toInt ≤ (g.1.2.1 50 : Int)) ∧ (∀ x : Int32, (0 ≤ x.toInt ∧ x.toInt < (gi (ttb σ67) 1).toInt) → 0 ≤ (ga (ttb σ67) 21 x).toInt ∧ (ga (ttb σ67) 21 x).toInt ≤ 16) ∧ ((gi (ttb σ67) 1).toInt = (gi (ttb σ) 1).toInt) ∧ ((gi (ttb σ67) 3).toInt = (gi (ttb σ) 3).toInt) := ⟨(by rw [eσ67] <;> exact hlp), (by rw [eσ67] <;> exact hld), (by rw [eσ67] <;> exact hLI), (by rw [eσ67] <;> exact hlpq), (by rw [eσ67] <;> exact hldq)⟩
    obtain ⟨hlp, hld, hLI, hlpq, hldq⟩ := hNEW
    have q7_67 : (gi (own σ67) 7).toInt = t0_67.toInt := by rw [eσ67]; rfl
    refine lv_aload_n hx hb dX0_trio_70 rfl (lv_at hl 0 rfl) ?_
    refine L_g7 C h dX0_trio_71 ?_
    refine lv_if_le (tgt := 79) hx hb dX0_trio_74 (by decide) (fun c74 => ?_) (fun c74 => ?_)
    · have i74 := c_le c74
      obtain ⟨w1, w2, w3, w4, w5, w6⟩ := hI67.resolve_left (Int.not_lt.mpr (by have z := i74; rw [q7_67, zl0] at z; exact z))
      clear hI67
      have b1 : 0 ≤ p1.toInt ∧ p1.toInt < (gi (ttb σ67) 1).toInt := by rw [eσ67]; exact w1
      have b2 : 0 ≤ p2.toInt ∧ p2.toInt < (gi (ttb σ67) 1).toInt := by rw [eσ67]; exact w2
      have b3 : 0 ≤ p3.toInt ∧ p3.toInt < (gi (ttb σ67) 1).toInt := by rw [eσ67]; exact w3
      have nE12 : ¬ f_X0_ending σ67 p1 p2 = 0 := by rw [eσ67]; exact lend_st2 _ _ _ _ w4
      have nE23 : ¬ f_X0_ending σ67 p2 p3 = 0 := by rw [eσ67]; exact lend_st2 _ _ _ _ w5
      have nE31 : ¬ f_X0_ending σ67 p3 p1 = 0 := by rw [eσ67]; exact lend_st2 _ _ _ _ w6
      clear w1 w2 w3 w4 w5 w6
      have kA := hLI p1 b1
      have kB := hLI p2 b2
      have kC := hLI p3 b3
      have pE12 : 1 ≤ (f_X0_ending σ67 p1 p2).toInt ∧ (f_X0_ending σ67 p1 p2).toInt ≤ 256 := lend_pos kA kB nE12
      have pE23 : 1 ≤ (f_X0_ending σ67 p2 p3).toInt ∧ (f_X0_ending σ67 p2 p3).toInt ≤ 256 := lend_pos kB kC nE23
      have pE31 : 1 ≤ (f_X0_ending σ67 p3 p1).toInt ∧ (f_X0_ending σ67 p3 p1).toInt ≤ 256 := lend_pos kC kA nE31
      refine lv_aload_n hx hb dX0_trio_79 rfl (lv_at hl 0 rfl) ?_
      refine lv_iload_n hx hb dX0_trio_80 rfl (lv_at hl 1 rfl) ?_
      refine L_one (rest := []) C h (by omega) ⟨Nat.le_of_ble_eq_true rfl, Nat.le_of_ble_eq_true rfl⟩ hl.1 (Nat.le_of_ble_eq_true rfl) ⟨Nat.le_of_ble_eq_true rfl, Nat.le_of_ble_eq_true rfl⟩ dX0_trio_81 (fun H locs h => ?_)
      refine L_f1 C h (by omega) dX0_trio_84 ?_
      refine lv_i2l (v := (ga (ttb σ67) 21 p1).toInt64) hx hb dX0_trio_87 rfl ?_
      refine lv_topl (fun v88 ev88 => ?_)
      refine lv_lstore (lv' := [(5, .long v88), (0, .ref (g.2.2.1 99)), (1, .int p1), (2, .int p2), (3, .int p3), (4, .int p4)]) hx hb dX0_trio_88 hl (by decide) rfl (fun ls hl => ?_)
      refine lv_aload_n hx hb dX0_trio_90 rfl (lv_at hl 1 rfl) ?_
      refine lv_iload_n hx hb dX0_trio_91 rfl (lv_at hl 3 rfl) ?_
      refine L_one (rest := []) C h (by omega) ⟨Nat.le_of_ble_eq_true rfl, Nat.le_of_ble_eq_true rfl⟩ hl.1 (Nat.le_of_ble_eq_true rfl) ⟨Nat.le_of_ble_eq_true rfl, Nat.le_of_ble_eq_true rfl⟩ dX0_trio_92 (fun H locs h => ?_)
      refine L_f1 C h (by omega) dX0_trio_95 ?_
      refine lv_i2l (v := (ga (ttb σ67) 21 p2).toInt64) hx hb dX0_trio_98 rfl ?_
      refine lv_topl (fun v99 ev99 => ?_)
      refine lv_lstore (lv' := [(7, .long v99), (5, .long v88), (0, .ref (g.2.2.1 99)), (1, .int p1), (2, .int p2), (3, .int p3), (4, .int p4)]) hx hb dX0_trio_99 hl (by decide) rfl (fun ls hl => ?_)
      refine lv_aload_n hx hb dX0_trio_101 rfl (lv_at hl 2 rfl) ?_
      refine lv_iload_n hx hb dX0_trio_102 rfl (lv_at hl 5 rfl) ?_
      refine L_one (rest := []) C h (by omega) ⟨Nat.le_of_ble_eq_true rfl, Nat.le_of_ble_eq_true rfl⟩ hl.1 (Nat.le_of_ble_eq_true rfl) ⟨Nat.le_of_ble_eq_true rfl, Nat.le_of_ble_eq_true rfl⟩ dX0_trio_103 (fun H locs h => ?_)
      refine L_f1 C h (by omega) dX0_trio_106 ?_
      refine lv_i2l (v := (ga (ttb σ67) 21 p3).toInt64) hx hb dX0_trio_109 rfl ?_
      refine lv_topl (fun v110 ev110 => ?_)
      refine lv_lstore (lv' := [(9, .long v110), (7, .long v99), (5, .long v88), (0, .ref (g.2.2.1 99)), (1, .int p1), (2, .int p2), (3, .int p3), (4, .int p4)]) hx hb dX0_trio_110 hl (by decide) rfl (fun ls hl => ?_)
      refine lv_ldc2 hx hb hown (hts _ q1213) dX0_trio_112 ?_
      refine lv_lload hx hb dX0_trio_115 (lv_at hl 2 rfl) ?_
      refine lv_lload hx hb dX0_trio_117 (lv_at hl 1 rfl) ?_
      refine lv_lmul hx hb dX0_trio_119 ?_
      refine lv_lload hx hb dX0_trio_120 (lv_at hl 0 rfl) ?_
      refine lv_lmul hx hb dX0_trio_122 ?_
      refine lv_lsub hx hb dX0_trio_123 ?_
      refine lv_topl (fun v124 ev124 => ?_)
      refine lv_lstore (lv' := [(11, .long v124), (9, .long v110), (7, .long v99), (5, .long v88), (0, .ref (g.2.2.1 99)), (1, .int p1), (2, .int p2), (3, .int p3), (4, .int p4)]) hx hb dX0_trio_124 hl (by decide) rfl (fun ls hl => ?_)
      have pW : 1 ≤ v124.toInt ∧ v124.toInt ≤ 4096 := by rw [ev124, ev88, ev99, ev110]; exact lwhole kA kB kC nE12
      refine lv_ldc2 hx hb hown (hts _ q1204) dX0_trio_126 ?_
      refine lv_lload hx hb dX0_trio_129 (lv_at hl 3 rfl) ?_
      refine lv_lsub hx hb dX0_trio_131 ?_
      refine lv_ldc2 hx hb hown (hts _ q1214) dX0_trio_132 ?_
      refine lv_lmul hx hb dX0_trio_135 ?_
      refine lv_topl (fun v136 ev136 => ?_)
      refine lv_lstore (lv' := [(13, .long v136), (11, .long v124), (9, .long v110), (7, .long v99), (5, .long v88), (0, .ref (g.2.2.1 99)), (1, .int p1), (2, .int p2), (3, .int p3), (4, .int p4)]) hx hb dX0_trio_136 hl (by decide) rfl (fun ls hl => ?_)
      refine lv_lload hx hb dX0_trio_138 (lv_at hl 4 rfl) ?_
      refine lv_ldc2 hx hb hown (hts _ q1204) dX0_trio_140 ?_
      refine lv_lload hx hb dX0_trio_143 (lv_at hl 3 rfl) ?_
      refine lv_lsub hx hb dX0_trio_145 ?_
      refine lv_lmul hx hb dX0_trio_146 ?_
      refine lv_ldc2 hx hb hown (hts _ q1204) dX0_trio_147 ?_
      refine lv_lmul hx hb dX0_trio_150 ?_
      refine lv_topl (fun v151 ev151 => ?_)
      refine lv_lstore (lv' := [(15, .long v151), (13, .long v136), (11, .long v124), (9, .long v110), (7, .long v99), (5, .long v88), (0, .ref (g.2.2.1 99)), (1, .int p1), (2, .int p2), (3, .int p3), (4, .int p4)]) hx hb dX0_trio_151 hl (by decide) rfl (fun ls hl => ?_)
      refine lv_lload hx hb dX0_trio_153 (lv_at hl 5 rfl) ?_
      refine lv_lload hx hb dX0_trio_155 (lv_at hl 4 rfl) ?_
      refine lv_lmul hx hb dX0_trio_157 ?_
      refine lv_ldc2 hx hb hown (hts _ q1204) dX0_trio_158 ?_
      refine lv_lload hx hb dX0_trio_161 (lv_at hl 3 rfl) ?_
      refine lv_lsub hx hb dX0_trio_163 ?_
      refine lv_lmul hx hb dX0_trio_164 ?_
      refine lv_topl (fun v165 ev165 => ?_)
      refine lv_lstore (lv' := [(17, .long v165), (15, .long v151), (13, .long v136), (11, .long v124), (9, .long v110), (7, .long v99), (5, .long v88), (0, .ref (g.2.2.1 99)), (1, .int p1), (2, .int p2), (3, .int p3), (4, .int p4)]) hx hb dX0_trio_165 hl (by decide) rfl (fun ls hl => ?_)
      refine lv_iload hx hb dX0_trio_167 (lv_at hl 11 rfl) ?_
      refine lv_if_ne (tgt := 236) hx hb dX0_trio_169 (by decide) (fun c169 => ?_) (fun c169 => ?_)
      · have i169 := c_ne c169
        refine lv_iload hx hb dX0_trio_236 (lv_at hl 11 rfl) ?_
        refine lv_iconst (v := 1) hx hb dX0_trio_238 (by decide) ?_
        refine lv_icmp_ne (tgt := 306) hx hb dX0_trio_239 (by decide) (fun c239 => ?_) (fun c239 => ?_)
        · have i239 := c_ne c239
          refine lv_aload_n hx hb dX0_trio_306 rfl (lv_at hl 7 rfl) ?_
          refine lv_lload hx hb dX0_trio_307 (lv_at hl 2 rfl) ?_
          refine lv_aload_n hx hb dX0_trio_309 rfl (lv_at hl 7 rfl) ?_
          refine lv_iload_n hx hb dX0_trio_310 rfl (lv_at hl 9 rfl) ?_
          refine lv_iload_n hx hb dX0_trio_311 rfl (lv_at hl 10 rfl) ?_
          refine w_calll (ci := 0) (q0 := 6) (As := [.int p2, .int p3]) (rest := [.long v136, .ref (g.2.2.1 99)]) 2 (wXL g) C h (k_X0_ending l g σ67 p2 p3 (by first | with_reducible assumption | assumption | omega) (by first | with_reducible assumption | assumption | omega) (by first | with_reducible assumption | assumption | omega)) (lw_V q1182 q1184 qs49 q144 q1185) rfl rfl rfl rfl (by decide +kernel) ⟨Nat.le_of_ble_eq_true rfl, Nat.le_of_ble_eq_true rfl⟩ rfl hl.1 rfl (Nat.le_of_ble_eq_true rfl) ⟨Nat.le_of_ble_eq_true rfl, Nat.le_of_ble_eq_true rfl⟩ dX0_trio_312 (fun r312 σ312 H locs eσ312 er312 hE312 h => ?_)
          rw [eσ312] at h
          clear hE312
          clear eσ312
          refine lv_aload_n hx hb dX0_trio_315 rfl (lv_at hl 7 rfl) ?_
          refine lv_iload_n hx hb dX0_trio_316 rfl (lv_at hl 9 rfl) ?_
          refine lv_iload_n hx hb dX0_trio_317 rfl (lv_at hl 10 rfl) ?_
          refine w_calll (ci := 0) (q0 := 6) (As := [.int p2, .int p3]) (rest := [.long r312, .long v136, .ref (g.2.2.1 99)]) 2 (wXL g) C h (k_X0_stays l g σ67 p2 p3 (by first | with_reducible assumption | assumption | omega) (by first | with_reducible assumption | assumption | omega) (by first | with_reducible assumption | assumption | omega)) (lw_V q1186 q1188 qs50 q144 q1189) rfl rfl rfl rfl (by decide +kernel) ⟨Nat.le_of_ble_eq_true rfl, Nat.le_of_ble_eq_true rfl⟩ rfl hl.1 rfl (Nat.le_of_ble_eq_true rfl) ⟨Nat.le_of_ble_eq_true rfl, Nat.le_of_ble_eq_true rfl⟩ dX0_trio_318 (fun r318 σ318 H locs eσ318 er318 hE318 h => ?_)
          rw [eσ318] at h
          clear hE318
          clear eσ318
          refine lv_lsub hx hb dX0_trio_321 ?_
          refine lv_lmul hx hb dX0_trio_322 ?_
          refine lv_aload_n hx hb dX0_trio_323 rfl (lv_at hl 7 rfl) ?_
          refine lv_iload_n hx hb dX0_trio_324 rfl (lv_at hl 10 rfl) ?_
          refine lv_iload_n hx hb dX0_trio_325 rfl (lv_at hl 8 rfl) ?_
          refine w_calll (ci := 0) (q0 := 6) (As := [.int p3, .int p1]) (rest := [.long (v136 * (r312 - r318)), .ref (g.2.2.1 99)]) 2 (wXL g) C h (k_X0_ending l g σ67 p3 p1 (by first | with_reducible assumption | assumption | omega) (by first | with_reducible assumption | assumption | omega) (by first | with_reducible assumption | assumption | omega)) (lw_V q1182 q1184 qs49 q144 q1185) rfl rfl rfl rfl (by decide +kernel) ⟨Nat.le_of_ble_eq_true rfl, Nat.le_of_ble_eq_true rfl⟩ rfl hl.1 rfl (Nat.le_of_ble_eq_true rfl) ⟨Nat.le_of_ble_eq_true rfl, Nat.le_of_ble_eq_true rfl⟩ dX0_trio_326 (fun r326 σ326 H locs eσ326 er326 hE326 h => ?_)
          rw [eσ326] at h
          clear hE326
          clear eσ326
          refine lv_lmul hx hb dX0_trio_329 ?_
          refine lv_lload hx hb dX0_trio_330 (lv_at hl 1 rfl) ?_
          refine lv_aload_n hx hb dX0_trio_332 rfl (lv_at hl 7 rfl) ?_
          refine lv_iload_n hx hb dX0_trio_333 rfl (lv_at hl 10 rfl) ?_
          refine lv_iload_n hx hb dX0_trio_334 rfl (lv_at hl 8 rfl) ?_
          refine w_calll (ci := 0) (q0 := 6) (As := [.int p3, .int p1]) (rest := [.long v151, .long ((v136 * (r312 - r318)) * r326), .ref (g.2.2.1 99)]) 2 (wXL g) C h (k_X0_stays l g σ67 p3 p1 (by first | with_reducible assumption | assumption | omega) (by first | with_reducible assumption | assumption | omega) (by first | with_reducible assumption | assumption | omega)) (lw_V q1186 q1188 qs50 q144 q1189) rfl rfl rfl rfl (by decide +kernel) ⟨Nat.le_of_ble_eq_true rfl, Nat.le_of_ble_eq_true rfl⟩ rfl hl.1 rfl (Nat.le_of_ble_eq_true rfl) ⟨Nat.le_of_ble_eq_true rfl, Nat.le_of_ble_eq_true rfl⟩ dX0_trio_335 (fun r335 σ335 H locs eσ335 er335 hE335 h => ?_)
          rw [eσ335] at h
          clear hE335
          clear eσ335
          refine lv_lmul hx hb dX0_trio_338 ?_
          refine lv_aload_n hx hb dX0_trio_339 rfl (lv_at hl 7 rfl) ?_
          refine lv_iload_n hx hb dX0_trio_340 rfl (lv_at hl 9 rfl) ?_
          refine lv_iload_n hx hb dX0_trio_341 rfl (lv_at hl 10 rfl) ?_
          refine w_calll (ci := 0) (q0 := 6) (As := [.int p2, .int p3]) (rest := [.long (v151 * r335), .long ((v136 * (r312 - r318)) * r326), .ref (g.2.2.1 99)]) 2 (wXL g) C h (k_X0_ending l g σ67 p2 p3 (by first | with_reducible assumption | assumption | omega) (by first | with_reducible assumption | assumption | omega) (by first | with_reducible assumption | assumption | omega)) (lw_V q1182 q1184 qs49 q144 q1185) rfl rfl rfl rfl (by decide +kernel) ⟨Nat.le_of_ble_eq_true rfl, Nat.le_of_ble_eq_true rfl⟩ rfl hl.1 rfl (Nat.le_of_ble_eq_true rfl) ⟨Nat.le_of_ble_eq_true rfl, Nat.le_of_ble_eq_true rfl⟩ dX0_trio_342 (fun r342 σ342 H locs eσ342 er342 hE342 h => ?_)
          rw [eσ342] at h
          clear hE342
          clear eσ342
          refine lv_lmul hx hb dX0_trio_345 ?_
          refine lv_ladd hx hb dX0_trio_346 ?_
          refine lv_lload hx hb dX0_trio_347 (lv_at hl 3 rfl) ?_
          refine lv_aload_n hx hb dX0_trio_349 rfl (lv_at hl 7 rfl) ?_
          refine lv_iload_n hx hb dX0_trio_350 rfl (lv_at hl 9 rfl) ?_
          refine lv_iload_n hx hb dX0_trio_351 rfl (lv_at hl 10 rfl) ?_
          refine w_calll (ci := 0) (q0 := 6) (As := [.int p2, .int p3]) (rest := [.long v124, .long (((v136 * (r312 - r318)) * r326) + ((v151 * r335) * r342)), .ref (g.2.2.1 99)]) 2 (wXL g) C h (k_X0_ending l g σ67 p2 p3 (by first | with_reducible assumption | assumption | omega) (by first | with_reducible assumption | assumption | omega) (by first | with_reducible assumption | assumption | omega)) (lw_V q1182 q1184 qs49 q144 q1185) rfl rfl rfl rfl (by decide +kernel) ⟨Nat.le_of_ble_eq_true rfl, Nat.le_of_ble_eq_true rfl⟩ rfl hl.1 rfl (Nat.le_of_ble_eq_true rfl) ⟨Nat.le_of_ble_eq_true rfl, Nat.le_of_ble_eq_true rfl⟩ dX0_trio_352 (fun r352 σ352 H locs eσ352 er352 hE352 h => ?_)
          rw [eσ352] at h
          clear hE352
          clear eσ352
          refine lv_lmul hx hb dX0_trio_355 ?_
          refine lv_aload_n hx hb dX0_trio_356 rfl (lv_at hl 7 rfl) ?_
          refine lv_iload_n hx hb dX0_trio_357 rfl (lv_at hl 10 rfl) ?_
          refine lv_iload_n hx hb dX0_trio_358 rfl (lv_at hl 8 rfl) ?_
          refine w_calll (ci := 0) (q0 := 6) (As := [.int p3, .int p1]) (rest := [.long (v124 * r352), .long (((v136 * (r312 - r318)) * r326) + ((v151 * r335) * r342)), .ref (g.2.2.1 99)]) 2 (wXL g) C h (k_X0_ending l g σ67 p3 p1 (by first | with_reducible assumption | assumption | omega) (by first | with_reducible assumption | assumption | omega) (by first | with_reducible assumption | assumption | omega)) (lw_V q1182 q1184 qs49 q144 q1185) rfl rfl rfl rfl (by decide +kernel) ⟨Nat.le_of_ble_eq_true rfl, Nat.le_of_ble_eq_true rfl⟩ rfl hl.1 rfl (Nat.le_of_ble_eq_true rfl) ⟨Nat.le_of_ble_eq_true rfl, Nat.le_of_ble_eq_true rfl⟩ dX0_trio_359 (fun r359 σ359 H locs eσ359 er359 hE359 h => ?_)
          rw [eσ359] at h
          clear hE359
          clear eσ359
          refine lv_lmul hx hb dX0_trio_362 ?_
          refine w_calli (ci := 0) (q0 := 6) (As := [.long (((v136 * (r312 - r318)) * r326) + ((v151 * r335) * r342)), .long ((v124 * r352) * r359)]) (rest := []) 2 (wXL g) C h (k_X0_fraction l g σ67 (((v136 * (r312 - r318)) * r326) + ((v151 * r335) * r342)) ((v124 * r352) * r359) (by first | with_reducible assumption | assumption | omega) (by first | with_reducible assumption | assumption | omega) (l_pos_ne (lmul_rng (lmul_rng pW (by rw [er352]; exact pE23) (by decide)) (by rw [er359]; exact pE31) (by decide)))) (lw_V q1190 q1192 qs51 q144 q1193) rfl rfl rfl rfl (by decide +kernel) ⟨Nat.le_of_ble_eq_true rfl, Nat.le_of_ble_eq_true rfl⟩ rfl hl.1 rfl (Nat.le_of_ble_eq_true rfl) ⟨Nat.le_of_ble_eq_true rfl, Nat.le_of_ble_eq_true rfl⟩ dX0_trio_363 (fun r363 σ363 H locs eσ363 er363 hE363 h => ?_)
          have hE363 : ((gi (ttb σ363) 1).toInt = (gi (ttb σ67) 1).toInt) ∧ ((gi (ttb σ363) 3).toInt = (gi (ttb σ67) 3).toInt) := hE363
          obtain ⟨hlpq_363, hldq_363⟩ := hE363
          have hNEW : (0 ≤ (gi (ttb σ363) 1).toInt ∧ (gi (ttb σ363) 1).toInt ≤ 6) ∧ (0 ≤ (gi (ttb σ363) 3).toInt ∧ (gi (ttb σ363) 3).toInt ≤ 16 ∧ (gi (ttb σ363) 3).toInt ≤ (g.1.2.1 50 : Int)) ∧ ((gi (ttb σ363) 1).toInt = (gi (ttb σ) 1).toInt) ∧ ((gi (ttb σ363) 3).toInt = (gi (ttb σ) 3).toInt) := ⟨(by first | with_reducible assumption | assumption | omega), (by first | with_reducible assumption | assumption | omega), (by first | with_reducible assumption | assumption | omega), (by first | with_reducible assumption | assumption | omega)⟩
          clear hlp hld hlpq hldq
          obtain ⟨hlp, hld, hlpq, hldq⟩ := hNEW
          refine lv_pop hx hb dX0_trio_366 rfl ?_
          refine lv_iconst (v := 1) hx hb dX0_trio_367 (by decide) ?_
          have he : f_X0_trio σ p1 p2 p3 p4 = (σ363, (1 : Int32)) := (by have er5 := er5.symm; subst er5; have et0_67 := et0_67.symm; subst et0_67; have eσ67 := eσ67.symm; subst eσ67; have ev88 := ev88.symm; subst ev88; have ev99 := ev99.symm; subst ev99; have ev110 := ev110.symm; subst ev110; have ev124 := ev124.symm; subst ev124; have ev136 := ev136.symm; subst ev136; have ev151 := ev151.symm; subst ev151; have ev165 := ev165.symm; subst ev165; have er312 := er312.symm; subst er312; have er318 := er318.symm; subst er318; have er326 := er326.symm; subst er326; have er335 := er335.symm; subst er335; have er342 := er342.symm; subst er342; have er352 := er352.symm; subst er352; have er359 := er359.symm; subst er359; have eσ363 := eσ363.symm; subst eσ363; have er363 := er363.symm; subst er363; (try unfold f_X0_trio); exact ((if_pos c74).trans ((if_neg c169).trans ((if_neg c239).trans rfl))))
          exact w_retz (wXL g) C h hr hlocks (congrArg Prod.fst he) (congrArg Prod.snd he) (Or.inr rfl) ⟨hlpq, hldq⟩ dX0_trio_368
        · have i239 := c_eq c239
          refine lv_aload_n hx hb dX0_trio_242 rfl (lv_at hl 7 rfl) ?_
          refine lv_lload hx hb dX0_trio_243 (lv_at hl 0 rfl) ?_
          refine lv_aload_n hx hb dX0_trio_245 rfl (lv_at hl 7 rfl) ?_
          refine lv_iload_n hx hb dX0_trio_246 rfl (lv_at hl 8 rfl) ?_
          refine lv_iload_n hx hb dX0_trio_247 rfl (lv_at hl 9 rfl) ?_
          refine w_calll (ci := 0) (q0 := 6) (As := [.int p1, .int p2]) (rest := [.long v165, .ref (g.2.2.1 99)]) 2 (wXL g) C h (k_X0_ending l g σ67 p1 p2 (by first | with_reducible assumption | assumption | omega) (by first | with_reducible assumption | assumption | omega) (by first | with_reducible assumption | assumption | omega)) (lw_V q1182 q1184 qs49 q144 q1185) rfl rfl rfl rfl (by decide +kernel) ⟨Nat.le_of_ble_eq_true rfl, Nat.le_of_ble_eq_true rfl⟩ rfl hl.1 rfl (Nat.le_of_ble_eq_true rfl) ⟨Nat.le_of_ble_eq_true rfl, Nat.le_of_ble_eq_true rfl⟩ dX0_trio_248 (fun r248 σ248 H locs eσ248 er248 hE248 h => ?_)
          rw [eσ248] at h
          clear hE248
          clear eσ248
          refine lv_aload_n hx hb dX0_trio_251 rfl (lv_at hl 7 rfl) ?_
          refine lv_iload_n hx hb dX0_trio_252 rfl (lv_at hl 8 rfl) ?_
          refine lv_iload_n hx hb dX0_trio_253 rfl (lv_at hl 9 rfl) ?_
          refine w_calll (ci := 0) (q0 := 6) (As := [.int p1, .int p2]) (rest := [.long r248, .long v165, .ref (g.2.2.1 99)]) 2 (wXL g) C h (k_X0_stays l g σ67 p1 p2 (by first | with_reducible assumption | assumption | omega) (by first | with_reducible assumption | assumption | omega) (by first | with_reducible assumption | assumption | omega)) (lw_V q1186 q1188 qs50 q144 q1189) rfl rfl rfl rfl (by decide +kernel) ⟨Nat.le_of_ble_eq_true rfl, Nat.le_of_ble_eq_true rfl⟩ rfl hl.1 rfl (Nat.le_of_ble_eq_true rfl) ⟨Nat.le_of_ble_eq_true rfl, Nat.le_of_ble_eq_true rfl⟩ dX0_trio_254 (fun r254 σ254 H locs eσ254 er254 hE254 h => ?_)
          rw [eσ254] at h
          clear hE254
          clear eσ254
          refine lv_lsub hx hb dX0_trio_257 ?_
          refine lv_lmul hx hb dX0_trio_258 ?_
          refine lv_aload_n hx hb dX0_trio_259 rfl (lv_at hl 7 rfl) ?_
          refine lv_iload_n hx hb dX0_trio_260 rfl (lv_at hl 9 rfl) ?_
          refine lv_iload_n hx hb dX0_trio_261 rfl (lv_at hl 10 rfl) ?_
          refine w_calll (ci := 0) (q0 := 6) (As := [.int p2, .int p3]) (rest := [.long (v165 * (r248 - r254)), .ref (g.2.2.1 99)]) 2 (wXL g) C h (k_X0_ending l g σ67 p2 p3 (by first | with_reducible assumption | assumption | omega) (by first | with_reducible assumption | assumption | omega) (by first | with_reducible assumption | assumption | omega)) (lw_V q1182 q1184 qs49 q144 q1185) rfl rfl rfl rfl (by decide +kernel) ⟨Nat.le_of_ble_eq_true rfl, Nat.le_of_ble_eq_true rfl⟩ rfl hl.1 rfl (Nat.le_of_ble_eq_true rfl) ⟨Nat.le_of_ble_eq_true rfl, Nat.le_of_ble_eq_true rfl⟩ dX0_trio_262 (fun r262 σ262 H locs eσ262 er262 hE262 h => ?_)
          rw [eσ262] at h
          clear hE262
          clear eσ262
          refine lv_lmul hx hb dX0_trio_265 ?_
          refine lv_lload hx hb dX0_trio_266 (lv_at hl 2 rfl) ?_
          refine lv_aload_n hx hb dX0_trio_268 rfl (lv_at hl 7 rfl) ?_
          refine lv_iload_n hx hb dX0_trio_269 rfl (lv_at hl 9 rfl) ?_
          refine lv_iload_n hx hb dX0_trio_270 rfl (lv_at hl 10 rfl) ?_
          refine w_calll (ci := 0) (q0 := 6) (As := [.int p2, .int p3]) (rest := [.long v136, .long ((v165 * (r248 - r254)) * r262), .ref (g.2.2.1 99)]) 2 (wXL g) C h (k_X0_stays l g σ67 p2 p3 (by first | with_reducible assumption | assumption | omega) (by first | with_reducible assumption | assumption | omega) (by first | with_reducible assumption | assumption | omega)) (lw_V q1186 q1188 qs50 q144 q1189) rfl rfl rfl rfl (by decide +kernel) ⟨Nat.le_of_ble_eq_true rfl, Nat.le_of_ble_eq_true rfl⟩ rfl hl.1 rfl (Nat.le_of_ble_eq_true rfl) ⟨Nat.le_of_ble_eq_true rfl, Nat.le_of_ble_eq_true rfl⟩ dX0_trio_271 (fun r271 σ271 H locs eσ271 er271 hE271 h => ?_)
          rw [eσ271] at h
          clear hE271
          clear eσ271
          refine lv_lmul hx hb dX0_trio_274 ?_
          refine lv_aload_n hx hb dX0_trio_275 rfl (lv_at hl 7 rfl) ?_
          refine lv_iload_n hx hb dX0_trio_276 rfl (lv_at hl 8 rfl) ?_
          refine lv_iload_n hx hb dX0_trio_277 rfl (lv_at hl 9 rfl) ?_
          refine w_calll (ci := 0) (q0 := 6) (As := [.int p1, .int p2]) (rest := [.long (v136 * r271), .long ((v165 * (r248 - r254)) * r262), .ref (g.2.2.1 99)]) 2 (wXL g) C h (k_X0_ending l g σ67 p1 p2 (by first | with_reducible assumption | assumption | omega) (by first | with_reducible assumption | assumption | omega) (by first | with_reducible assumption | assumption | omega)) (lw_V q1182 q1184 qs49 q144 q1185) rfl rfl rfl rfl (by decide +kernel) ⟨Nat.le_of_ble_eq_true rfl, Nat.le_of_ble_eq_true rfl⟩ rfl hl.1 rfl (Nat.le_of_ble_eq_true rfl) ⟨Nat.le_of_ble_eq_true rfl, Nat.le_of_ble_eq_true rfl⟩ dX0_trio_278 (fun r278 σ278 H locs eσ278 er278 hE278 h => ?_)
          rw [eσ278] at h
          clear hE278
          clear eσ278
          refine lv_lmul hx hb dX0_trio_281 ?_
          refine lv_ladd hx hb dX0_trio_282 ?_
          refine lv_lload hx hb dX0_trio_283 (lv_at hl 3 rfl) ?_
          refine lv_aload_n hx hb dX0_trio_285 rfl (lv_at hl 7 rfl) ?_
          refine lv_iload_n hx hb dX0_trio_286 rfl (lv_at hl 8 rfl) ?_
          refine lv_iload_n hx hb dX0_trio_287 rfl (lv_at hl 9 rfl) ?_
          refine w_calll (ci := 0) (q0 := 6) (As := [.int p1, .int p2]) (rest := [.long v124, .long (((v165 * (r248 - r254)) * r262) + ((v136 * r271) * r278)), .ref (g.2.2.1 99)]) 2 (wXL g) C h (k_X0_ending l g σ67 p1 p2 (by first | with_reducible assumption | assumption | omega) (by first | with_reducible assumption | assumption | omega) (by first | with_reducible assumption | assumption | omega)) (lw_V q1182 q1184 qs49 q144 q1185) rfl rfl rfl rfl (by decide +kernel) ⟨Nat.le_of_ble_eq_true rfl, Nat.le_of_ble_eq_true rfl⟩ rfl hl.1 rfl (Nat.le_of_ble_eq_true rfl) ⟨Nat.le_of_ble_eq_true rfl, Nat.le_of_ble_eq_true rfl⟩ dX0_trio_288 (fun r288 σ288 H locs eσ288 er288 hE288 h => ?_)
          rw [eσ288] at h
          clear hE288
          clear eσ288
          refine lv_lmul hx hb dX0_trio_291 ?_
          refine lv_aload_n hx hb dX0_trio_292 rfl (lv_at hl 7 rfl) ?_
          refine lv_iload_n hx hb dX0_trio_293 rfl (lv_at hl 9 rfl) ?_
          refine lv_iload_n hx hb dX0_trio_294 rfl (lv_at hl 10 rfl) ?_
          refine w_calll (ci := 0) (q0 := 6) (As := [.int p2, .int p3]) (rest := [.long (v124 * r288), .long (((v165 * (r248 - r254)) * r262) + ((v136 * r271) * r278)), .ref (g.2.2.1 99)]) 2 (wXL g) C h (k_X0_ending l g σ67 p2 p3 (by first | with_reducible assumption | assumption | omega) (by first | with_reducible assumption | assumption | omega) (by first | with_reducible assumption | assumption | omega)) (lw_V q1182 q1184 qs49 q144 q1185) rfl rfl rfl rfl (by decide +kernel) ⟨Nat.le_of_ble_eq_true rfl, Nat.le_of_ble_eq_true rfl⟩ rfl hl.1 rfl (Nat.le_of_ble_eq_true rfl) ⟨Nat.le_of_ble_eq_true rfl, Nat.le_of_ble_eq_true rfl⟩ dX0_trio_295 (fun r295 σ295 H locs eσ295 er295 hE295 h => ?_)
          rw [eσ295] at h
          clear hE295
          clear eσ295
          refine lv_lmul hx hb dX0_trio_298 ?_
          refine w_calli (ci := 0) (q0 := 6) (As := [.long (((v165 * (r248 - r254)) * r262) + ((v136 * r271) * r278)), .long ((v124 * r288) * r295)]) (rest := []) 2 (wXL g) C h (k_X0_fraction l g σ67 (((v165 * (r248 - r254)) * r262) + ((v136 * r271) * r278)) ((v124 * r288) * r295) (by first | with_reducible assumption | assumption | omega) (by first | with_reducible assumption | assumption | omega) (l_pos_ne (lmul_rng (lmul_rng pW (by rw [er288]; exact pE12) (by decide)) (by rw [er295]; exact pE23) (by decide)))) (lw_V q1190 q1192 qs51 q144 q1193) rfl rfl rfl rfl (by decide +kernel) ⟨Nat.le_of_ble_eq_true rfl, Nat.le_of_ble_eq_true rfl⟩ rfl hl.1 rfl (Nat.le_of_ble_eq_true rfl) ⟨Nat.le_of_ble_eq_true rfl, Nat.le_of_ble_eq_true rfl⟩ dX0_trio_299 (fun r299 σ299 H locs eσ299 er299 hE299 h => ?_)
          have hE299 : ((gi (ttb σ299) 1).toInt = (gi (ttb σ67) 1).toInt) ∧ ((gi (ttb σ299) 3).toInt = (gi (ttb σ67) 3).toInt) := hE299
          obtain ⟨hlpq_299, hldq_299⟩ := hE299
          have hNEW : (0 ≤ (gi (ttb σ299) 1).toInt ∧ (gi (ttb σ299) 1).toInt ≤ 6) ∧ (0 ≤ (gi (ttb σ299) 3).toInt ∧ (gi (ttb σ299) 3).toInt ≤ 16 ∧ (gi (ttb σ299) 3).toInt ≤ (g.1.2.1 50 : Int)) ∧ ((gi (ttb σ299) 1).toInt = (gi (ttb σ) 1).toInt) ∧ ((gi (ttb σ299) 3).toInt = (gi (ttb σ) 3).toInt) := ⟨(by first | with_reducible assumption | assumption | omega), (by first | with_reducible assumption | assumption | omega), (by first | with_reducible assumption | assumption | omega), (by first | with_reducible assumption | assumption | omega)⟩
          clear hlp hld hlpq hldq
          obtain ⟨hlp, hld, hlpq, hldq⟩ := hNEW
          refine lv_pop hx hb dX0_trio_302 rfl ?_
          refine lv_goto (tgt := 367) hx hb dX0_trio_303 (by decide) ?_
          refine lv_iconst (v := 1) hx hb dX0_trio_367 (by decide) ?_
          have he : f_X0_trio σ p1 p2 p3 p4 = (σ299, (1 : Int32)) := (by have er5 := er5.symm; subst er5; have et0_67 := et0_67.symm; subst et0_67; have eσ67 := eσ67.symm; subst eσ67; have ev88 := ev88.symm; subst ev88; have ev99 := ev99.symm; subst ev99; have ev110 := ev110.symm; subst ev110; have ev124 := ev124.symm; subst ev124; have ev136 := ev136.symm; subst ev136; have ev151 := ev151.symm; subst ev151; have ev165 := ev165.symm; subst ev165; have er248 := er248.symm; subst er248; have er254 := er254.symm; subst er254; have er262 := er262.symm; subst er262; have er271 := er271.symm; subst er271; have er278 := er278.symm; subst er278; have er288 := er288.symm; subst er288; have er295 := er295.symm; subst er295; have eσ299 := eσ299.symm; subst eσ299; have er299 := er299.symm; subst er299; (try unfold f_X0_trio); exact ((if_pos c74).trans ((if_neg c169).trans ((if_pos c239).trans rfl))))
          exact w_retz (wXL g) C h hr hlocks (congrArg Prod.fst he) (congrArg Prod.snd he) (Or.inr rfl) ⟨hlpq, hldq⟩ dX0_trio_368
      · have i169 := c_eq c169
        refine lv_aload_n hx hb dX0_trio_172 rfl (lv_at hl 7 rfl) ?_
        refine lv_lload hx hb dX0_trio_173 (lv_at hl 1 rfl) ?_
        refine lv_aload_n hx hb dX0_trio_175 rfl (lv_at hl 7 rfl) ?_
        refine lv_iload_n hx hb dX0_trio_176 rfl (lv_at hl 10 rfl) ?_
        refine lv_iload_n hx hb dX0_trio_177 rfl (lv_at hl 8 rfl) ?_
        refine w_calll (ci := 0) (q0 := 6) (As := [.int p3, .int p1]) (rest := [.long v151, .ref (g.2.2.1 99)]) 2 (wXL g) C h (k_X0_ending l g σ67 p3 p1 (by first | with_reducible assumption | assumption | omega) (by first | with_reducible assumption | assumption | omega) (by first | with_reducible assumption | assumption | omega)) (lw_V q1182 q1184 qs49 q144 q1185) rfl rfl rfl rfl (by decide +kernel) ⟨Nat.le_of_ble_eq_true rfl, Nat.le_of_ble_eq_true rfl⟩ rfl hl.1 rfl (Nat.le_of_ble_eq_true rfl) ⟨Nat.le_of_ble_eq_true rfl, Nat.le_of_ble_eq_true rfl⟩ dX0_trio_178 (fun r178 σ178 H locs eσ178 er178 hE178 h => ?_)
        rw [eσ178] at h
        clear hE178
        clear eσ178
        refine lv_aload_n hx hb dX0_trio_181 rfl (lv_at hl 7 rfl) ?_
        refine lv_iload_n hx hb dX0_trio_182 rfl (lv_at hl 10 rfl) ?_
        refine lv_iload_n hx hb dX0_trio_183 rfl (lv_at hl 8 rfl) ?_
        refine w_calll (ci := 0) (q0 := 6) (As := [.int p3, .int p1]) (rest := [.long r178, .long v151, .ref (g.2.2.1 99)]) 2 (wXL g) C h (k_X0_stays l g σ67 p3 p1 (by first | with_reducible assumption | assumption | omega) (by first | with_reducible assumption | assumption | omega) (by first | with_reducible assumption | assumption | omega)) (lw_V q1186 q1188 qs50 q144 q1189) rfl rfl rfl rfl (by decide +kernel) ⟨Nat.le_of_ble_eq_true rfl, Nat.le_of_ble_eq_true rfl⟩ rfl hl.1 rfl (Nat.le_of_ble_eq_true rfl) ⟨Nat.le_of_ble_eq_true rfl, Nat.le_of_ble_eq_true rfl⟩ dX0_trio_184 (fun r184 σ184 H locs eσ184 er184 hE184 h => ?_)
        rw [eσ184] at h
        clear hE184
        clear eσ184
        refine lv_lsub hx hb dX0_trio_187 ?_
        refine lv_lmul hx hb dX0_trio_188 ?_
        refine lv_aload_n hx hb dX0_trio_189 rfl (lv_at hl 7 rfl) ?_
        refine lv_iload_n hx hb dX0_trio_190 rfl (lv_at hl 8 rfl) ?_
        refine lv_iload_n hx hb dX0_trio_191 rfl (lv_at hl 9 rfl) ?_
        refine w_calll (ci := 0) (q0 := 6) (As := [.int p1, .int p2]) (rest := [.long (v151 * (r178 - r184)), .ref (g.2.2.1 99)]) 2 (wXL g) C h (k_X0_ending l g σ67 p1 p2 (by first | with_reducible assumption | assumption | omega) (by first | with_reducible assumption | assumption | omega) (by first | with_reducible assumption | assumption | omega)) (lw_V q1182 q1184 qs49 q144 q1185) rfl rfl rfl rfl (by decide +kernel) ⟨Nat.le_of_ble_eq_true rfl, Nat.le_of_ble_eq_true rfl⟩ rfl hl.1 rfl (Nat.le_of_ble_eq_true rfl) ⟨Nat.le_of_ble_eq_true rfl, Nat.le_of_ble_eq_true rfl⟩ dX0_trio_192 (fun r192 σ192 H locs eσ192 er192 hE192 h => ?_)
        rw [eσ192] at h
        clear hE192
        clear eσ192
        refine lv_lmul hx hb dX0_trio_195 ?_
        refine lv_lload hx hb dX0_trio_196 (lv_at hl 0 rfl) ?_
        refine lv_aload_n hx hb dX0_trio_198 rfl (lv_at hl 7 rfl) ?_
        refine lv_iload_n hx hb dX0_trio_199 rfl (lv_at hl 8 rfl) ?_
        refine lv_iload_n hx hb dX0_trio_200 rfl (lv_at hl 9 rfl) ?_
        refine w_calll (ci := 0) (q0 := 6) (As := [.int p1, .int p2]) (rest := [.long v165, .long ((v151 * (r178 - r184)) * r192), .ref (g.2.2.1 99)]) 2 (wXL g) C h (k_X0_stays l g σ67 p1 p2 (by first | with_reducible assumption | assumption | omega) (by first | with_reducible assumption | assumption | omega) (by first | with_reducible assumption | assumption | omega)) (lw_V q1186 q1188 qs50 q144 q1189) rfl rfl rfl rfl (by decide +kernel) ⟨Nat.le_of_ble_eq_true rfl, Nat.le_of_ble_eq_true rfl⟩ rfl hl.1 rfl (Nat.le_of_ble_eq_true rfl) ⟨Nat.le_of_ble_eq_true rfl, Nat.le_of_ble_eq_true rfl⟩ dX0_trio_201 (fun r201 σ201 H locs eσ201 er201 hE201 h => ?_)
        rw [eσ201] at h
        clear hE201
        clear eσ201
        refine lv_lmul hx hb dX0_trio_204 ?_
        refine lv_aload_n hx hb dX0_trio_205 rfl (lv_at hl 7 rfl) ?_
        refine lv_iload_n hx hb dX0_trio_206 rfl (lv_at hl 10 rfl) ?_
        refine lv_iload_n hx hb dX0_trio_207 rfl (lv_at hl 8 rfl) ?_
        refine w_calll (ci := 0) (q0 := 6) (As := [.int p3, .int p1]) (rest := [.long (v165 * r201), .long ((v151 * (r178 - r184)) * r192), .ref (g.2.2.1 99)]) 2 (wXL g) C h (k_X0_ending l g σ67 p3 p1 (by first | with_reducible assumption | assumption | omega) (by first | with_reducible assumption | assumption | omega) (by first | with_reducible assumption | assumption | omega)) (lw_V q1182 q1184 qs49 q144 q1185) rfl rfl rfl rfl (by decide +kernel) ⟨Nat.le_of_ble_eq_true rfl, Nat.le_of_ble_eq_true rfl⟩ rfl hl.1 rfl (Nat.le_of_ble_eq_true rfl) ⟨Nat.le_of_ble_eq_true rfl, Nat.le_of_ble_eq_true rfl⟩ dX0_trio_208 (fun r208 σ208 H locs eσ208 er208 hE208 h => ?_)
        rw [eσ208] at h
        clear hE208
        clear eσ208
        refine lv_lmul hx hb dX0_trio_211 ?_
        refine lv_ladd hx hb dX0_trio_212 ?_
        refine lv_lload hx hb dX0_trio_213 (lv_at hl 3 rfl) ?_
        refine lv_aload_n hx hb dX0_trio_215 rfl (lv_at hl 7 rfl) ?_
        refine lv_iload_n hx hb dX0_trio_216 rfl (lv_at hl 10 rfl) ?_
        refine lv_iload_n hx hb dX0_trio_217 rfl (lv_at hl 8 rfl) ?_
        refine w_calll (ci := 0) (q0 := 6) (As := [.int p3, .int p1]) (rest := [.long v124, .long (((v151 * (r178 - r184)) * r192) + ((v165 * r201) * r208)), .ref (g.2.2.1 99)]) 2 (wXL g) C h (k_X0_ending l g σ67 p3 p1 (by first | with_reducible assumption | assumption | omega) (by first | with_reducible assumption | assumption | omega) (by first | with_reducible assumption | assumption | omega)) (lw_V q1182 q1184 qs49 q144 q1185) rfl rfl rfl rfl (by decide +kernel) ⟨Nat.le_of_ble_eq_true rfl, Nat.le_of_ble_eq_true rfl⟩ rfl hl.1 rfl (Nat.le_of_ble_eq_true rfl) ⟨Nat.le_of_ble_eq_true rfl, Nat.le_of_ble_eq_true rfl⟩ dX0_trio_218 (fun r218 σ218 H locs eσ218 er218 hE218 h => ?_)
        rw [eσ218] at h
        clear hE218
        clear eσ218
        refine lv_lmul hx hb dX0_trio_221 ?_
        refine lv_aload_n hx hb dX0_trio_222 rfl (lv_at hl 7 rfl) ?_
        refine lv_iload_n hx hb dX0_trio_223 rfl (lv_at hl 8 rfl) ?_
        refine lv_iload_n hx hb dX0_trio_224 rfl (lv_at hl 9 rfl) ?_
        refine w_calll (ci := 0) (q0 := 6) (As := [.int p1, .int p2]) (rest := [.long (v124 * r218), .long (((v151 * (r178 - r184)) * r192) + ((v165 * r201) * r208)), .ref (g.2.2.1 99)]) 2 (wXL g) C h (k_X0_ending l g σ67 p1 p2 (by first | with_reducible assumption | assumption | omega) (by first | with_reducible assumption | assumption | omega) (by first | with_reducible assumption | assumption | omega)) (lw_V q1182 q1184 qs49 q144 q1185) rfl rfl rfl rfl (by decide +kernel) ⟨Nat.le_of_ble_eq_true rfl, Nat.le_of_ble_eq_true rfl⟩ rfl hl.1 rfl (Nat.le_of_ble_eq_true rfl) ⟨Nat.le_of_ble_eq_true rfl, Nat.le_of_ble_eq_true rfl⟩ dX0_trio_225 (fun r225 σ225 H locs eσ225 er225 hE225 h => ?_)
        rw [eσ225] at h
        clear hE225
        clear eσ225
        refine lv_lmul hx hb dX0_trio_228 ?_
        refine w_calli (ci := 0) (q0 := 6) (As := [.long (((v151 * (r178 - r184)) * r192) + ((v165 * r201) * r208)), .long ((v124 * r218) * r225)]) (rest := []) 2 (wXL g) C h (k_X0_fraction l g σ67 (((v151 * (r178 - r184)) * r192) + ((v165 * r201) * r208)) ((v124 * r218) * r225) (by first | with_reducible assumption | assumption | omega) (by first | with_reducible assumption | assumption | omega) (l_pos_ne (lmul_rng (lmul_rng pW (by rw [er218]; exact pE31) (by decide)) (by rw [er225]; exact pE12) (by decide)))) (lw_V q1190 q1192 qs51 q144 q1193) rfl rfl rfl rfl (by decide +kernel) ⟨Nat.le_of_ble_eq_true rfl, Nat.le_of_ble_eq_true rfl⟩ rfl hl.1 rfl (Nat.le_of_ble_eq_true rfl) ⟨Nat.le_of_ble_eq_true rfl, Nat.le_of_ble_eq_true rfl⟩ dX0_trio_229 (fun r229 σ229 H locs eσ229 er229 hE229 h => ?_)
        have hE229 : ((gi (ttb σ229) 1).toInt = (gi (ttb σ67) 1).toInt) ∧ ((gi (ttb σ229) 3).toInt = (gi (ttb σ67) 3).toInt) := hE229
        obtain ⟨hlpq_229, hldq_229⟩ := hE229
        have hNEW : (0 ≤ (gi (ttb σ229) 1).toInt ∧ (gi (ttb σ229) 1).toInt ≤ 6) ∧ (0 ≤ (gi (ttb σ229) 3).toInt ∧ (gi (ttb σ229) 3).toInt ≤ 16 ∧ (gi (ttb σ229) 3).toInt ≤ (g.1.2.1 50 : Int)) ∧ ((gi (ttb σ229) 1).toInt = (gi (ttb σ) 1).toInt) ∧ ((gi (ttb σ229) 3).toInt = (gi (ttb σ) 3).toInt) := ⟨(by first | with_reducible assumption | assumption | omega), (by first | with_reducible assumption | assumption | omega), (by first | with_reducible assumption | assumption | omega), (by first | with_reducible assumption | assumption | omega)⟩
        clear hlp hld hlpq hldq
        obtain ⟨hlp, hld, hlpq, hldq⟩ := hNEW
        refine lv_pop hx hb dX0_trio_232 rfl ?_
        refine lv_goto (tgt := 367) hx hb dX0_trio_233 (by decide) ?_
        refine lv_iconst (v := 1) hx hb dX0_trio_367 (by decide) ?_
        have he : f_X0_trio σ p1 p2 p3 p4 = (σ229, (1 : Int32)) := (by have er5 := er5.symm; subst er5; have et0_67 := et0_67.symm; subst et0_67; have eσ67 := eσ67.symm; subst eσ67; have ev88 := ev88.symm; subst ev88; have ev99 := ev99.symm; subst ev99; have ev110 := ev110.symm; subst ev110; have ev124 := ev124.symm; subst ev124; have ev136 := ev136.symm; subst ev136; have ev151 := ev151.symm; subst ev151; have ev165 := ev165.symm; subst ev165; have er178 := er178.symm; subst er178; have er184 := er184.symm; subst er184; have er192 := er192.symm; subst er192; have er201 := er201.symm; subst er201; have er208 := er208.symm; subst er208; have er218 := er218.symm; subst er218; have er225 := er225.symm; subst er225; have eσ229 := eσ229.symm; subst eσ229; have er229 := er229.symm; subst er229; (try unfold f_X0_trio); exact ((if_pos c74).trans ((if_pos c169).trans rfl)))
        exact w_retz (wXL g) C h hr hlocks (congrArg Prod.fst he) (congrArg Prod.snd he) (Or.inr rfl) ⟨hlpq, hldq⟩ dX0_trio_368
    · have i74 := c_nle c74
      refine lv_iconst (v := 0) hx hb dX0_trio_77 (by decide) ?_
      have he : f_X0_trio σ p1 p2 p3 p4 = (σ67, (0 : Int32)) := (by have er5 := er5.symm; subst er5; have et0_67 := et0_67.symm; subst et0_67; have eσ67 := eσ67.symm; subst eσ67; (try unfold f_X0_trio); exact ((if_neg c74).trans rfl))
      exact w_retz (wXL g) C h hr hlocks (congrArg Prod.fst he) (congrArg Prod.snd he) (Or.inl rfl) ⟨hlpq, hldq⟩ dX0_trio_78
  refine lv_if_eq (tgt := 24) hx hb dX0_trio_8 (by decide) (fun c8 => ?_) (fun c8 => ?_)
  · have i8 := c_eq c8
    refine lv_iconst (v := 1) hx hb dX0_trio_24 (by decide) ?_
    refine lv_goto (tgt := 67) hx hb dX0_trio_25 (by decide) ?_
    exact j67 _ _ _ _ (by (try unfold f_X0_trio); exact ((if_pos c8).trans rfl)) (by first | exact Or.inl (by decide) | exact Or.inr ⟨okr5.1, okr5.2.1, okr5.2.2, fun q => lne c36 (er31.trans q), fun q => lne c47 (er42.trans q), fun q => lne c58 (er53.trans q)⟩) h hl
  · have i8 := c_ne c8
    have okr5 := lAreThree_ok hlp er5 c8
    refine lv_iload hx hb dX0_trio_11 (lv_at hl 4 rfl) ?_
    refine lv_i2l (v := p4.toInt64) hx hb dX0_trio_13 rfl ?_
    refine lv_lconst (v := 0) hx hb dX0_trio_14 (by decide) ?_
    refine lv_ldc2 hx hb hown (hts _ q1064) dX0_trio_15 ?_
    refine s_callz (As := [.long p4.toInt64, .long (0 : Int64), .long (2 : Int64)]) (rest := [.ref (g.2.2.1 99)]) 3 C.1 (k_X0_isIn l p4.toInt64 (0 : Int64) (2 : Int64)) (lw_S q994 q995 q144 q996) rfl rfl (by decide +kernel) ⟨Nat.le_of_ble_eq_true rfl, Nat.le_of_ble_eq_true rfl⟩ rfl hl.1 rfl (Nat.le_of_ble_eq_true rfl) ⟨Nat.le_of_ble_eq_true rfl, Nat.le_of_ble_eq_true rfl⟩ dX0_trio_18 h.2.2.1 (fun r18 H locs er18 br18 hz1 hk1 hS1 => ?_)
    have h := h.same hk1 hS1
    clear hz1 hk1 hS1
    refine lv_if_ne (tgt := 28) hx hb dX0_trio_21 (by decide) (fun c21 => ?_) (fun c21 => ?_)
    · have i21 := c_ne c21
      have okr18 := lIsIn_ok er18 c21
      refine lv_aload_n hx hb dX0_trio_28 rfl (lv_at hl 0 rfl) ?_
      refine lv_iload_n hx hb dX0_trio_29 rfl (lv_at hl 1 rfl) ?_
      refine lv_iload_n hx hb dX0_trio_30 rfl (lv_at hl 2 rfl) ?_
      refine w_calll (ci := 0) (q0 := 6) (As := [.int p1, .int p2]) (rest := [.ref (g.2.2.1 99)]) 2 (wXL g) C h (k_X0_ending l g σ p1 p2 (by first | with_reducible assumption | assumption | omega) (by first | with_reducible assumption | assumption | omega) (by first | with_reducible assumption | assumption | omega)) (lw_V q1182 q1184 qs49 q144 q1185) rfl rfl rfl rfl (by decide +kernel) ⟨Nat.le_of_ble_eq_true rfl, Nat.le_of_ble_eq_true rfl⟩ rfl hl.1 rfl (Nat.le_of_ble_eq_true rfl) ⟨Nat.le_of_ble_eq_true rfl, Nat.le_of_ble_eq_true rfl⟩ dX0_trio_31 (fun r31 σ31 H locs eσ31 er31 hE31 h => ?_)
      rw [eσ31] at h
      clear hE31
      clear eσ31
      refine lv_lconst (v := 0) hx hb dX0_trio_34 (by decide) ?_
      refine W.lcmp hx hb dX0_trio_35 ?_
      refine lv_if_eq (tgt := 61) hx hb dX0_trio_36 (by decide) (fun c36 => ?_) (fun c36 => ?_)
      · have i36 := c_eq c36
        refine lv_bipush (v := 6) hx hb dX0_trio_61 (by decide) ?_
        refine lv_goto (tgt := 67) hx hb dX0_trio_63 (by decide) ?_
        exact j67 _ _ _ _ (by have er18 := er18.symm; subst er18; have er31 := er31.symm; subst er31; (try unfold f_X0_trio); exact ((if_neg c8).trans ((if_neg c21).trans ((if_pos c36).trans rfl)))) (by first | exact Or.inl (by decide) | exact Or.inr ⟨okr5.1, okr5.2.1, okr5.2.2, fun q => lne c36 (er31.trans q), fun q => lne c47 (er42.trans q), fun q => lne c58 (er53.trans q)⟩) h hl
      · have i36 := c_ne c36
        refine lv_aload_n hx hb dX0_trio_39 rfl (lv_at hl 0 rfl) ?_
        refine lv_iload_n hx hb dX0_trio_40 rfl (lv_at hl 2 rfl) ?_
        refine lv_iload_n hx hb dX0_trio_41 rfl (lv_at hl 3 rfl) ?_
        refine w_calll (ci := 0) (q0 := 6) (As := [.int p2, .int p3]) (rest := [.ref (g.2.2.1 99)]) 2 (wXL g) C h (k_X0_ending l g σ p2 p3 (by first | with_reducible assumption | assumption | omega) (by first | with_reducible assumption | assumption | omega) (by first | with_reducible assumption | assumption | omega)) (lw_V q1182 q1184 qs49 q144 q1185) rfl rfl rfl rfl (by decide +kernel) ⟨Nat.le_of_ble_eq_true rfl, Nat.le_of_ble_eq_true rfl⟩ rfl hl.1 rfl (Nat.le_of_ble_eq_true rfl) ⟨Nat.le_of_ble_eq_true rfl, Nat.le_of_ble_eq_true rfl⟩ dX0_trio_42 (fun r42 σ42 H locs eσ42 er42 hE42 h => ?_)
        rw [eσ42] at h
        clear hE42
        clear eσ42
        refine lv_lconst (v := 0) hx hb dX0_trio_45 (by decide) ?_
        refine W.lcmp hx hb dX0_trio_46 ?_
        refine lv_if_eq (tgt := 61) hx hb dX0_trio_47 (by decide) (fun c47 => ?_) (fun c47 => ?_)
        · have i47 := c_eq c47
          refine lv_bipush (v := 6) hx hb dX0_trio_61 (by decide) ?_
          refine lv_goto (tgt := 67) hx hb dX0_trio_63 (by decide) ?_
          exact j67 _ _ _ _ (by have er18 := er18.symm; subst er18; have er31 := er31.symm; subst er31; have er42 := er42.symm; subst er42; (try unfold f_X0_trio); exact ((if_neg c8).trans ((if_neg c21).trans ((if_neg c36).trans ((if_pos c47).trans rfl))))) (by first | exact Or.inl (by decide) | exact Or.inr ⟨okr5.1, okr5.2.1, okr5.2.2, fun q => lne c36 (er31.trans q), fun q => lne c47 (er42.trans q), fun q => lne c58 (er53.trans q)⟩) h hl
        · have i47 := c_ne c47
          refine lv_aload_n hx hb dX0_trio_50 rfl (lv_at hl 0 rfl) ?_
          refine lv_iload_n hx hb dX0_trio_51 rfl (lv_at hl 3 rfl) ?_
          refine lv_iload_n hx hb dX0_trio_52 rfl (lv_at hl 1 rfl) ?_
          refine w_calll (ci := 0) (q0 := 6) (As := [.int p3, .int p1]) (rest := [.ref (g.2.2.1 99)]) 2 (wXL g) C h (k_X0_ending l g σ p3 p1 (by first | with_reducible assumption | assumption | omega) (by first | with_reducible assumption | assumption | omega) (by first | with_reducible assumption | assumption | omega)) (lw_V q1182 q1184 qs49 q144 q1185) rfl rfl rfl rfl (by decide +kernel) ⟨Nat.le_of_ble_eq_true rfl, Nat.le_of_ble_eq_true rfl⟩ rfl hl.1 rfl (Nat.le_of_ble_eq_true rfl) ⟨Nat.le_of_ble_eq_true rfl, Nat.le_of_ble_eq_true rfl⟩ dX0_trio_53 (fun r53 σ53 H locs eσ53 er53 hE53 h => ?_)
          rw [eσ53] at h
          clear hE53
          clear eσ53
          refine lv_lconst (v := 0) hx hb dX0_trio_56 (by decide) ?_
          refine W.lcmp hx hb dX0_trio_57 ?_
          refine lv_if_ne (tgt := 66) hx hb dX0_trio_58 (by decide) (fun c58 => ?_) (fun c58 => ?_)
          · have i58 := c_ne c58
            refine lv_iconst (v := 0) hx hb dX0_trio_66 (by decide) ?_
            exact j67 _ _ _ _ (by have er18 := er18.symm; subst er18; have er31 := er31.symm; subst er31; have er42 := er42.symm; subst er42; have er53 := er53.symm; subst er53; (try unfold f_X0_trio); exact ((if_neg c8).trans ((if_neg c21).trans ((if_neg c36).trans ((if_neg c47).trans ((if_neg c58).trans rfl)))))) (by first | exact Or.inl (by decide) | exact Or.inr ⟨okr5.1, okr5.2.1, okr5.2.2, fun q => lne c36 (er31.trans q), fun q => lne c47 (er42.trans q), fun q => lne c58 (er53.trans q)⟩) h hl
          · have i58 := c_eq c58
            refine lv_bipush (v := 6) hx hb dX0_trio_61 (by decide) ?_
            refine lv_goto (tgt := 67) hx hb dX0_trio_63 (by decide) ?_
            exact j67 _ _ _ _ (by have er18 := er18.symm; subst er18; have er31 := er31.symm; subst er31; have er42 := er42.symm; subst er42; have er53 := er53.symm; subst er53; (try unfold f_X0_trio); exact ((if_neg c8).trans ((if_neg c21).trans ((if_neg c36).trans ((if_neg c47).trans ((if_pos c58).trans rfl)))))) (by first | exact Or.inl (by decide) | exact Or.inr ⟨okr5.1, okr5.2.1, okr5.2.2, fun q => lne c36 (er31.trans q), fun q => lne c47 (er42.trans q), fun q => lne c58 (er53.trans q)⟩) h hl
    · have i21 := c_eq c21
      refine lv_iconst (v := 1) hx hb dX0_trio_24 (by decide) ?_
      refine lv_goto (tgt := 67) hx hb dX0_trio_25 (by decide) ?_
      exact j67 _ _ _ _ (by have er18 := er18.symm; subst er18; (try unfold f_X0_trio); exact ((if_neg c8).trans ((if_pos c21).trans rfl))) (by first | exact Or.inl (by decide) | exact Or.inr ⟨okr5.1, okr5.2.1, okr5.2.2, fun q => lne c36 (er31.trans q), fun q => lne c47 (er42.trans q), fun q => lne c58 (er53.trans q)⟩) h hl
