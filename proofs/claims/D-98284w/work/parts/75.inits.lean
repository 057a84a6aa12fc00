/-! constructors, by contract; printed by gen/mkraw.py -/
set_option maxRecDepth 100000
set_option maxHeartbeats 4000000 in
set_option maxRecDepth 100000 in
theorem k_X1_init (l : Launch) (D : va_G) (c : Nat → ClassId) (k : Nat) (a : Nat) : Met l yX1_init (ws_ yX1_init cX1_init 1 none) ({ frames := 1, cells := 0, slots := 0, locals := 12 } : Room) (yPc D (tyG c) NW2 k ([]) [.ref a]) (va_Qv (fun (u : Unit) => True) (yB D (tyG c) NW2 (va_A ([]) k) (fun u => [])) (va_A ([]) k)) 0 0 (va_A ([]) k) := by
  refine met_Y RX1 (by decide) rfl (Nat.le_of_ble_eq_true rfl) ?_
  intro p e s m args below meth co C hr hlocks hname hP hD hk ls hl
  have hx := C.1.1
  have hb := C.1.2.1
  have hml := C.1.2.2.1
  have hown := C.1.2.2.2.1
  have hts := C.1.2.2.2.2
  have hK := C.2.1
  have hN : NW s := C.2.2.1
  have hA : ∀ q, s.heap.size ≤ q → (va_A ([]) k) q := fun q hq => Or.inr (Nat.le_trans hk hq)
  obtain ⟨H, hH⟩ : ∃ H : Heap, H = s.heap := ⟨_, rfl⟩
  have hS : va_S (va_A ([]) k) s.heap H [] := by rw [hH]; exact va_S.rf
  rw [← hH] at hP ⊢
  have hl : lv_has ls 1 [(0, .ref a)] := hl
  refine lv_aload_n hx hb dX1_init_0 rfl (lv_at hl 0 rfl) ?_
  refine y_obj (rest := []) C q187 q179 q180 hl.1 dX1_init_1 ⟨Nat.le_of_ble_eq_true rfl, Nat.le_of_ble_eq_true rfl⟩ ?_
  exact y_retv (() : Unit) (wXN _) C hP hD hS hr hlocks trivial dX1_init_4
set_option maxHeartbeats 4000000 in
set_option maxRecDepth 100000 in
theorem k_X9_init (l : Launch) (D : va_G) (c : Nat → ClassId) (k : Nat) (a : Nat) : Met l yX9_init (ws_ yX9_init cX9_init 1 none) ({ frames := 1, cells := 0, slots := 0, locals := 12 } : Room) (yPc D (tyG c) NW2 k ([]) [.ref a]) (va_Qv (fun (u : Unit) => True) (yB D (tyG c) NW2 (va_A ([]) k) (fun u => [])) (va_A ([]) k)) 0 0 (va_A ([]) k) := by
  refine met_Y RX9 (by decide) rfl (Nat.le_of_ble_eq_true rfl) ?_
  intro p e s m args below meth co C hr hlocks hname hP hD hk ls hl
  have hx := C.1.1
  have hb := C.1.2.1
  have hml := C.1.2.2.1
  have hown := C.1.2.2.2.1
  have hts := C.1.2.2.2.2
  have hK := C.2.1
  have hN : NW s := C.2.2.1
  have hA : ∀ q, s.heap.size ≤ q → (va_A ([]) k) q := fun q hq => Or.inr (Nat.le_trans hk hq)
  obtain ⟨H, hH⟩ : ∃ H : Heap, H = s.heap := ⟨_, rfl⟩
  have hS : va_S (va_A ([]) k) s.heap H [] := by rw [hH]; exact va_S.rf
  rw [← hH] at hP ⊢
  have hl : lv_has ls 1 [(0, .ref a)] := hl
  refine lv_aload_n hx hb dX9_init_0 rfl (lv_at hl 0 rfl) ?_
  refine y_obj (rest := []) C q892 q179 q180 hl.1 dX9_init_1 ⟨Nat.le_of_ble_eq_true rfl, Nat.le_of_ble_eq_true rfl⟩ ?_
  exact y_retv (() : Unit) (wXN _) C hP hD hS hr hlocks trivial dX9_init_4
set_option maxHeartbeats 4000000 in
set_option maxRecDepth 100000 in
theorem k_X14_init (l : Launch) (D : va_G) (c : Nat → ClassId) (k : Nat) (a b : Nat) (x : Int32) : Met l yX14_init (ws_ yX14_init cX14_init 3 none) ({ frames := 1, cells := 0, slots := 0, locals := 14 } : Room) (yPc D (tyG c) NW2 k ([(a, .inr (12, [.null, .int 0, .int 0, .int 0, .int 0, .int 0, .int 0, .int 0, .int 0]))]) [.ref a, .ref b, .int x]) (va_Qv (fun (u : Unit) => True) (yB D (tyG c) NW2 (va_A ([(a, .inr (12, [.null, .int 0, .int 0, .int 0, .int 0, .int 0, .int 0, .int 0, .int 0]))]) k) (fun u => [(a, .inr (12, [.ref b, .int x, .int 0, .int 0, .int 0, .int 0, .int 0, .int 0, .int 0]))])) (va_A ([(a, .inr (12, [.null, .int 0, .int 0, .int 0, .int 0, .int 0, .int 0, .int 0, .int 0]))]) k)) 0 0 (va_A ([(a, .inr (12, [.null, .int 0, .int 0, .int 0, .int 0, .int 0, .int 0, .int 0, .int 0]))]) k) := by
  refine met_Y RX14 (by decide) rfl (Nat.le_of_ble_eq_true rfl) ?_
  intro p e s m args below meth co C hr hlocks hname hP hD hk ls hl
  have hx := C.1.1
  have hb := C.1.2.1
  have hml := C.1.2.2.1
  have hown := C.1.2.2.2.1
  have hts := C.1.2.2.2.2
  have hK := C.2.1
  have hN : NW s := C.2.2.1
  have hA : ∀ q, s.heap.size ≤ q → (va_A ([(a, .inr (12, [.null, .int 0, .int 0, .int 0, .int 0, .int 0, .int 0, .int 0, .int 0]))]) k) q := fun q hq => Or.inr (Nat.le_trans hk hq)
  obtain ⟨H, hH⟩ : ∃ H : Heap, H = s.heap := ⟨_, rfl⟩
  have hS : va_S (va_A ([(a, .inr (12, [.null, .int 0, .int 0, .int 0, .int 0, .int 0, .int 0, .int 0, .int 0]))]) k) s.heap H [] := by rw [hH]; exact va_S.rf
  rw [← hH] at hP ⊢
  have hl : lv_has ls 3 [(0, .ref a), (1, .ref b), (2, .int x)] := hl
  refine lv_aload_n hx hb dX14_init_0 rfl (lv_at hl 0 rfl) ?_
  refine y_obj (rest := []) C q1405 q179 q180 hl.1 dX14_init_1 ⟨Nat.le_of_ble_eq_true rfl, Nat.le_of_ble_eq_true rfl⟩ ?_
  refine lv_aload_n hx hb dX14_init_4 rfl (lv_at hl 0 rfl) ?_
  refine lv_aload_n hx hb dX14_init_5 rfl (lv_at hl 1 rfl) ?_
  refine va_putF (D := D) (cl := vwCl) (ci := 12) (v := .ref b) (ty := (.object "LetMe$Table")) (C := RX14) (T := TX14) (N := 9) hx hb hts in_X14 tyX14 tyX14_ok nmX14 hown hK hP hD hS 0 (fs := [.null, .int 0, .int 0, .int 0, .int 0, .int 0, .int 0, .int 0, .int 0]) rfl rfl 0 (by decide) (hts _ q1406) (fun _ h9 => h9) rfl hname rfl (by decide +kernel) rfl rfl (Nat.le_of_ble_eq_true rfl) dX14_init_6 (fun H locs hP hD hS => ?_)
  have hP : va_P D vwCl ([(a, .inr (12, [.ref b, .int 0, .int 0, .int 0, .int 0, .int 0, .int 0, .int 0, .int 0]))]) H := hP
  have hD : va_D (va_A ([(a, .inr (12, [.null, .int 0, .int 0, .int 0, .int 0, .int 0, .int 0, .int 0, .int 0]))]) k) ([(a, .inr (12, [.ref b, .int 0, .int 0, .int 0, .int 0, .int 0, .int 0, .int 0, .int 0]))]) := hD
  refine lv_aload_n hx hb dX14_init_9 rfl (lv_at hl 0 rfl) ?_
  refine lv_iload_n hx hb dX14_init_10 rfl (lv_at hl 2 rfl) ?_
  refine va_put (D := D) (cl := vwCl) (ci := 12) (v := .int x) (ty := .int) (C := RX14) (T := TX14) (N := 9) hx hb hts in_X14 tyX14 tyX14_ok nmX14 hown hK hP hD hS 0 (fs := [.ref b, .int 0, .int 0, .int 0, .int 0, .int 0, .int 0, .int 0, .int 0]) rfl rfl 1 (by decide) (hts _ q1409) (fun _ h9 => h9) rfl (by decide +kernel) rfl rfl (Nat.le_of_ble_eq_true rfl) dX14_init_11 (fun H locs hP hD hS => ?_)
  have hP : va_P D vwCl ([(a, .inr (12, [.ref b, .int x, .int 0, .int 0, .int 0, .int 0, .int 0, .int 0, .int 0]))]) H := hP
  have hD : va_D (va_A ([(a, .inr (12, [.null, .int 0, .int 0, .int 0, .int 0, .int 0, .int 0, .int 0, .int 0]))]) k) ([(a, .inr (12, [.ref b, .int x, .int 0, .int 0, .int 0, .int 0, .int 0, .int 0, .int 0]))]) := hD
  exact y_retv (() : Unit) (wXN _) C hP hD hS hr hlocks trivial dX14_init_14
set_option maxHeartbeats 4000000 in
set_option maxRecDepth 100000 in
theorem k_X8_init (l : Launch) (D : va_G) (c : Nat → ClassId) (k : Nat) (a : Nat) (x : Int64) : Met l yX8_init (ws_ yX8_init cX8_init 3 none) ({ frames := 1, cells := 0, slots := 0, locals := 14 } : Room) (yPc D (tyG c) NW2 k ([(a, .inr (8, [.long 0, .int 0, .int 0, .int 0, .int 0, .int 0, .int 0]))]) [.ref a, .long x]) (va_Qv (fun (u : Unit) => True) (yB D (tyG c) NW2 (va_A ([(a, .inr (8, [.long 0, .int 0, .int 0, .int 0, .int 0, .int 0, .int 0]))]) k) (fun u => [(a, .inr (8, [.long x, .int 0, .int 1, .int 0, .int 999, .int (-1), .int 0]))])) (va_A ([(a, .inr (8, [.long 0, .int 0, .int 0, .int 0, .int 0, .int 0, .int 0]))]) k)) 0 0 (va_A ([(a, .inr (8, [.long 0, .int 0, .int 0, .int 0, .int 0, .int 0, .int 0]))]) k) := by
  refine met_Y RX8 (by decide) rfl (Nat.le_of_ble_eq_true rfl) ?_
  intro p e s m args below meth co C hr hlocks hname hP hD hk ls hl
  have hx := C.1.1
  have hb := C.1.2.1
  have hml := C.1.2.2.1
  have hown := C.1.2.2.2.1
  have hts := C.1.2.2.2.2
  have hK := C.2.1
  have hN : NW s := C.2.2.1
  have hA : ∀ q, s.heap.size ≤ q → (va_A ([(a, .inr (8, [.long 0, .int 0, .int 0, .int 0, .int 0, .int 0, .int 0]))]) k) q := fun q hq => Or.inr (Nat.le_trans hk hq)
  obtain ⟨H, hH⟩ : ∃ H : Heap, H = s.heap := ⟨_, rfl⟩
  have hS : va_S (va_A ([(a, .inr (8, [.long 0, .int 0, .int 0, .int 0, .int 0, .int 0, .int 0]))]) k) s.heap H [] := by rw [hH]; exact va_S.rf
  rw [← hH] at hP ⊢
  have hl : lv_has ls 3 [(0, .ref a), (1, .long x)] := hl
  refine lv_aload_n hx hb dX8_init_0 rfl (lv_at hl 0 rfl) ?_
  refine y_obj (rest := []) C q763 q179 q180 hl.1 dX8_init_1 ⟨Nat.le_of_ble_eq_true rfl, Nat.le_of_ble_eq_true rfl⟩ ?_
  refine lv_aload_n hx hb dX8_init_4 rfl (lv_at hl 0 rfl) ?_
  refine lv_iconst (v := 1) hx hb dX8_init_5 (by decide) ?_
  refine va_put (D := D) (cl := vwCl) (ci := 8) (v := .int (1 : Int32)) (ty := .int) (C := RX8) (T := TX8) (N := 7) hx hb hts in_X8 tyX8 tyX8_ok nmX8 hown hK hP hD hS 0 (fs := [.long 0, .int 0, .int 0, .int 0, .int 0, .int 0, .int 0]) rfl rfl 2 (by decide) (hts _ q770) (fun _ h9 => h9) rfl (by decide +kernel) rfl rfl (Nat.le_of_ble_eq_true rfl) dX8_init_6 (fun H locs hP hD hS => ?_)
  have hP : va_P D vwCl ([(a, .inr (8, [.long 0, .int 0, .int (1 : Int32), .int 0, .int 0, .int 0, .int 0]))]) H := hP
  have hD : va_D (va_A ([(a, .inr (8, [.long 0, .int 0, .int 0, .int 0, .int 0, .int 0, .int 0]))]) k) ([(a, .inr (8, [.long 0, .int 0, .int (1 : Int32), .int 0, .int 0, .int 0, .int 0]))]) := hD
  refine lv_aload_n hx hb dX8_init_9 rfl (lv_at hl 0 rfl) ?_
  refine lv_sipush (v := 999) hx hb dX8_init_10 (by decide) ?_
  refine va_put (D := D) (cl := vwCl) (ci := 8) (v := .int (999 : Int32)) (ty := .int) (C := RX8) (T := TX8) (N := 7) hx hb hts in_X8 tyX8 tyX8_ok nmX8 hown hK hP hD hS 0 (fs := [.long 0, .int 0, .int (1 : Int32), .int 0, .int 0, .int 0, .int 0]) rfl rfl 4 (by decide) (hts _ q777) (fun _ h9 => h9) rfl (by decide +kernel) rfl rfl (Nat.le_of_ble_eq_true rfl) dX8_init_13 (fun H locs hP hD hS => ?_)
  have hP : va_P D vwCl ([(a, .inr (8, [.long 0, .int 0, .int (1 : Int32), .int 0, .int (999 : Int32), .int 0, .int 0]))]) H := hP
  have hD : va_D (va_A ([(a, .inr (8, [.long 0, .int 0, .int 0, .int 0, .int 0, .int 0, .int 0]))]) k) ([(a, .inr (8, [.long 0, .int 0, .int (1 : Int32), .int 0, .int (999 : Int32), .int 0, .int 0]))]) := hD
  refine lv_aload_n hx hb dX8_init_16 rfl (lv_at hl 0 rfl) ?_
  refine lv_iconst (v := -1) hx hb dX8_init_17 (by decide) ?_
  refine va_put (D := D) (cl := vwCl) (ci := 8) (v := .int (-1 : Int32)) (ty := .int) (C := RX8) (T := TX8) (N := 7) hx hb hts in_X8 tyX8 tyX8_ok nmX8 hown hK hP hD hS 0 (fs := [.long 0, .int 0, .int (1 : Int32), .int 0, .int (999 : Int32), .int 0, .int 0]) rfl rfl 5 (by decide) (hts _ q780) (fun _ h9 => h9) rfl (by decide +kernel) rfl rfl (Nat.le_of_ble_eq_true rfl) dX8_init_18 (fun H locs hP hD hS => ?_)
  have hP : va_P D vwCl ([(a, .inr (8, [.long 0, .int 0, .int (1 : Int32), .int 0, .int (999 : Int32), .int (-1 : Int32), .int 0]))]) H := hP
  have hD : va_D (va_A ([(a, .inr (8, [.long 0, .int 0, .int 0, .int 0, .int 0, .int 0, .int 0]))]) k) ([(a, .inr (8, [.long 0, .int 0, .int (1 : Int32), .int 0, .int (999 : Int32), .int (-1 : Int32), .int 0]))]) := hD
  refine lv_aload_n hx hb dX8_init_21 rfl (lv_at hl 0 rfl) ?_
  refine lv_lload_n hx hb dX8_init_22 rfl (lv_at hl 1 rfl) ?_
  refine va_putF (D := D) (cl := vwCl) (ci := 8) (v := .long x) (ty := .long) (C := RX8) (T := TX8) (N := 7) hx hb hts in_X8 tyX8 tyX8_ok nmX8 hown hK hP hD hS 0 (fs := [.long 0, .int 0, .int (1 : Int32), .int 0, .int (999 : Int32), .int (-1 : Int32), .int 0]) rfl rfl 0 (by decide) (hts _ q764) (fun _ h9 => h9) rfl hname rfl (by decide +kernel) rfl rfl (Nat.le_of_ble_eq_true rfl) dX8_init_23 (fun H locs hP hD hS => ?_)
  have hP : va_P D vwCl ([(a, .inr (8, [.long x, .int 0, .int (1 : Int32), .int 0, .int (999 : Int32), .int (-1 : Int32), .int 0]))]) H := hP
  have hD : va_D (va_A ([(a, .inr (8, [.long 0, .int 0, .int 0, .int 0, .int 0, .int 0, .int 0]))]) k) ([(a, .inr (8, [.long x, .int 0, .int (1 : Int32), .int 0, .int (999 : Int32), .int (-1 : Int32), .int 0]))]) := hD
  exact y_retv (() : Unit) (wXN _) C hP hD hS hr hlocks trivial dX8_init_26
set_option maxHeartbeats 4000000 in
set_option maxRecDepth 100000 in
theorem k_X10_initL (l : Launch) (D : va_G) (c : Nat → ClassId) (k : Nat) (a : Nat) : Met l yX10_init (ws_ yX10_init cX10_init 1 none) ({ frames := 3, cells := 1, slots := 4, locals := 60 } : Room) (yPc D (tyG c) NW2 k ([(a, .inr (9, [.null, .int 0, .int 0]))]) [.ref a]) (va_Qv (fun (u : Nat) => True) (yB D (tyG c) NW2 (va_A ([(a, .inr (9, [.null, .int 0, .int 0]))]) k) (fun u => [(a, .inr (9, [.ref u, .int 0, .int 0])), (u, .inl ((c 3), 4, .inr (.inr (.inr (.inr (fun _ => none))))))])) (va_A ([(a, .inr (9, [.null, .int 0, .int 0]))]) k)) 1 4 (va_A ([(a, .inr (9, [.null, .int 0, .int 0]))]) k) := by
  refine met_Y RX10 (by decide) rfl (Nat.le_of_ble_eq_true rfl) ?_
  intro p e s m args below meth co C hr hlocks hname hP hD hk ls hl
  have hx := C.1.1
  have hb := C.1.2.1
  have hml := C.1.2.2.1
  have hown := C.1.2.2.2.1
  have hts := C.1.2.2.2.2
  have hK := C.2.1
  have hN : NW s := C.2.2.1
  have hA : ∀ q, s.heap.size ≤ q → (va_A ([(a, .inr (9, [.null, .int 0, .int 0]))]) k) q := fun q hq => Or.inr (Nat.le_trans hk hq)
  obtain ⟨H, hH⟩ : ∃ H : Heap, H = s.heap := ⟨_, rfl⟩
  have hS : va_S (va_A ([(a, .inr (9, [.null, .int 0, .int 0]))]) k) s.heap H [] := by rw [hH]; exact va_S.rf
  rw [← hH] at hP ⊢
  have hl : lv_has ls 1 [(0, .ref a)] := hl
  refine lv_aload_n hx hb dX10_init_0 rfl (lv_at hl 0 rfl) ?_
  have hPM : ([(a, .inr (9, [.null, .int 0, .int 0]))] : va_W).Perm ([] ++ ([(a, .inr (9, [.null, .int 0, .int 0]))])) := va_perm (fun c w h1 h2 h3 => by simp only [h1, h2, h3] <;> omega)
  have hP : va_P D vwCl ([] ++ ([(a, .inr (9, [.null, .int 0, .int 0]))])) H := va_Pperm hPM hP
  have hD : va_D (va_A ([(a, .inr (9, [.null, .int 0, .int 0]))]) k) ([] ++ ([(a, .inr (9, [.null, .int 0, .int 0]))])) := va_Dperm hPM hD
  clear hPM
  refine y_callv (P := []) (Rw := [(a, .inr (9, [.null, .int 0, .int 0]))]) (va_runIN (As := []) (rest := []) C.1 (k_X9_init l D c H.size a) ⟨va_cnB 0 hts (lw_meth q891) rfl rfl rfl (nMw hN 5 rfl) (hts _ q165) (by decide +kernel) ⟨Nat.le_of_ble_eq_true rfl, Nat.le_of_ble_eq_true rfl⟩, rfl, hts _ q890⟩ (y_pre (wXN _) hK hP hD (fun U _ hW => NW2.warm hW C.2.2)) rfl rfl hl.1 rfl (lv_room (Nat.le_of_ble_eq_true rfl)) dX10_init_1 ⟨Nat.le_of_ble_eq_true rfl, Nat.le_of_ble_eq_true rfl⟩) hP hD hS (fun _ h => h) (va_freeF hD hS hA) (fun u H locs hp hP hD hS hz hD1 => ?_)
  have hP : va_P D vwCl ([(a, .inr (9, [.null, .int 0, .int 0]))]) H := hP
  have hD : va_D (va_A ([(a, .inr (9, [.null, .int 0, .int 0]))]) k) ([(a, .inr (9, [.null, .int 0, .int 0]))]) := hD
  refine lv_aload_n hx hb dX10_init_4 rfl (lv_at hl 0 rfl) ?_
  refine lv_iconst (v := 4) hx hb dX10_init_5 (by decide) ?_
  refine y_newq (C := "LetMe$Step") 3 C hP hD hS hA q893 (C.2.2.ao 3 rfl) rfl (N' := 4) (by decide) rfl (Nat.le_of_ble_eq_true rfl) (Nat.le_of_ble_eq_true rfl) (Nat.le_of_ble_eq_true rfl) dX10_init_6 (fun a6 H hP hD hS => ?_)
  have hP : va_P D vwCl ([(a6, .inl ((c 3), 4, .inr (.inr (.inr (.inr (fun _ => none)))))), (a, .inr (9, [.null, .int 0, .int 0]))]) H := hP
  have hD : va_D (va_A ([(a, .inr (9, [.null, .int 0, .int 0]))]) k) ([(a6, .inl ((c 3), 4, .inr (.inr (.inr (.inr (fun _ => none)))))), (a, .inr (9, [.null, .int 0, .int 0]))]) := hD
  refine va_put (D := D) (cl := vwCl) (ci := 9) (v := .ref a6) (ty := (.array (.object "LetMe$Step"))) (C := RX11) (T := TX11) (N := 3) hx hb hts in_X11 tyX11 tyX11_ok nmX11 hown hK hP hD hS 1 (fs := [.null, .int 0, .int 0]) rfl rfl 0 (by decide) (hts _ q896) (fun _ h9 => h9) rfl (by decide +kernel) rfl rfl (Nat.le_of_ble_eq_true rfl) dX10_init_9 (fun H locs hP hD hS => ?_)
  have hP : va_P D vwCl ([(a6, .inl ((c 3), 4, .inr (.inr (.inr (.inr (fun _ => none)))))), (a, .inr (9, [.ref a6, .int 0, .int 0]))]) H := hP
  have hD : va_D (va_A ([(a, .inr (9, [.null, .int 0, .int 0]))]) k) ([(a6, .inl ((c 3), 4, .inr (.inr (.inr (.inr (fun _ => none)))))), (a, .inr (9, [.ref a6, .int 0, .int 0]))]) := hD
  have hPM : ([(a6, .inl ((c 3), 4, .inr (.inr (.inr (.inr (fun _ => none)))))), (a, .inr (9, [.ref a6, .int 0, .int 0]))] : va_W).Perm ([(a, .inr (9, [.ref a6, .int 0, .int 0])), (a6, .inl ((c 3), 4, .inr (.inr (.inr (.inr (fun _ => none))))))] ++ []) := (show ∀ (x0 x1 : Nat × va_E) , ([x0, x1] : va_W).Perm ([x1, x0] ++ []) from fun x0 x1 => va_perm (fun c w h1 h2 h3 => by simp only [h1, h2, h3] <;> omega)) _ _
  have hP : va_P D vwCl ([(a, .inr (9, [.ref a6, .int 0, .int 0])), (a6, .inl ((c 3), 4, .inr (.inr (.inr (.inr (fun _ => none))))))] ++ ([])) H := va_Pperm hPM hP
  have hD : va_D (va_A ([(a, .inr (9, [.null, .int 0, .int 0]))]) k) ([(a, .inr (9, [.ref a6, .int 0, .int 0])), (a6, .inl ((c 3), 4, .inr (.inr (.inr (.inr (fun _ => none))))))] ++ ([])) := va_Dperm hPM hD
  clear hPM
  exact y_retv (a6 : Nat) (wXN _) C hP hD hS hr hlocks trivial dX10_init_12
set_option maxHeartbeats 4000000 in
set_option maxRecDepth 100000 in
theorem k_X10_initW (l : Launch) (D : va_G) (c : Nat → ClassId) (k : Nat) (a : Nat) : Met l yX10_init (ws_ yX10_init cX10_init 1 none) ({ frames := 3, cells := 1, slots := 4, locals := 60 } : Room) (yPc D (tyG c) NW2 k ([(a, .inr (10, [.null, .int 0, .int 0, .int 0, .int 0, .int 0, .int 0]))]) [.ref a]) (va_Qv (fun (u : Nat) => True) (yB D (tyG c) NW2 (va_A ([(a, .inr (10, [.null, .int 0, .int 0, .int 0, .int 0, .int 0, .int 0]))]) k) (fun u => [(a, .inr (10, [.ref u, .int 0, .int 0, .int 0, .int 0, .int 0, .int 0])), (u, .inl ((c 3), 4, .inr (.inr (.inr (.inr (fun _ => none))))))])) (va_A ([(a, .inr (10, [.null, .int 0, .int 0, .int 0, .int 0, .int 0, .int 0]))]) k)) 1 4 (va_A ([(a, .inr (10, [.null, .int 0, .int 0, .int 0, .int 0, .int 0, .int 0]))]) k) := by
  refine met_Y RX10 (by decide) rfl (Nat.le_of_ble_eq_true rfl) ?_
  intro p e s m args below meth co C hr hlocks hname hP hD hk ls hl
  have hx := C.1.1
  have hb := C.1.2.1
  have hml := C.1.2.2.1
  have hown := C.1.2.2.2.1
  have hts := C.1.2.2.2.2
  have hK := C.2.1
  have hN : NW s := C.2.2.1
  have hA : ∀ q, s.heap.size ≤ q → (va_A ([(a, .inr (10, [.null, .int 0, .int 0, .int 0, .int 0, .int 0, .int 0]))]) k) q := fun q hq => Or.inr (Nat.le_trans hk hq)
  obtain ⟨H, hH⟩ : ∃ H : Heap, H = s.heap := ⟨_, rfl⟩
  have hS : va_S (va_A ([(a, .inr (10, [.null, .int 0, .int 0, .int 0, .int 0, .int 0, .int 0]))]) k) s.heap H [] := by rw [hH]; exact va_S.rf
  rw [← hH] at hP ⊢
  have hl : lv_has ls 1 [(0, .ref a)] := hl
  refine lv_aload_n hx hb dX10_init_0 rfl (lv_at hl 0 rfl) ?_
  have hPM : ([(a, .inr (10, [.null, .int 0, .int 0, .int 0, .int 0, .int 0, .int 0]))] : va_W).Perm ([] ++ [(a, .inr (10, [.null, .int 0, .int 0, .int 0, .int 0, .int 0, .int 0]))]) := (show ∀ (x0 : Nat × va_E) , ([x0] : va_W).Perm ([] ++ [x0]) from fun x0 => va_perm (fun c w h1 h2 h3 => by simp only [h1, h2, h3] <;> omega)) _
  have hP : va_P D vwCl ([] ++ ([(a, .inr (10, [.null, .int 0, .int 0, .int 0, .int 0, .int 0, .int 0]))])) H := va_Pperm hPM hP
  have hD : va_D (va_A ([(a, .inr (10, [.null, .int 0, .int 0, .int 0, .int 0, .int 0, .int 0]))]) k) ([] ++ ([(a, .inr (10, [.null, .int 0, .int 0, .int 0, .int 0, .int 0, .int 0]))])) := va_Dperm hPM hD
  clear hPM
  refine y_callv (P := []) (Rw := [(a, .inr (10, [.null, .int 0, .int 0, .int 0, .int 0, .int 0, .int 0]))]) (va_runIN (As := []) (rest := []) C.1 (k_X9_init l D c H.size a) ⟨va_cnB 0 hts (lw_meth q891) rfl rfl rfl (nMw hN 5 rfl) (hts _ q165) (by decide +kernel) ⟨Nat.le_of_ble_eq_true rfl, Nat.le_of_ble_eq_true rfl⟩, rfl, hts _ q890⟩ (y_pre (wXN _) hK hP hD (fun U _ hW => NW2.warm hW C.2.2)) rfl rfl hl.1 rfl (lv_room (Nat.le_of_ble_eq_true rfl)) dX10_init_1 ⟨Nat.le_of_ble_eq_true rfl, Nat.le_of_ble_eq_true rfl⟩) hP hD hS (fun _ h => h) (va_freeF hD hS hA) (fun u H locs hp hP hD hS hz hD1 => ?_)
  have hP : va_P D vwCl ([(a, .inr (10, [.null, .int 0, .int 0, .int 0, .int 0, .int 0, .int 0]))]) H := hP
  have hD : va_D (va_A ([(a, .inr (10, [.null, .int 0, .int 0, .int 0, .int 0, .int 0, .int 0]))]) k) ([(a, .inr (10, [.null, .int 0, .int 0, .int 0, .int 0, .int 0, .int 0]))]) := hD
  refine lv_aload_n hx hb dX10_init_4 rfl (lv_at hl 0 rfl) ?_
  refine lv_iconst (v := 4) hx hb dX10_init_5 (by decide) ?_
  refine y_newq (C := "LetMe$Step") 3 C hP hD hS hA q893 (C.2.2.ao 3 rfl) rfl (N' := 4) (by decide) rfl (Nat.le_of_ble_eq_true rfl) (Nat.le_of_ble_eq_true rfl) (Nat.le_of_ble_eq_true rfl) dX10_init_6 (fun a6 H hP hD hS => ?_)
  have hP : va_P D vwCl ([(a6, .inl ((c 3), 4, .inr (.inr (.inr (.inr (fun _ => none)))))), (a, .inr (10, [.null, .int 0, .int 0, .int 0, .int 0, .int 0, .int 0]))]) H := hP
  have hD : va_D (va_A ([(a, .inr (10, [.null, .int 0, .int 0, .int 0, .int 0, .int 0, .int 0]))]) k) ([(a6, .inl ((c 3), 4, .inr (.inr (.inr (.inr (fun _ => none)))))), (a, .inr (10, [.null, .int 0, .int 0, .int 0, .int 0, .int 0, .int 0]))]) := hD
  refine va_put (D := D) (cl := vwCl) (ci := 10) (v := .ref a6) (ty := (.array (.object "LetMe$Step"))) (C := RX12) (T := TX12) (N := 7) hx hb hts in_X12 tyX12 tyX12_ok nmX12 hown hK hP hD hS 1 (fs := [.null, .int 0, .int 0, .int 0, .int 0, .int 0, .int 0]) rfl rfl 0 (by decide) (hts _ q896) (fun _ h9 => h9) rfl (by decide +kernel) rfl rfl (Nat.le_of_ble_eq_true rfl) dX10_init_9 (fun H locs hP hD hS => ?_)
  have hP : va_P D vwCl ([(a6, .inl ((c 3), 4, .inr (.inr (.inr (.inr (fun _ => none)))))), (a, .inr (10, [.ref a6, .int 0, .int 0, .int 0, .int 0, .int 0, .int 0]))]) H := hP
  have hD : va_D (va_A ([(a, .inr (10, [.null, .int 0, .int 0, .int 0, .int 0, .int 0, .int 0]))]) k) ([(a6, .inl ((c 3), 4, .inr (.inr (.inr (.inr (fun _ => none)))))), (a, .inr (10, [.ref a6, .int 0, .int 0, .int 0, .int 0, .int 0, .int 0]))]) := hD
  have hPM : ([(a6, .inl ((c 3), 4, .inr (.inr (.inr (.inr (fun _ => none)))))), (a, .inr (10, [.ref a6, .int 0, .int 0, .int 0, .int 0, .int 0, .int 0]))] : va_W).Perm ([(a, .inr (10, [.ref a6, .int 0, .int 0, .int 0, .int 0, .int 0, .int 0])), (a6, .inl ((c 3), 4, .inr (.inr (.inr (.inr (fun _ => none))))))] ++ []) := (show ∀ (x0 x1 : Nat × va_E) , ([x0, x1] : va_W).Perm ([x1, x0] ++ []) from fun x0 x1 => va_perm (fun c w h1 h2 h3 => by simp only [h1, h2, h3] <;> omega)) _ _
  have hP : va_P D vwCl ([(a, .inr (10, [.ref a6, .int 0, .int 0, .int 0, .int 0, .int 0, .int 0])), (a6, .inl ((c 3), 4, .inr (.inr (.inr (.inr (fun _ => none))))))] ++ ([])) H := va_Pperm hPM hP
  have hD : va_D (va_A ([(a, .inr (10, [.null, .int 0, .int 0, .int 0, .int 0, .int 0, .int 0]))]) k) ([(a, .inr (10, [.ref a6, .int 0, .int 0, .int 0, .int 0, .int 0, .int 0])), (a6, .inl ((c 3), 4, .inr (.inr (.inr (.inr (fun _ => none))))))] ++ ([])) := va_Dperm hPM hD
  clear hPM
  exact y_retv (a6 : Nat) (wXN _) C hP hD hS hr hlocks trivial dX10_init_12
set_option maxHeartbeats 4000000 in
set_option maxRecDepth 100000 in
theorem k_X11_init (l : Launch) (D : va_G) (c : Nat → ClassId) (k : Nat) (a : Nat) (x : Int32) : Met l yX11_init (ws_ yX11_init cX11_init 2 none) ({ frames := 5, cells := 1, slots := 4, locals := 110 } : Room) (yPc D (tyG c) NW2 k ([(a, .inr (9, [.null, .int 0, .int 0]))]) [.ref a, .int x]) (va_Qv (fun (u : Nat) => True) (yB D (tyG c) NW2 (va_A ([(a, .inr (9, [.null, .int 0, .int 0]))]) k) (fun u => [(a, .inr (9, [.ref u, .int 0, .int x])), (u, .inl ((c 3), 4, .inr (.inr (.inr (.inr (fun _ => none))))))])) (va_A ([(a, .inr (9, [.null, .int 0, .int 0]))]) k)) 1 4 (va_A ([(a, .inr (9, [.null, .int 0, .int 0]))]) k) := by
  refine met_Y RX11 (by decide) rfl (Nat.le_of_ble_eq_true rfl) ?_
  intro p e s m args below meth co C hr hlocks hname hP hD hk ls hl
  have hx := C.1.1
  have hb := C.1.2.1
  have hml := C.1.2.2.1
  have hown := C.1.2.2.2.1
  have hts := C.1.2.2.2.2
  have hK := C.2.1
  have hN : NW s := C.2.2.1
  have hA : ∀ q, s.heap.size ≤ q → (va_A ([(a, .inr (9, [.null, .int 0, .int 0]))]) k) q := fun q hq => Or.inr (Nat.le_trans hk hq)
  obtain ⟨H, hH⟩ : ∃ H : Heap, H = s.heap := ⟨_, rfl⟩
  have hS : va_S (va_A ([(a, .inr (9, [.null, .int 0, .int 0]))]) k) s.heap H [] := by rw [hH]; exact va_S.rf
  rw [← hH] at hP ⊢
  have hl : lv_has ls 2 [(0, .ref a), (1, .int x)] := hl
  refine lv_aload_n hx hb dX11_init_0 rfl (lv_at hl 0 rfl) ?_
  have hPM : ([(a, .inr (9, [.null, .int 0, .int 0]))] : va_W).Perm ([(a, .inr (9, [.null, .int 0, .int 0]))] ++ ([])) := va_perm (fun c w h1 h2 h3 => by simp only [h1, h2, h3] <;> omega)
  have hP : va_P D vwCl ([(a, .inr (9, [.null, .int 0, .int 0]))] ++ ([])) H := va_Pperm hPM hP
  have hD : va_D (va_A ([(a, .inr (9, [.null, .int 0, .int 0]))]) k) ([(a, .inr (9, [.null, .int 0, .int 0]))] ++ ([])) := va_Dperm hPM hD
  clear hPM
  refine y_callv (P := [(a, .inr (9, [.null, .int 0, .int 0]))]) (Rw := []) (va_runIN (As := []) (rest := []) C.1 (k_X10_initL l D c H.size a) ⟨va_cnB 0 hts (lw_meth q888) rfl rfl rfl (nMw hN 4 rfl) (hts _ q166) (by decide +kernel) ⟨Nat.le_of_ble_eq_true rfl, Nat.le_of_ble_eq_true rfl⟩, rfl, hts _ q887⟩ (y_pre (wXN _) hK hP hD (fun U _ hW => NW2.warm hW C.2.2)) rfl rfl hl.1 rfl (lv_room (Nat.le_of_ble_eq_true rfl)) dX11_init_1 ⟨Nat.le_of_ble_eq_true rfl, Nat.le_of_ble_eq_true rfl⟩) hP hD hS (fun _ h => h) (va_freeF hD hS hA) (fun u H locs hp hP hD hS hz hD1 => ?_)
  have hP : va_P D vwCl ([(a, .inr (9, [.ref u, .int 0, .int 0])), (u, .inl ((c 3), 4, .inr (.inr (.inr (.inr (fun _ => none))))))]) H := hP
  have hD : va_D (va_A ([(a, .inr (9, [.null, .int 0, .int 0]))]) k) ([(a, .inr (9, [.ref u, .int 0, .int 0])), (u, .inl ((c 3), 4, .inr (.inr (.inr (.inr (fun _ => none))))))]) := hD
  refine lv_aload_n hx hb dX11_init_4 rfl (lv_at hl 0 rfl) ?_
  refine lv_iload_n hx hb dX11_init_5 rfl (lv_at hl 1 rfl) ?_
  refine va_putF (D := D) (cl := vwCl) (ci := 9) (v := .int x) (ty := .int) (C := RX11) (T := TX11) (N := 3) hx hb hts in_X11 tyX11 tyX11_ok nmX11 hown hK hP hD hS 0 (fs := [.ref u, .int 0, .int 0]) rfl rfl 2 (by decide) (hts _ q895) (fun _ h9 => h9) rfl hname rfl (by decide +kernel) rfl rfl (Nat.le_of_ble_eq_true rfl) dX11_init_6 (fun H locs hP hD hS => ?_)
  have hP : va_P D vwCl ([(a, .inr (9, [.ref u, .int 0, .int x])), (u, .inl ((c 3), 4, .inr (.inr (.inr (.inr (fun _ => none))))))]) H := hP
  have hD : va_D (va_A ([(a, .inr (9, [.null, .int 0, .int 0]))]) k) ([(a, .inr (9, [.ref u, .int 0, .int x])), (u, .inl ((c 3), 4, .inr (.inr (.inr (.inr (fun _ => none))))))]) := hD
  have hPM : ([(a, .inr (9, [.ref u, .int 0, .int x])), (u, .inl ((c 3), 4, .inr (.inr (.inr (.inr (fun _ => none))))))] : va_W).Perm ([(a, .inr (9, [.ref u, .int 0, .int x])), (u, .inl ((c 3), 4, .inr (.inr (.inr (.inr (fun _ => none))))))] ++ []) := (show ∀ (x0 x1 : Nat × va_E) , ([x0, x1] : va_W).Perm ([x0, x1] ++ []) from fun x0 x1 => va_perm (fun c w h1 h2 h3 => by simp only [h1, h2, h3] <;> omega)) _ _
  have hP : va_P D vwCl ([(a, .inr (9, [.ref u, .int 0, .int x])), (u, .inl ((c 3), 4, .inr (.inr (.inr (.inr (fun _ => none))))))] ++ ([])) H := va_Pperm hPM hP
  have hD : va_D (va_A ([(a, .inr (9, [.null, .int 0, .int 0]))]) k) ([(a, .inr (9, [.ref u, .int 0, .int x])), (u, .inl ((c 3), 4, .inr (.inr (.inr (.inr (fun _ => none))))))] ++ ([])) := va_Dperm hPM hD
  clear hPM
  exact y_retv (u : Nat) (wXN _) C hP hD hS hr hlocks trivial dX11_init_9
set_option maxHeartbeats 4000000 in
set_option maxRecDepth 100000 in
theorem k_X12_init (l : Launch) (D : va_G) (c : Nat → ClassId) (k : Nat) (a : Nat) (x0 x1 x2 x3 x4 : Int32) : Met l yX12_init (ws_ yX12_init cX12_init 6 none) ({ frames := 5, cells := 1, slots := 4, locals := 120 } : Room) (yPc D (tyG c) NW2 k ([(a, .inr (10, [.null, .int 0, .int 0, .int 0, .int 0, .int 0, .int 0]))]) [.ref a, .int x0, .int x1, .int x2, .int x3, .int x4]) (va_Qv (fun (u : Nat) => True) (yB D (tyG c) NW2 (va_A ([(a, .inr (10, [.null, .int 0, .int 0, .int 0, .int 0, .int 0, .int 0]))]) k) (fun u => [(a, .inr (10, [.ref u, .int 0, .int x0, .int x1, .int x2, .int x3, .int x4])), (u, .inl ((c 3), 4, .inr (.inr (.inr (.inr (fun _ => none))))))])) (va_A ([(a, .inr (10, [.null, .int 0, .int 0, .int 0, .int 0, .int 0, .int 0]))]) k)) 1 4 (va_A ([(a, .inr (10, [.null, .int 0, .int 0, .int 0, .int 0, .int 0, .int 0]))]) k) := by
  refine met_Y RX12 (by decide) rfl (Nat.le_of_ble_eq_true rfl) ?_
  intro p e s m args below meth co C hr hlocks hname hP hD hk ls hl
  have hx := C.1.1
  have hb := C.1.2.1
  have hml := C.1.2.2.1
  have hown := C.1.2.2.2.1
  have hts := C.1.2.2.2.2
  have hK := C.2.1
  have hN : NW s := C.2.2.1
  have hA : ∀ q, s.heap.size ≤ q → (va_A ([(a, .inr (10, [.null, .int 0, .int 0, .int 0, .int 0, .int 0, .int 0]))]) k) q := fun q hq => Or.inr (Nat.le_trans hk hq)
  obtain ⟨H, hH⟩ : ∃ H : Heap, H = s.heap := ⟨_, rfl⟩
  have hS : va_S (va_A ([(a, .inr (10, [.null, .int 0, .int 0, .int 0, .int 0, .int 0, .int 0]))]) k) s.heap H [] := by rw [hH]; exact va_S.rf
  rw [← hH] at hP ⊢
  have hl : lv_has ls 6 [(0, .ref a), (1, .int x0), (2, .int x1), (3, .int x2), (4, .int x3), (5, .int x4)] := hl
  refine lv_aload_n hx hb dX12_init_0 rfl (lv_at hl 0 rfl) ?_
  have hPM : ([(a, .inr (10, [.null, .int 0, .int 0, .int 0, .int 0, .int 0, .int 0]))] : va_W).Perm ([(a, .inr (10, [.null, .int 0, .int 0, .int 0, .int 0, .int 0, .int 0]))] ++ []) := (show ∀ (x0 : Nat × va_E) , ([x0] : va_W).Perm ([x0] ++ []) from fun x0 => va_perm (fun c w h1 h2 h3 => by simp only [h1, h2, h3] <;> omega)) _
  have hP : va_P D vwCl ([(a, .inr (10, [.null, .int 0, .int 0, .int 0, .int 0, .int 0, .int 0]))] ++ ([])) H := va_Pperm hPM hP
  have hD : va_D (va_A ([(a, .inr (10, [.null, .int 0, .int 0, .int 0, .int 0, .int 0, .int 0]))]) k) ([(a, .inr (10, [.null, .int 0, .int 0, .int 0, .int 0, .int 0, .int 0]))] ++ ([])) := va_Dperm hPM hD
  clear hPM
  refine y_callv (P := [(a, .inr (10, [.null, .int 0, .int 0, .int 0, .int 0, .int 0, .int 0]))]) (Rw := []) (va_runIN (As := []) (rest := []) C.1 (k_X10_initW l D c H.size a) ⟨va_cnB 0 hts (lw_meth q888) rfl rfl rfl (nMw hN 6 rfl) (hts _ q166) (by decide +kernel) ⟨Nat.le_of_ble_eq_true rfl, Nat.le_of_ble_eq_true rfl⟩, rfl, hts _ q887⟩ (y_pre (wXN _) hK hP hD (fun U _ hW => NW2.warm hW C.2.2)) rfl rfl hl.1 rfl (lv_room (Nat.le_of_ble_eq_true rfl)) dX12_init_1 ⟨Nat.le_of_ble_eq_true rfl, Nat.le_of_ble_eq_true rfl⟩) hP hD hS (fun _ h => h) (va_freeF hD hS hA) (fun u H locs hp hP hD hS hz hD1 => ?_)
  have hP : va_P D vwCl ([(a, .inr (10, [.ref u, .int 0, .int 0, .int 0, .int 0, .int 0, .int 0])), (u, .inl ((c 3), 4, .inr (.inr (.inr (.inr (fun _ => none))))))]) H := hP
  have hD : va_D (va_A ([(a, .inr (10, [.null, .int 0, .int 0, .int 0, .int 0, .int 0, .int 0]))]) k) ([(a, .inr (10, [.ref u, .int 0, .int 0, .int 0, .int 0, .int 0, .int 0])), (u, .inl ((c 3), 4, .inr (.inr (.inr (.inr (fun _ => none))))))]) := hD
  refine lv_aload_n hx hb dX12_init_4 rfl (lv_at hl 0 rfl) ?_
  refine lv_iload_n hx hb dX12_init_5 rfl (lv_at hl 1 rfl) ?_
  refine va_putF (D := D) (cl := vwCl) (ci := 10) (v := .int x0) (ty := .int) (C := RX12) (T := TX12) (N := 7) hx hb hts in_X12 tyX12 tyX12_ok nmX12 hown hK hP hD hS 0 (fs := [.ref u, .int 0, .int 0, .int 0, .int 0, .int 0, .int 0]) rfl rfl 2 (by decide) (hts _ q927) (fun _ h9 => h9) rfl hname rfl (by decide +kernel) rfl rfl (Nat.le_of_ble_eq_true rfl) dX12_init_6 (fun H locs hP hD hS => ?_)
  have hP : va_P D vwCl ([(a, .inr (10, [.ref u, .int 0, .int x0, .int 0, .int 0, .int 0, .int 0])), (u, .inl ((c 3), 4, .inr (.inr (.inr (.inr (fun _ => none))))))]) H := hP
  have hD : va_D (va_A ([(a, .inr (10, [.null, .int 0, .int 0, .int 0, .int 0, .int 0, .int 0]))]) k) ([(a, .inr (10, [.ref u, .int 0, .int x0, .int 0, .int 0, .int 0, .int 0])), (u, .inl ((c 3), 4, .inr (.inr (.inr (.inr (fun _ => none))))))]) := hD
  refine lv_aload_n hx hb dX12_init_9 rfl (lv_at hl 0 rfl) ?_
  refine lv_iload_n hx hb dX12_init_10 rfl (lv_at hl 2 rfl) ?_
  refine va_putF (D := D) (cl := vwCl) (ci := 10) (v := .int x1) (ty := .int) (C := RX12) (T := TX12) (N := 7) hx hb hts in_X12 tyX12 tyX12_ok nmX12 hown hK hP hD hS 0 (fs := [.ref u, .int 0, .int x0, .int 0, .int 0, .int 0, .int 0]) rfl rfl 3 (by decide) (hts _ q928) (fun _ h9 => h9) rfl hname rfl (by decide +kernel) rfl rfl (Nat.le_of_ble_eq_true rfl) dX12_init_11 (fun H locs hP hD hS => ?_)
  have hP : va_P D vwCl ([(a, .inr (10, [.ref u, .int 0, .int x0, .int x1, .int 0, .int 0, .int 0])), (u, .inl ((c 3), 4, .inr (.inr (.inr (.inr (fun _ => none))))))]) H := hP
  have hD : va_D (va_A ([(a, .inr (10, [.null, .int 0, .int 0, .int 0, .int 0, .int 0, .int 0]))]) k) ([(a, .inr (10, [.ref u, .int 0, .int x0, .int x1, .int 0, .int 0, .int 0])), (u, .inl ((c 3), 4, .inr (.inr (.inr (.inr (fun _ => none))))))]) := hD
  refine lv_aload_n hx hb dX12_init_14 rfl (lv_at hl 0 rfl) ?_
  refine lv_iload_n hx hb dX12_init_15 rfl (lv_at hl 3 rfl) ?_
  refine va_putF (D := D) (cl := vwCl) (ci := 10) (v := .int x2) (ty := .int) (C := RX12) (T := TX12) (N := 7) hx hb hts in_X12 tyX12 tyX12_ok nmX12 hown hK hP hD hS 0 (fs := [.ref u, .int 0, .int x0, .int x1, .int 0, .int 0, .int 0]) rfl rfl 4 (by decide) (hts _ q929) (fun _ h9 => h9) rfl hname rfl (by decide +kernel) rfl rfl (Nat.le_of_ble_eq_true rfl) dX12_init_16 (fun H locs hP hD hS => ?_)
  have hP : va_P D vwCl ([(a, .inr (10, [.ref u, .int 0, .int x0, .int x1, .int x2, .int 0, .int 0])), (u, .inl ((c 3), 4, .inr (.inr (.inr (.inr (fun _ => none))))))]) H := hP
  have hD : va_D (va_A ([(a, .inr (10, [.null, .int 0, .int 0, .int 0, .int 0, .int 0, .int 0]))]) k) ([(a, .inr (10, [.ref u, .int 0, .int x0, .int x1, .int x2, .int 0, .int 0])), (u, .inl ((c 3), 4, .inr (.inr (.inr (.inr (fun _ => none))))))]) := hD
  refine lv_aload_n hx hb dX12_init_19 rfl (lv_at hl 0 rfl) ?_
  refine lv_iload hx hb dX12_init_20 (lv_at hl 4 rfl) ?_
  refine va_putF (D := D) (cl := vwCl) (ci := 10) (v := .int x3) (ty := .int) (C := RX12) (T := TX12) (N := 7) hx hb hts in_X12 tyX12 tyX12_ok nmX12 hown hK hP hD hS 0 (fs := [.ref u, .int 0, .int x0, .int x1, .int x2, .int 0, .int 0]) rfl rfl 5 (by decide) (hts _ q930) (fun _ h9 => h9) rfl hname rfl (by decide +kernel) rfl rfl (Nat.le_of_ble_eq_true rfl) dX12_init_22 (fun H locs hP hD hS => ?_)
  have hP : va_P D vwCl ([(a, .inr (10, [.ref u, .int 0, .int x0, .int x1, .int x2, .int x3, .int 0])), (u, .inl ((c 3), 4, .inr (.inr (.inr (.inr (fun _ => none))))))]) H := hP
  have hD : va_D (va_A ([(a, .inr (10, [.null, .int 0, .int 0, .int 0, .int 0, .int 0, .int 0]))]) k) ([(a, .inr (10, [.ref u, .int 0, .int x0, .int x1, .int x2, .int x3, .int 0])), (u, .inl ((c 3), 4, .inr (.inr (.inr (.inr (fun _ => none))))))]) := hD
  refine lv_aload_n hx hb dX12_init_25 rfl (lv_at hl 0 rfl) ?_
  refine lv_iload hx hb dX12_init_26 (lv_at hl 5 rfl) ?_
  refine va_putF (D := D) (cl := vwCl) (ci := 10) (v := .int x4) (ty := .int) (C := RX12) (T := TX12) (N := 7) hx hb hts in_X12 tyX12 tyX12_ok nmX12 hown hK hP hD hS 0 (fs := [.ref u, .int 0, .int x0, .int x1, .int x2, .int x3, .int 0]) rfl rfl 6 (by decide) (hts _ q931) (fun _ h9 => h9) rfl hname rfl (by decide +kernel) rfl rfl (Nat.le_of_ble_eq_true rfl) dX12_init_28 (fun H locs hP hD hS => ?_)
  have hP : va_P D vwCl ([(a, .inr (10, [.ref u, .int 0, .int x0, .int x1, .int x2, .int x3, .int x4])), (u, .inl ((c 3), 4, .inr (.inr (.inr (.inr (fun _ => none))))))]) H := hP
  have hD : va_D (va_A ([(a, .inr (10, [.null, .int 0, .int 0, .int 0, .int 0, .int 0, .int 0]))]) k) ([(a, .inr (10, [.ref u, .int 0, .int x0, .int x1, .int x2, .int x3, .int x4])), (u, .inl ((c 3), 4, .inr (.inr (.inr (.inr (fun _ => none))))))]) := hD
  have hPM : ([(a, .inr (10, [.ref u, .int 0, .int x0, .int x1, .int x2, .int x3, .int x4])), (u, .inl ((c 3), 4, .inr (.inr (.inr (.inr (fun _ => none))))))] : va_W).Perm ([(a, .inr (10, [.ref u, .int 0, .int x0, .int x1, .int x2, .int x3, .int x4])), (u, .inl ((c 3), 4, .inr (.inr (.inr (.inr (fun _ => none))))))] ++ []) := (show ∀ (x0 x1 : Nat × va_E) , ([x0, x1] : va_W).Perm ([x0, x1] ++ []) from fun x0 x1 => va_perm (fun c w h1 h2 h3 => by simp only [h1, h2, h3] <;> omega)) _ _
  have hP : va_P D vwCl ([(a, .inr (10, [.ref u, .int 0, .int x0, .int x1, .int x2, .int x3, .int x4])), (u, .inl ((c 3), 4, .inr (.inr (.inr (.inr (fun _ => none))))))] ++ ([])) H := va_Pperm hPM hP
  have hD : va_D (va_A ([(a, .inr (10, [.null, .int 0, .int 0, .int 0, .int 0, .int 0, .int 0]))]) k) ([(a, .inr (10, [.ref u, .int 0, .int x0, .int x1, .int x2, .int x3, .int x4])), (u, .inl ((c 3), 4, .inr (.inr (.inr (.inr (fun _ => none))))))] ++ ([])) := va_Dperm hPM hD
  clear hPM
  exact y_retv (u : Nat) (wXN _) C hP hD hS hr hlocks trivial dX12_init_31
set_option maxHeartbeats 4000000 in
set_option maxRecDepth 100000 in
theorem k_X13_init (l : Launch) (D : va_G) (c : Nat → ClassId) (k : Nat) (a : Nat) (x0 x1 x2 x3 : Int32) : Met l yX13_init (ws_ yX13_init cX13_init 5 none) ({ frames := 3, cells := 0, slots := 0, locals := 60 } : Room) (yPc D (tyG c) NW2 k ([(a, .inr (11, [.int 0, .int 0, .int 0, .int 0]))]) [.ref a, .int x0, .int x1, .int x2, .int x3]) (va_Qv (fun (u : Unit) => True) (yB D (tyG c) NW2 (va_A ([(a, .inr (11, [.int 0, .int 0, .int 0, .int 0]))]) k) (fun u => [(a, .inr (11, [.int x0, .int x1, .int x2, .int x3]))])) (va_A ([(a, .inr (11, [.int 0, .int 0, .int 0, .int 0]))]) k)) 0 0 (va_A ([(a, .inr (11, [.int 0, .int 0, .int 0, .int 0]))]) k) := by
  refine met_Y RX13 (by decide) rfl (Nat.le_of_ble_eq_true rfl) ?_
  intro p e s m args below meth co C hr hlocks hname hP hD hk ls hl
  have hx := C.1.1
  have hb := C.1.2.1
  have hml := C.1.2.2.1
  have hown := C.1.2.2.2.1
  have hts := C.1.2.2.2.2
  have hK := C.2.1
  have hN : NW s := C.2.2.1
  have hA : ∀ q, s.heap.size ≤ q → (va_A ([(a, .inr (11, [.int 0, .int 0, .int 0, .int 0]))]) k) q := fun q hq => Or.inr (Nat.le_trans hk hq)
  obtain ⟨H, hH⟩ : ∃ H : Heap, H = s.heap := ⟨_, rfl⟩
  have hS : va_S (va_A ([(a, .inr (11, [.int 0, .int 0, .int 0, .int 0]))]) k) s.heap H [] := by rw [hH]; exact va_S.rf
  rw [← hH] at hP ⊢
  have hl : lv_has ls 5 [(0, .ref a), (1, .int x0), (2, .int x1), (3, .int x2), (4, .int x3)] := hl
  refine lv_aload_n hx hb dX13_init_0 rfl (lv_at hl 0 rfl) ?_
  have hPM : ([(a, .inr (11, [.int 0, .int 0, .int 0, .int 0]))] : va_W).Perm ([] ++ [(a, .inr (11, [.int 0, .int 0, .int 0, .int 0]))]) := (show ∀ (x0 : Nat × va_E) , ([x0] : va_W).Perm ([] ++ [x0]) from fun x0 => va_perm (fun c w h1 h2 h3 => by simp only [h1, h2, h3] <;> omega)) _
  have hP : va_P D vwCl ([] ++ ([(a, .inr (11, [.int 0, .int 0, .int 0, .int 0]))])) H := va_Pperm hPM hP
  have hD : va_D (va_A ([(a, .inr (11, [.int 0, .int 0, .int 0, .int 0]))]) k) ([] ++ ([(a, .inr (11, [.int 0, .int 0, .int 0, .int 0]))])) := va_Dperm hPM hD
  clear hPM
  refine y_callv (P := []) (Rw := [(a, .inr (11, [.int 0, .int 0, .int 0, .int 0]))]) (va_runIN (As := []) (rest := []) C.1 (k_X9_init l D c H.size a) ⟨va_cnB 0 hts (lw_meth q891) rfl rfl rfl (nMw hN 7 rfl) (hts _ q165) (by decide +kernel) ⟨Nat.le_of_ble_eq_true rfl, Nat.le_of_ble_eq_true rfl⟩, rfl, hts _ q890⟩ (y_pre (wXN _) hK hP hD (fun U _ hW => NW2.warm hW C.2.2)) rfl rfl hl.1 rfl (lv_room (Nat.le_of_ble_eq_true rfl)) dX13_init_1 ⟨Nat.le_of_ble_eq_true rfl, Nat.le_of_ble_eq_true rfl⟩) hP hD hS (fun _ h => h) (va_freeF hD hS hA) (fun u H locs hp hP hD hS hz hD1 => ?_)
  have hP : va_P D vwCl ([(a, .inr (11, [.int 0, .int 0, .int 0, .int 0]))]) H := hP
  have hD : va_D (va_A ([(a, .inr (11, [.int 0, .int 0, .int 0, .int 0]))]) k) ([(a, .inr (11, [.int 0, .int 0, .int 0, .int 0]))]) := hD
  refine lv_aload_n hx hb dX13_init_4 rfl (lv_at hl 0 rfl) ?_
  refine lv_iload_n hx hb dX13_init_5 rfl (lv_at hl 1 rfl) ?_
  refine va_putF (D := D) (cl := vwCl) (ci := 11) (v := .int x0) (ty := .int) (C := RX13) (T := TX13) (N := 4) hx hb hts in_X13 tyX13 tyX13_ok nmX13 hown hK hP hD hS 0 (fs := [.int 0, .int 0, .int 0, .int 0]) rfl rfl 0 (by decide) (hts _ q961) (fun _ h9 => h9) rfl hname rfl (by decide +kernel) rfl rfl (Nat.le_of_ble_eq_true rfl) dX13_init_6 (fun H locs hP hD hS => ?_)
  have hP : va_P D vwCl ([(a, .inr (11, [.int x0, .int 0, .int 0, .int 0]))]) H := hP
  have hD : va_D (va_A ([(a, .inr (11, [.int 0, .int 0, .int 0, .int 0]))]) k) ([(a, .inr (11, [.int x0, .int 0, .int 0, .int 0]))]) := hD
  refine lv_aload_n hx hb dX13_init_9 rfl (lv_at hl 0 rfl) ?_
  refine lv_iload_n hx hb dX13_init_10 rfl (lv_at hl 2 rfl) ?_
  refine va_putF (D := D) (cl := vwCl) (ci := 11) (v := .int x1) (ty := .int) (C := RX13) (T := TX13) (N := 4) hx hb hts in_X13 tyX13 tyX13_ok nmX13 hown hK hP hD hS 0 (fs := [.int x0, .int 0, .int 0, .int 0]) rfl rfl 1 (by decide) (hts _ q962) (fun _ h9 => h9) rfl hname rfl (by decide +kernel) rfl rfl (Nat.le_of_ble_eq_true rfl) dX13_init_11 (fun H locs hP hD hS => ?_)
  have hP : va_P D vwCl ([(a, .inr (11, [.int x0, .int x1, .int 0, .int 0]))]) H := hP
  have hD : va_D (va_A ([(a, .inr (11, [.int 0, .int 0, .int 0, .int 0]))]) k) ([(a, .inr (11, [.int x0, .int x1, .int 0, .int 0]))]) := hD
  refine lv_aload_n hx hb dX13_init_14 rfl (lv_at hl 0 rfl) ?_
  refine lv_iload_n hx hb dX13_init_15 rfl (lv_at hl 3 rfl) ?_
  refine va_putF (D := D) (cl := vwCl) (ci := 11) (v := .int x2) (ty := .int) (C := RX13) (T := TX13) (N := 4) hx hb hts in_X13 tyX13 tyX13_ok nmX13 hown hK hP hD hS 0 (fs := [.int x0, .int x1, .int 0, .int 0]) rfl rfl 2 (by decide) (hts _ q963) (fun _ h9 => h9) rfl hname rfl (by decide +kernel) rfl rfl (Nat.le_of_ble_eq_true rfl) dX13_init_16 (fun H locs hP hD hS => ?_)
  have hP : va_P D vwCl ([(a, .inr (11, [.int x0, .int x1, .int x2, .int 0]))]) H := hP
  have hD : va_D (va_A ([(a, .inr (11, [.int 0, .int 0, .int 0, .int 0]))]) k) ([(a, .inr (11, [.int x0, .int x1, .int x2, .int 0]))]) := hD
  refine lv_aload_n hx hb dX13_init_19 rfl (lv_at hl 0 rfl) ?_
  refine lv_iload hx hb dX13_init_20 (lv_at hl 4 rfl) ?_
  refine va_putF (D := D) (cl := vwCl) (ci := 11) (v := .int x3) (ty := .int) (C := RX13) (T := TX13) (N := 4) hx hb hts in_X13 tyX13 tyX13_ok nmX13 hown hK hP hD hS 0 (fs := [.int x0, .int x1, .int x2, .int 0]) rfl rfl 3 (by decide) (hts _ q964) (fun _ h9 => h9) rfl hname rfl (by decide +kernel) rfl rfl (Nat.le_of_ble_eq_true rfl) dX13_init_22 (fun H locs hP hD hS => ?_)
  have hP : va_P D vwCl ([(a, .inr (11, [.int x0, .int x1, .int x2, .int x3]))]) H := hP
  have hD : va_D (va_A ([(a, .inr (11, [.int 0, .int 0, .int 0, .int 0]))]) k) ([(a, .inr (11, [.int x0, .int x1, .int x2, .int x3]))]) := hD
  exact y_retv (() : Unit) (wXN _) C hP hD hS hr hlocks trivial dX13_init_25
/-- a new table: itself, its rows, the row of its people -/
def tbN (c : Nat → ClassId) (a : Nat) (u : Nat → Nat) : va_W := [(a, .inr (5, [.ref (u 0), .int 0, .int 0, .int 0, .int 0, .int 0, .int 0, .int 0, .int 0, .ref (u 9), .ref (u 10), .ref (u 11), .ref (u 12), .ref (u 13)])), ((u 9), .inl ((c 0), 4, .inl (fun _ => 0))), ((u 10), .inl ((c 0), 4, .inl (fun _ => 0))), ((u 11), .inl ((c 0), 6, .inl (fun _ => 0))), ((u 12), .inl ((c 0), 36, .inl (fun _ => 0))), ((u 13), .inl ((c 0), 6, .inl (fun _ => 0))), ((u 0), .inl ((c 1), 6, .inr (.inr (.inr (.inr (fun _ => none))))))]
set_option maxHeartbeats 4000000 in
set_option maxRecDepth 100000 in
theorem k_X5_init (l : Launch) (D : va_G) (c : Nat → ClassId) (k : Nat) (a : Nat) : Met l yX5_init (ws_ yX5_init cX5_init 1 none) ({ frames := 1, cells := 6, slots := 62, locals := 20 } : Room) (yPc D (tyG c) NW2 k ([(a, .inr (5, [.null, .int 0, .int 0, .int 0, .int 0, .int 0, .int 0, .int 0, .int 0, .null, .null, .null, .null, .null]))]) [.ref a]) (va_Qv (fun (u : Nat → Nat) => True) (yB D (tyG c) NW2 (va_A ([(a, .inr (5, [.null, .int 0, .int 0, .int 0, .int 0, .int 0, .int 0, .int 0, .int 0, .null, .null, .null, .null, .null]))]) k) (fun u => tbN c a u)) (va_A ([(a, .inr (5, [.null, .int 0, .int 0, .int 0, .int 0, .int 0, .int 0, .int 0, .int 0, .null, .null, .null, .null, .null]))]) k)) 6 62 (va_A ([(a, .inr (5, [.null, .int 0, .int 0, .int 0, .int 0, .int 0, .int 0, .int 0, .int 0, .null, .null, .null, .null, .null]))]) k) := by
  refine met_Y RX5 (by decide) rfl (Nat.le_of_ble_eq_true rfl) ?_
  intro p e s m args below meth co C hr hlocks hname hP hD hk ls hl
  have hx := C.1.1
  have hb := C.1.2.1
  have hml := C.1.2.2.1
  have hown := C.1.2.2.2.1
  have hts := C.1.2.2.2.2
  have hK := C.2.1
  have hN : NW s := C.2.2.1
  have hA : ∀ q, s.heap.size ≤ q → (va_A ([(a, .inr (5, [.null, .int 0, .int 0, .int 0, .int 0, .int 0, .int 0, .int 0, .int 0, .null, .null, .null, .null, .null]))]) k) q := fun q hq => Or.inr (Nat.le_trans hk hq)
  obtain ⟨H, hH⟩ : ∃ H : Heap, H = s.heap := ⟨_, rfl⟩
  have hS : va_S (va_A ([(a, .inr (5, [.null, .int 0, .int 0, .int 0, .int 0, .int 0, .int 0, .int 0, .int 0, .null, .null, .null, .null, .null]))]) k) s.heap H [] := by rw [hH]; exact va_S.rf
  rw [← hH] at hP ⊢
  have hl : lv_has ls 1 [(0, .ref a)] := hl
  refine lv_aload_n hx hb dX5_init_0 rfl (lv_at hl 0 rfl) ?_
  refine y_obj (rest := []) C q293 q179 q180 hl.1 dX5_init_1 ⟨Nat.le_of_ble_eq_true rfl, Nat.le_of_ble_eq_true rfl⟩ ?_
  refine lv_aload_n hx hb dX5_init_4 rfl (lv_at hl 0 rfl) ?_
  refine lv_bipush (v := 6) hx hb dX5_init_5 (by decide) ?_
  refine y_newq (C := "LetMe$Person") 1 C hP hD hS hA q294 (C.2.2.ao 1 rfl) rfl (N' := 6) (by decide) rfl (Nat.le_of_ble_eq_true rfl) (Nat.le_of_ble_eq_true rfl) (Nat.le_of_ble_eq_true rfl) dX5_init_7 (fun a7 H hP hD hS => ?_)
  have hP : va_P D vwCl ([(a7, .inl ((c 1), 6, .inr (.inr (.inr (.inr (fun _ => none)))))), (a, .inr (5, [.null, .int 0, .int 0, .int 0, .int 0, .int 0, .int 0, .int 0, .int 0, .null, .null, .null, .null, .null]))]) H := hP
  have hD : va_D (va_A ([(a, .inr (5, [.null, .int 0, .int 0, .int 0, .int 0, .int 0, .int 0, .int 0, .int 0, .null, .null, .null, .null, .null]))]) k) ([(a7, .inl ((c 1), 6, .inr (.inr (.inr (.inr (fun _ => none)))))), (a, .inr (5, [.null, .int 0, .int 0, .int 0, .int 0, .int 0, .int 0, .int 0, .int 0, .null, .null, .null, .null, .null]))]) := hD
  refine va_put (D := D) (cl := vwCl) (ci := 5) (v := .ref a7) (ty := (.array (.object "LetMe$Person"))) (C := RX5) (T := TX5) (N := 14) hx hb hts in_X5 tyX5 tyX5_ok nmX5 hown hK hP hD hS 1 (fs := [.null, .int 0, .int 0, .int 0, .int 0, .int 0, .int 0, .int 0, .int 0, .null, .null, .null, .null, .null]) rfl rfl 0 (by decide) (hts _ q296) (fun _ h9 => h9) rfl (by decide +kernel) rfl rfl (Nat.le_of_ble_eq_true rfl) dX5_init_10 (fun H locs hP hD hS => ?_)
  have hP : va_P D vwCl ([(a7, .inl ((c 1), 6, .inr (.inr (.inr (.inr (fun _ => none)))))), (a, .inr (5, [.ref a7, .int 0, .int 0, .int 0, .int 0, .int 0, .int 0, .int 0, .int 0, .null, .null, .null, .null, .null]))]) H := hP
  have hD : va_D (va_A ([(a, .inr (5, [.null, .int 0, .int 0, .int 0, .int 0, .int 0, .int 0, .int 0, .int 0, .null, .null, .null, .null, .null]))]) k) ([(a7, .inl ((c 1), 6, .inr (.inr (.inr (.inr (fun _ => none)))))), (a, .inr (5, [.ref a7, .int 0, .int 0, .int 0, .int 0, .int 0, .int 0, .int 0, .int 0, .null, .null, .null, .null, .null]))]) := hD
  refine lv_aload_n hx hb dX5_init_13 rfl (lv_at hl 0 rfl) ?_
  refine lv_iconst (v := 4) hx hb dX5_init_14 (by decide) ?_
  refine y_newa (atype := .int) (ty := .int) 0 C hP hD hS hA q364 rfl rfl (N' := 4) (a0 := (4, .inl (fun _ => 0))) (fun _ => rfl) (by decide) rfl (Nat.le_of_ble_eq_true rfl) (Nat.le_of_ble_eq_true rfl) (Nat.le_of_ble_eq_true rfl) dX5_init_15 (fun a15 H hP hD hS => ?_)
  have hP : va_P D vwCl ([(a15, .inl ((c 0), 4, .inl (fun _ => 0))), (a7, .inl ((c 1), 6, .inr (.inr (.inr (.inr (fun _ => none)))))), (a, .inr (5, [.ref a7, .int 0, .int 0, .int 0, .int 0, .int 0, .int 0, .int 0, .int 0, .null, .null, .null, .null, .null]))]) H := hP
  have hD : va_D (va_A ([(a, .inr (5, [.null, .int 0, .int 0, .int 0, .int 0, .int 0, .int 0, .int 0, .int 0, .null, .null, .null, .null, .null]))]) k) ([(a15, .inl ((c 0), 4, .inl (fun _ => 0))), (a7, .inl ((c 1), 6, .inr (.inr (.inr (.inr (fun _ => none)))))), (a, .inr (5, [.ref a7, .int 0, .int 0, .int 0, .int 0, .int 0, .int 0, .int 0, .int 0, .null, .null, .null, .null, .null]))]) := hD
  refine va_put (D := D) (cl := vwCl) (ci := 5) (v := .ref a15) (ty := (.array .int)) (C := RX5) (T := TX5) (N := 14) hx hb hts in_X5 tyX5 tyX5_ok nmX5 hown hK hP hD hS 2 (fs := [.ref a7, .int 0, .int 0, .int 0, .int 0, .int 0, .int 0, .int 0, .int 0, .null, .null, .null, .null, .null]) rfl rfl 9 (by decide) (hts _ q324) (fun _ h9 => h9) rfl (by decide +kernel) rfl rfl (Nat.le_of_ble_eq_true rfl) dX5_init_17 (fun H locs hP hD hS => ?_)
  have hP : va_P D vwCl ([(a15, .inl ((c 0), 4, .inl (fun _ => 0))), (a7, .inl ((c 1), 6, .inr (.inr (.inr (.inr (fun _ => none)))))), (a, .inr (5, [.ref a7, .int 0, .int 0, .int 0, .int 0, .int 0, .int 0, .int 0, .int 0, .ref a15, .null, .null, .null, .null]))]) H := hP
  have hD : va_D (va_A ([(a, .inr (5, [.null, .int 0, .int 0, .int 0, .int 0, .int 0, .int 0, .int 0, .int 0, .null, .null, .null, .null, .null]))]) k) ([(a15, .inl ((c 0), 4, .inl (fun _ => 0))), (a7, .inl ((c 1), 6, .inr (.inr (.inr (.inr (fun _ => none)))))), (a, .inr (5, [.ref a7, .int 0, .int 0, .int 0, .int 0, .int 0, .int 0, .int 0, .int 0, .ref a15, .null, .null, .null, .null]))]) := hD
  refine lv_aload_n hx hb dX5_init_20 rfl (lv_at hl 0 rfl) ?_
  refine lv_iconst (v := 4) hx hb dX5_init_21 (by decide) ?_
  refine y_newa (atype := .int) (ty := .int) 0 C hP hD hS hA q364 rfl rfl (N' := 4) (a0 := (4, .inl (fun _ => 0))) (fun _ => rfl) (by decide) rfl (Nat.le_of_ble_eq_true rfl) (Nat.le_of_ble_eq_true rfl) (Nat.le_of_ble_eq_true rfl) dX5_init_22 (fun a22 H hP hD hS => ?_)
  have hP : va_P D vwCl ([(a22, .inl ((c 0), 4, .inl (fun _ => 0))), (a15, .inl ((c 0), 4, .inl (fun _ => 0))), (a7, .inl ((c 1), 6, .inr (.inr (.inr (.inr (fun _ => none)))))), (a, .inr (5, [.ref a7, .int 0, .int 0, .int 0, .int 0, .int 0, .int 0, .int 0, .int 0, .ref a15, .null, .null, .null, .null]))]) H := hP
  have hD : va_D (va_A ([(a, .inr (5, [.null, .int 0, .int 0, .int 0, .int 0, .int 0, .int 0, .int 0, .int 0, .null, .null, .null, .null, .null]))]) k) ([(a22, .inl ((c 0), 4, .inl (fun _ => 0))), (a15, .inl ((c 0), 4, .inl (fun _ => 0))), (a7, .inl ((c 1), 6, .inr (.inr (.inr (.inr (fun _ => none)))))), (a, .inr (5, [.ref a7, .int 0, .int 0, .int 0, .int 0, .int 0, .int 0, .int 0, .int 0, .ref a15, .null, .null, .null, .null]))]) := hD
  refine va_put (D := D) (cl := vwCl) (ci := 5) (v := .ref a22) (ty := (.array .int)) (C := RX5) (T := TX5) (N := 14) hx hb hts in_X5 tyX5 tyX5_ok nmX5 hown hK hP hD hS 3 (fs := [.ref a7, .int 0, .int 0, .int 0, .int 0, .int 0, .int 0, .int 0, .int 0, .ref a15, .null, .null, .null, .null]) rfl rfl 10 (by decide) (hts _ q326) (fun _ h9 => h9) rfl (by decide +kernel) rfl rfl (Nat.le_of_ble_eq_true rfl) dX5_init_24 (fun H locs hP hD hS => ?_)
  have hP : va_P D vwCl ([(a22, .inl ((c 0), 4, .inl (fun _ => 0))), (a15, .inl ((c 0), 4, .inl (fun _ => 0))), (a7, .inl ((c 1), 6, .inr (.inr (.inr (.inr (fun _ => none)))))), (a, .inr (5, [.ref a7, .int 0, .int 0, .int 0, .int 0, .int 0, .int 0, .int 0, .int 0, .ref a15, .ref a22, .null, .null, .null]))]) H := hP
  have hD : va_D (va_A ([(a, .inr (5, [.null, .int 0, .int 0, .int 0, .int 0, .int 0, .int 0, .int 0, .int 0, .null, .null, .null, .null, .null]))]) k) ([(a22, .inl ((c 0), 4, .inl (fun _ => 0))), (a15, .inl ((c 0), 4, .inl (fun _ => 0))), (a7, .inl ((c 1), 6, .inr (.inr (.inr (.inr (fun _ => none)))))), (a, .inr (5, [.ref a7, .int 0, .int 0, .int 0, .int 0, .int 0, .int 0, .int 0, .int 0, .ref a15, .ref a22, .null, .null, .null]))]) := hD
  refine lv_aload_n hx hb dX5_init_27 rfl (lv_at hl 0 rfl) ?_
  refine lv_bipush (v := 6) hx hb dX5_init_28 (by decide) ?_
  refine y_newa (atype := .int) (ty := .int) 0 C hP hD hS hA q364 rfl rfl (N' := 6) (a0 := (6, .inl (fun _ => 0))) (fun _ => rfl) (by decide) rfl (Nat.le_of_ble_eq_true rfl) (Nat.le_of_ble_eq_true rfl) (Nat.le_of_ble_eq_true rfl) dX5_init_30 (fun a30 H hP hD hS => ?_)
  have hP : va_P D vwCl ([(a30, .inl ((c 0), 6, .inl (fun _ => 0))), (a22, .inl ((c 0), 4, .inl (fun _ => 0))), (a15, .inl ((c 0), 4, .inl (fun _ => 0))), (a7, .inl ((c 1), 6, .inr (.inr (.inr (.inr (fun _ => none)))))), (a, .inr (5, [.ref a7, .int 0, .int 0, .int 0, .int 0, .int 0, .int 0, .int 0, .int 0, .ref a15, .ref a22, .null, .null, .null]))]) H := hP
  have hD : va_D (va_A ([(a, .inr (5, [.null, .int 0, .int 0, .int 0, .int 0, .int 0, .int 0, .int 0, .int 0, .null, .null, .null, .null, .null]))]) k) ([(a30, .inl ((c 0), 6, .inl (fun _ => 0))), (a22, .inl ((c 0), 4, .inl (fun _ => 0))), (a15, .inl ((c 0), 4, .inl (fun _ => 0))), (a7, .inl ((c 1), 6, .inr (.inr (.inr (.inr (fun _ => none)))))), (a, .inr (5, [.ref a7, .int 0, .int 0, .int 0, .int 0, .int 0, .int 0, .int 0, .int 0, .ref a15, .ref a22, .null, .null, .null]))]) := hD
  refine va_putF (D := D) (cl := vwCl) (ci := 5) (v := .ref a30) (ty := (.array .int)) (C := RX5) (T := TX5) (N := 14) hx hb hts in_X5 tyX5 tyX5_ok nmX5 hown hK hP hD hS 4 (fs := [.ref a7, .int 0, .int 0, .int 0, .int 0, .int 0, .int 0, .int 0, .int 0, .ref a15, .ref a22, .null, .null, .null]) rfl rfl 11 (by decide) (hts _ q328) (fun _ h9 => h9) rfl hname rfl (by decide +kernel) rfl rfl (Nat.le_of_ble_eq_true rfl) dX5_init_32 (fun H locs hP hD hS => ?_)
  have hP : va_P D vwCl ([(a30, .inl ((c 0), 6, .inl (fun _ => 0))), (a22, .inl ((c 0), 4, .inl (fun _ => 0))), (a15, .inl ((c 0), 4, .inl (fun _ => 0))), (a7, .inl ((c 1), 6, .inr (.inr (.inr (.inr (fun _ => none)))))), (a, .inr (5, [.ref a7, .int 0, .int 0, .int 0, .int 0, .int 0, .int 0, .int 0, .int 0, .ref a15, .ref a22, .ref a30, .null, .null]))]) H := hP
  have hD : va_D (va_A ([(a, .inr (5, [.null, .int 0, .int 0, .int 0, .int 0, .int 0, .int 0, .int 0, .int 0, .null, .null, .null, .null, .null]))]) k) ([(a30, .inl ((c 0), 6, .inl (fun _ => 0))), (a22, .inl ((c 0), 4, .inl (fun _ => 0))), (a15, .inl ((c 0), 4, .inl (fun _ => 0))), (a7, .inl ((c 1), 6, .inr (.inr (.inr (.inr (fun _ => none)))))), (a, .inr (5, [.ref a7, .int 0, .int 0, .int 0, .int 0, .int 0, .int 0, .int 0, .int 0, .ref a15, .ref a22, .ref a30, .null, .null]))]) := hD
  refine lv_aload_n hx hb dX5_init_35 rfl (lv_at hl 0 rfl) ?_
  refine lv_bipush (v := 36) hx hb dX5_init_36 (by decide) ?_
  refine y_newa (atype := .int) (ty := .int) 0 C hP hD hS hA q364 rfl rfl (N' := 36) (a0 := (36, .inl (fun _ => 0))) (fun _ => rfl) (by decide) rfl (Nat.le_of_ble_eq_true rfl) (Nat.le_of_ble_eq_true rfl) (Nat.le_of_ble_eq_true rfl) dX5_init_38 (fun a38 H hP hD hS => ?_)
  have hP : va_P D vwCl ([(a38, .inl ((c 0), 36, .inl (fun _ => 0))), (a30, .inl ((c 0), 6, .inl (fun _ => 0))), (a22, .inl ((c 0), 4, .inl (fun _ => 0))), (a15, .inl ((c 0), 4, .inl (fun _ => 0))), (a7, .inl ((c 1), 6, .inr (.inr (.inr (.inr (fun _ => none)))))), (a, .inr (5, [.ref a7, .int 0, .int 0, .int 0, .int 0, .int 0, .int 0, .int 0, .int 0, .ref a15, .ref a22, .ref a30, .null, .null]))]) H := hP
  have hD : va_D (va_A ([(a, .inr (5, [.null, .int 0, .int 0, .int 0, .int 0, .int 0, .int 0, .int 0, .int 0, .null, .null, .null, .null, .null]))]) k) ([(a38, .inl ((c 0), 36, .inl (fun _ => 0))), (a30, .inl ((c 0), 6, .inl (fun _ => 0))), (a22, .inl ((c 0), 4, .inl (fun _ => 0))), (a15, .inl ((c 0), 4, .inl (fun _ => 0))), (a7, .inl ((c 1), 6, .inr (.inr (.inr (.inr (fun _ => none)))))), (a, .inr (5, [.ref a7, .int 0, .int 0, .int 0, .int 0, .int 0, .int 0, .int 0, .int 0, .ref a15, .ref a22, .ref a30, .null, .null]))]) := hD
  refine va_putF (D := D) (cl := vwCl) (ci := 5) (v := .ref a38) (ty := (.array .int)) (C := RX5) (T := TX5) (N := 14) hx hb hts in_X5 tyX5 tyX5_ok nmX5 hown hK hP hD hS 5 (fs := [.ref a7, .int 0, .int 0, .int 0, .int 0, .int 0, .int 0, .int 0, .int 0, .ref a15, .ref a22, .ref a30, .null, .null]) rfl rfl 12 (by decide) (hts _ q331) (fun _ h9 => h9) rfl hname rfl (by decide +kernel) rfl rfl (Nat.le_of_ble_eq_true rfl) dX5_init_40 (fun H locs hP hD hS => ?_)
  have hP : va_P D vwCl ([(a38, .inl ((c 0), 36, .inl (fun _ => 0))), (a30, .inl ((c 0), 6, .inl (fun _ => 0))), (a22, .inl ((c 0), 4, .inl (fun _ => 0))), (a15, .inl ((c 0), 4, .inl (fun _ => 0))), (a7, .inl ((c 1), 6, .inr (.inr (.inr (.inr (fun _ => none)))))), (a, .inr (5, [.ref a7, .int 0, .int 0, .int 0, .int 0, .int 0, .int 0, .int 0, .int 0, .ref a15, .ref a22, .ref a30, .ref a38, .null]))]) H := hP
  have hD : va_D (va_A ([(a, .inr (5, [.null, .int 0, .int 0, .int 0, .int 0, .int 0, .int 0, .int 0, .int 0, .null, .null, .null, .null, .null]))]) k) ([(a38, .inl ((c 0), 36, .inl (fun _ => 0))), (a30, .inl ((c 0), 6, .inl (fun _ => 0))), (a22, .inl ((c 0), 4, .inl (fun _ => 0))), (a15, .inl ((c 0), 4, .inl (fun _ => 0))), (a7, .inl ((c 1), 6, .inr (.inr (.inr (.inr (fun _ => none)))))), (a, .inr (5, [.ref a7, .int 0, .int 0, .int 0, .int 0, .int 0, .int 0, .int 0, .int 0, .ref a15, .ref a22, .ref a30, .ref a38, .null]))]) := hD
  refine lv_aload_n hx hb dX5_init_43 rfl (lv_at hl 0 rfl) ?_
  refine lv_bipush (v := 6) hx hb dX5_init_44 (by decide) ?_
  refine y_newa (atype := .int) (ty := .int) 0 C hP hD hS hA q364 rfl rfl (N' := 6) (a0 := (6, .inl (fun _ => 0))) (fun _ => rfl) (by decide) rfl (Nat.le_of_ble_eq_true rfl) (Nat.le_of_ble_eq_true rfl) (Nat.le_of_ble_eq_true rfl) dX5_init_46 (fun a46 H hP hD hS => ?_)
  have hP : va_P D vwCl ([(a46, .inl ((c 0), 6, .inl (fun _ => 0))), (a38, .inl ((c 0), 36, .inl (fun _ => 0))), (a30, .inl ((c 0), 6, .inl (fun _ => 0))), (a22, .inl ((c 0), 4, .inl (fun _ => 0))), (a15, .inl ((c 0), 4, .inl (fun _ => 0))), (a7, .inl ((c 1), 6, .inr (.inr (.inr (.inr (fun _ => none)))))), (a, .inr (5, [.ref a7, .int 0, .int 0, .int 0, .int 0, .int 0, .int 0, .int 0, .int 0, .ref a15, .ref a22, .ref a30, .ref a38, .null]))]) H := hP
  have hD : va_D (va_A ([(a, .inr (5, [.null, .int 0, .int 0, .int 0, .int 0, .int 0, .int 0, .int 0, .int 0, .null, .null, .null, .null, .null]))]) k) ([(a46, .inl ((c 0), 6, .inl (fun _ => 0))), (a38, .inl ((c 0), 36, .inl (fun _ => 0))), (a30, .inl ((c 0), 6, .inl (fun _ => 0))), (a22, .inl ((c 0), 4, .inl (fun _ => 0))), (a15, .inl ((c 0), 4, .inl (fun _ => 0))), (a7, .inl ((c 1), 6, .inr (.inr (.inr (.inr (fun _ => none)))))), (a, .inr (5, [.ref a7, .int 0, .int 0, .int 0, .int 0, .int 0, .int 0, .int 0, .int 0, .ref a15, .ref a22, .ref a30, .ref a38, .null]))]) := hD
  refine va_putF (D := D) (cl := vwCl) (ci := 5) (v := .ref a46) (ty := (.array .int)) (C := RX5) (T := TX5) (N := 14) hx hb hts in_X5 tyX5 tyX5_ok nmX5 hown hK hP hD hS 6 (fs := [.ref a7, .int 0, .int 0, .int 0, .int 0, .int 0, .int 0, .int 0, .int 0, .ref a15, .ref a22, .ref a30, .ref a38, .null]) rfl rfl 13 (by decide) (hts _ q333) (fun _ h9 => h9) rfl hname rfl (by decide +kernel) rfl rfl (Nat.le_of_ble_eq_true rfl) dX5_init_48 (fun H locs hP hD hS => ?_)
  have hP : va_P D vwCl ([(a46, .inl ((c 0), 6, .inl (fun _ => 0))), (a38, .inl ((c 0), 36, .inl (fun _ => 0))), (a30, .inl ((c 0), 6, .inl (fun _ => 0))), (a22, .inl ((c 0), 4, .inl (fun _ => 0))), (a15, .inl ((c 0), 4, .inl (fun _ => 0))), (a7, .inl ((c 1), 6, .inr (.inr (.inr (.inr (fun _ => none)))))), (a, .inr (5, [.ref a7, .int 0, .int 0, .int 0, .int 0, .int 0, .int 0, .int 0, .int 0, .ref a15, .ref a22, .ref a30, .ref a38, .ref a46]))]) H := hP
  have hD : va_D (va_A ([(a, .inr (5, [.null, .int 0, .int 0, .int 0, .int 0, .int 0, .int 0, .int 0, .int 0, .null, .null, .null, .null, .null]))]) k) ([(a46, .inl ((c 0), 6, .inl (fun _ => 0))), (a38, .inl ((c 0), 36, .inl (fun _ => 0))), (a30, .inl ((c 0), 6, .inl (fun _ => 0))), (a22, .inl ((c 0), 4, .inl (fun _ => 0))), (a15, .inl ((c 0), 4, .inl (fun _ => 0))), (a7, .inl ((c 1), 6, .inr (.inr (.inr (.inr (fun _ => none)))))), (a, .inr (5, [.ref a7, .int 0, .int 0, .int 0, .int 0, .int 0, .int 0, .int 0, .int 0, .ref a15, .ref a22, .ref a30, .ref a38, .ref a46]))]) := hD
  have hPM : ([(a46, .inl ((c 0), 6, .inl (fun _ => 0))), (a38, .inl ((c 0), 36, .inl (fun _ => 0))), (a30, .inl ((c 0), 6, .inl (fun _ => 0))), (a22, .inl ((c 0), 4, .inl (fun _ => 0))), (a15, .inl ((c 0), 4, .inl (fun _ => 0))), (a7, .inl ((c 1), 6, .inr (.inr (.inr (.inr (fun _ => none)))))), (a, .inr (5, [.ref a7, .int 0, .int 0, .int 0, .int 0, .int 0, .int 0, .int 0, .int 0, .ref a15, .ref a22, .ref a30, .ref a38, .ref a46]))] : va_W).Perm ([(a, .inr (5, [.ref a7, .int 0, .int 0, .int 0, .int 0, .int 0, .int 0, .int 0, .int 0, .ref a15, .ref a22, .ref a30, .ref a38, .ref a46])), (a15, .inl ((c 0), 4, .inl (fun _ => 0))), (a22, .inl ((c 0), 4, .inl (fun _ => 0))), (a30, .inl ((c 0), 6, .inl (fun _ => 0))), (a38, .inl ((c 0), 36, .inl (fun _ => 0))), (a46, .inl ((c 0), 6, .inl (fun _ => 0))), (a7, .inl ((c 1), 6, .inr (.inr (.inr (.inr (fun _ => none))))))] ++ []) := (show ∀ (x0 x1 x2 x3 x4 x5 x6 : Nat × va_E) , ([x0, x1, x2, x3, x4, x5, x6] : va_W).Perm ([x6, x4, x3, x2, x1, x0, x5] ++ []) from fun x0 x1 x2 x3 x4 x5 x6 => va_perm (fun c w h1 h2 h3 => by simp only [h1, h2, h3] <;> omega)) _ _ _ _ _ _ _
  have hP : va_P D vwCl ([(a, .inr (5, [.ref a7, .int 0, .int 0, .int 0, .int 0, .int 0, .int 0, .int 0, .int 0, .ref a15, .ref a22, .ref a30, .ref a38, .ref a46])), (a15, .inl ((c 0), 4, .inl (fun _ => 0))), (a22, .inl ((c 0), 4, .inl (fun _ => 0))), (a30, .inl ((c 0), 6, .inl (fun _ => 0))), (a38, .inl ((c 0), 36, .inl (fun _ => 0))), (a46, .inl ((c 0), 6, .inl (fun _ => 0))), (a7, .inl ((c 1), 6, .inr (.inr (.inr (.inr (fun _ => none))))))] ++ ([])) H := va_Pperm hPM hP
  have hD : va_D (va_A ([(a, .inr (5, [.null, .int 0, .int 0, .int 0, .int 0, .int 0, .int 0, .int 0, .int 0, .null, .null, .null, .null, .null]))]) k) ([(a, .inr (5, [.ref a7, .int 0, .int 0, .int 0, .int 0, .int 0, .int 0, .int 0, .int 0, .ref a15, .ref a22, .ref a30, .ref a38, .ref a46])), (a15, .inl ((c 0), 4, .inl (fun _ => 0))), (a22, .inl ((c 0), 4, .inl (fun _ => 0))), (a30, .inl ((c 0), 6, .inl (fun _ => 0))), (a38, .inl ((c 0), 36, .inl (fun _ => 0))), (a46, .inl ((c 0), 6, .inl (fun _ => 0))), (a7, .inl ((c 1), 6, .inr (.inr (.inr (.inr (fun _ => none))))))] ++ ([])) := va_Dperm hPM hD
  clear hPM
  exact y_retv ((fun k => if k = 0 then a7 else if k = 9 then a15 else if k = 10 then a22 else if k = 11 then a30 else if k = 12 then a38 else a46) : Nat → Nat) (wXN _) C hP hD hS hr hlocks trivial dX5_init_51
/-- a new house -/
def hsN (c : Nat → ClassId) (a : Nat) (u : Nat × (Nat → Nat)) : va_W := (a, .inr (4, [.ref u.1, .null])) :: tbN c u.1 u.2
set_option maxHeartbeats 4000000 in
set_option maxRecDepth 100000 in
theorem k_X4_init (l : Launch) (D : va_G) (c : Nat → ClassId) (k : Nat) (a : Nat) : Met l yX4_init (ws_ yX4_init cX4_init 1 none) ({ frames := 3, cells := 7, slots := 76, locals := 70 } : Room) (yPc D (tyG c) NW2 k ([(a, .inr (4, [.null, .null]))]) [.ref a]) (va_Qv (fun (u : Nat × (Nat → Nat)) => True) (yB D (tyG c) NW2 (va_A ([(a, .inr (4, [.null, .null]))]) k) (fun u => hsN c a u)) (va_A ([(a, .inr (4, [.null, .null]))]) k)) 7 76 (va_A ([(a, .inr (4, [.null, .null]))]) k) := by
  refine met_Y RX4 (by decide) rfl (Nat.le_of_ble_eq_true rfl) ?_
  intro p e s m args below meth co C hr hlocks hname hP hD hk ls hl
  have hx := C.1.1
  have hb := C.1.2.1
  have hml := C.1.2.2.1
  have hown := C.1.2.2.2.1
  have hts := C.1.2.2.2.2
  have hK := C.2.1
  have hN : NW s := C.2.2.1
  have hA : ∀ q, s.heap.size ≤ q → (va_A ([(a, .inr (4, [.null, .null]))]) k) q := fun q hq => Or.inr (Nat.le_trans hk hq)
  obtain ⟨H, hH⟩ : ∃ H : Heap, H = s.heap := ⟨_, rfl⟩
  have hS : va_S (va_A ([(a, .inr (4, [.null, .null]))]) k) s.heap H [] := by rw [hH]; exact va_S.rf
  rw [← hH] at hP ⊢
  have hl : lv_has ls 1 [(0, .ref a)] := hl
  refine lv_aload_n hx hb dX4_init_0 rfl (lv_at hl 0 rfl) ?_
  refine y_obj (rest := []) C q287 q179 q180 hl.1 dX4_init_1 ⟨Nat.le_of_ble_eq_true rfl, Nat.le_of_ble_eq_true rfl⟩ ?_
  refine lv_aload_n hx hb dX4_init_4 rfl (lv_at hl 0 rfl) ?_
  refine y_new (ci := 5) (C := RX5) (T := TX5) (N := 14) C hP hD hS hA in_X5 tyX5 tyX5_ok q288 q289 q151 rfl (fs := [.null, .int 0, .int 0, .int 0, .int 0, .int 0, .int 0, .int 0, .int 0, .null, .null, .null, .null, .null]) (by decide) (Nat.le_of_ble_eq_true rfl) (Nat.le_of_ble_eq_true rfl) dX4_init_5 (fun a5 H hP hD hS => ?_)
  have hP : va_P D vwCl ([(a5, .inr (5, [.null, .int 0, .int 0, .int 0, .int 0, .int 0, .int 0, .int 0, .int 0, .null, .null, .null, .null, .null])), (a, .inr (4, [.null, .null]))]) H := hP
  have hD : va_D (va_A ([(a, .inr (4, [.null, .null]))]) k) ([(a5, .inr (5, [.null, .int 0, .int 0, .int 0, .int 0, .int 0, .int 0, .int 0, .int 0, .null, .null, .null, .null, .null])), (a, .inr (4, [.null, .null]))]) := hD
  refine lv_dup hx hb dX4_init_8 rfl ?_
  have hPM : ([(a5, .inr (5, [.null, .int 0, .int 0, .int 0, .int 0, .int 0, .int 0, .int 0, .int 0, .null, .null, .null, .null, .null])), (a, .inr (4, [.null, .null]))] : va_W).Perm ([(a5, .inr (5, [.null, .int 0, .int 0, .int 0, .int 0, .int 0, .int 0, .int 0, .int 0, .null, .null, .null, .null, .null]))] ++ [(a, .inr (4, [.null, .null]))]) := (show ∀ (x0 x1 : Nat × va_E) , ([x0, x1] : va_W).Perm ([x0] ++ [x1]) from fun x0 x1 => va_perm (fun c w h1 h2 h3 => by simp only [h1, h2, h3] <;> omega)) _ _
  have hP : va_P D vwCl ([(a5, .inr (5, [.null, .int 0, .int 0, .int 0, .int 0, .int 0, .int 0, .int 0, .int 0, .null, .null, .null, .null, .null]))] ++ ([(a, .inr (4, [.null, .null]))])) H := va_Pperm hPM hP
  have hD : va_D (va_A ([(a, .inr (4, [.null, .null]))]) k) ([(a5, .inr (5, [.null, .int 0, .int 0, .int 0, .int 0, .int 0, .int 0, .int 0, .int 0, .null, .null, .null, .null, .null]))] ++ ([(a, .inr (4, [.null, .null]))])) := va_Dperm hPM hD
  clear hPM
  refine y_callv (P := [(a5, .inr (5, [.null, .int 0, .int 0, .int 0, .int 0, .int 0, .int 0, .int 0, .int 0, .null, .null, .null, .null, .null]))]) (Rw := [(a, .inr (4, [.null, .null]))]) (va_runIN (As := []) (rest := [.ref a5, .ref a]) C.1 (k_X5_init l D c H.size a5) ⟨va_cnB 0 hts (lw_meth q292) rfl rfl rfl (nMw hN 2 rfl) (hts _ q151) (by decide +kernel) ⟨Nat.le_of_ble_eq_true rfl, Nat.le_of_ble_eq_true rfl⟩, rfl, hts _ q291⟩ (y_pre (wXN _) hK hP hD (fun U _ hW => NW2.warm hW C.2.2)) rfl rfl hl.1 rfl (lv_room (Nat.le_of_ble_eq_true rfl)) dX4_init_9 ⟨Nat.le_of_ble_eq_true rfl, Nat.le_of_ble_eq_true rfl⟩) hP hD hS (fun _ h => h) (va_freeF hD hS hA) (fun u H locs hp hP hD hS hz hD1 => ?_)
  have hP : va_P D vwCl ([(a5, .inr (5, [.ref (u 0), .int 0, .int 0, .int 0, .int 0, .int 0, .int 0, .int 0, .int 0, .ref (u 9), .ref (u 10), .ref (u 11), .ref (u 12), .ref (u 13)])), ((u 9), .inl ((c 0), 4, .inl (fun _ => 0))), ((u 10), .inl ((c 0), 4, .inl (fun _ => 0))), ((u 11), .inl ((c 0), 6, .inl (fun _ => 0))), ((u 12), .inl ((c 0), 36, .inl (fun _ => 0))), ((u 13), .inl ((c 0), 6, .inl (fun _ => 0))), ((u 0), .inl ((c 1), 6, .inr (.inr (.inr (.inr (fun _ => none)))))), (a, .inr (4, [.null, .null]))]) H := hP
  have hD : va_D (va_A ([(a, .inr (4, [.null, .null]))]) k) ([(a5, .inr (5, [.ref (u 0), .int 0, .int 0, .int 0, .int 0, .int 0, .int 0, .int 0, .int 0, .ref (u 9), .ref (u 10), .ref (u 11), .ref (u 12), .ref (u 13)])), ((u 9), .inl ((c 0), 4, .inl (fun _ => 0))), ((u 10), .inl ((c 0), 4, .inl (fun _ => 0))), ((u 11), .inl ((c 0), 6, .inl (fun _ => 0))), ((u 12), .inl ((c 0), 36, .inl (fun _ => 0))), ((u 13), .inl ((c 0), 6, .inl (fun _ => 0))), ((u 0), .inl ((c 1), 6, .inr (.inr (.inr (.inr (fun _ => none)))))), (a, .inr (4, [.null, .null]))]) := hD
  refine va_putF (D := D) (cl := vwCl) (ci := 4) (v := .ref a5) (ty := (.object "LetMe$Table")) (C := RX4) (T := TX4) (N := 2) hx hb hts in_X4 tyX4 tyX4_ok nmX4 hown hK hP hD hS 7 (fs := [.null, .null]) rfl rfl 0 (by decide) (hts _ q365) (fun _ h9 => h9) rfl hname rfl (by decide +kernel) rfl rfl (Nat.le_of_ble_eq_true rfl) dX4_init_12 (fun H locs hP hD hS => ?_)
  have hP : va_P D vwCl ([(a5, .inr (5, [.ref (u 0), .int 0, .int 0, .int 0, .int 0, .int 0, .int 0, .int 0, .int 0, .ref (u 9), .ref (u 10), .ref (u 11), .ref (u 12), .ref (u 13)])), ((u 9), .inl ((c 0), 4, .inl (fun _ => 0))), ((u 10), .inl ((c 0), 4, .inl (fun _ => 0))), ((u 11), .inl ((c 0), 6, .inl (fun _ => 0))), ((u 12), .inl ((c 0), 36, .inl (fun _ => 0))), ((u 13), .inl ((c 0), 6, .inl (fun _ => 0))), ((u 0), .inl ((c 1), 6, .inr (.inr (.inr (.inr (fun _ => none)))))), (a, .inr (4, [.ref a5, .null]))]) H := hP
  have hD : va_D (va_A ([(a, .inr (4, [.null, .null]))]) k) ([(a5, .inr (5, [.ref (u 0), .int 0, .int 0, .int 0, .int 0, .int 0, .int 0, .int 0, .int 0, .ref (u 9), .ref (u 10), .ref (u 11), .ref (u 12), .ref (u 13)])), ((u 9), .inl ((c 0), 4, .inl (fun _ => 0))), ((u 10), .inl ((c 0), 4, .inl (fun _ => 0))), ((u 11), .inl ((c 0), 6, .inl (fun _ => 0))), ((u 12), .inl ((c 0), 36, .inl (fun _ => 0))), ((u 13), .inl ((c 0), 6, .inl (fun _ => 0))), ((u 0), .inl ((c 1), 6, .inr (.inr (.inr (.inr (fun _ => none)))))), (a, .inr (4, [.ref a5, .null]))]) := hD
  have hPM : ([(a5, .inr (5, [.ref (u 0), .int 0, .int 0, .int 0, .int 0, .int 0, .int 0, .int 0, .int 0, .ref (u 9), .ref (u 10), .ref (u 11), .ref (u 12), .ref (u 13)])), ((u 9), .inl ((c 0), 4, .inl (fun _ => 0))), ((u 10), .inl ((c 0), 4, .inl (fun _ => 0))), ((u 11), .inl ((c 0), 6, .inl (fun _ => 0))), ((u 12), .inl ((c 0), 36, .inl (fun _ => 0))), ((u 13), .inl ((c 0), 6, .inl (fun _ => 0))), ((u 0), .inl ((c 1), 6, .inr (.inr (.inr (.inr (fun _ => none)))))), (a, .inr (4, [.ref a5, .null]))] : va_W).Perm ([(a, .inr (4, [.ref a5, .null])), (a5, .inr (5, [.ref (u 0), .int 0, .int 0, .int 0, .int 0, .int 0, .int 0, .int 0, .int 0, .ref (u 9), .ref (u 10), .ref (u 11), .ref (u 12), .ref (u 13)])), ((u 9), .inl ((c 0), 4, .inl (fun _ => 0))), ((u 10), .inl ((c 0), 4, .inl (fun _ => 0))), ((u 11), .inl ((c 0), 6, .inl (fun _ => 0))), ((u 12), .inl ((c 0), 36, .inl (fun _ => 0))), ((u 13), .inl ((c 0), 6, .inl (fun _ => 0))), ((u 0), .inl ((c 1), 6, .inr (.inr (.inr (.inr (fun _ => none))))))] ++ []) := (show ∀ (x0 x1 x2 x3 x4 x5 x6 x7 : Nat × va_E) , ([x0, x1, x2, x3, x4, x5, x6, x7] : va_W).Perm ([x7, x0, x1, x2, x3, x4, x5, x6] ++ []) from fun x0 x1 x2 x3 x4 x5 x6 x7 => va_perm (fun c w h1 h2 h3 => by simp only [h1, h2, h3] <;> omega)) _ _ _ _ _ _ _ _
  have hP : va_P D vwCl ([(a, .inr (4, [.ref a5, .null])), (a5, .inr (5, [.ref (u 0), .int 0, .int 0, .int 0, .int 0, .int 0, .int 0, .int 0, .int 0, .ref (u 9), .ref (u 10), .ref (u 11), .ref (u 12), .ref (u 13)])), ((u 9), .inl ((c 0), 4, .inl (fun _ => 0))), ((u 10), .inl ((c 0), 4, .inl (fun _ => 0))), ((u 11), .inl ((c 0), 6, .inl (fun _ => 0))), ((u 12), .inl ((c 0), 36, .inl (fun _ => 0))), ((u 13), .inl ((c 0), 6, .inl (fun _ => 0))), ((u 0), .inl ((c 1), 6, .inr (.inr (.inr (.inr (fun _ => none))))))] ++ ([])) H := va_Pperm hPM hP
  have hD : va_D (va_A ([(a, .inr (4, [.null, .null]))]) k) ([(a, .inr (4, [.ref a5, .null])), (a5, .inr (5, [.ref (u 0), .int 0, .int 0, .int 0, .int 0, .int 0, .int 0, .int 0, .int 0, .ref (u 9), .ref (u 10), .ref (u 11), .ref (u 12), .ref (u 13)])), ((u 9), .inl ((c 0), 4, .inl (fun _ => 0))), ((u 10), .inl ((c 0), 4, .inl (fun _ => 0))), ((u 11), .inl ((c 0), 6, .inl (fun _ => 0))), ((u 12), .inl ((c 0), 36, .inl (fun _ => 0))), ((u 13), .inl ((c 0), 6, .inl (fun _ => 0))), ((u 0), .inl ((c 1), 6, .inr (.inr (.inr (.inr (fun _ => none))))))] ++ ([])) := va_Dperm hPM hD
  clear hPM
  exact y_retv ((a5, u) : Nat × (Nat → Nat)) (wXN _) C hP hD hS hr hlocks trivial dX4_init_15
