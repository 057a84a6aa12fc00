/-! STRING CONSTANTS: length() and charAt(k) of a String of bytes (no cell changes) -/
set_option maxRecDepth 100000
/-- a String constant at a, its bytes at v: never written -/
def kS (bs : List Int32) (a v : Nat) (A : Nat → Prop) (U : State) (H : Heap) : Prop := va_O "java/lang/String" a A U H ∧ va_OF "java/lang/String" "coder" "B" (.int 0) a A U H ∧ va_OF "java/lang/String" "value" "[B" (.ref v) a A U H ∧ va_T .byte v bs.length (fun j => .int (bs.getD j 0)) A U H
def kZ (A : Nat → Prop) (U : State) (H : Heap) : Prop := va_Z "java/lang/String" "COMPACT_STRINGS" "Z" (.int 1) A U H ∧ ∃ w : Value, (w = .null ∨ ∃ q : Nat, w = .ref q) ∧ va_Z "jdk/internal/util/Preconditions" "SIOOBE_FORMATTER" "Ljava/util/function/BiFunction;" w A U H
theorem kS.moved {bs : List Int32} {a v : Nat} {A : Nat → Prop} {u U : State} {H : Heap} (hvm : u.vm.Alike U.vm) (h : kS bs a v A u H) : kS bs a v A U H := ⟨va_O.moved hvm h.1, va_OF.moved hvm h.2.1, va_OF.moved hvm h.2.2.1, va_T.moved hvm h.2.2.2⟩
theorem kS.kept {bs : List Int32} {a v : Nat} {A : Nat → Prop} {U : State} {H H1 : Heap} (h : kS bs a v A U H) (hq : ∀ q : Nat, q < H.size → ¬ A q → H1[q]? = H[q]?) : kS bs a v A U H1 := ⟨h.1.kept hq, h.2.1.kept hq, h.2.2.1.kept hq, h.2.2.2.kept hq⟩
theorem kS.narrow {bs : List Int32} {a v : Nat} {A B : Nat → Prop} {U : State} {H : Heap} (h : kS bs a v A U H) (hAB : ∀ q, B q → A q) : kS bs a v B U H := ⟨h.1.narrow hAB, h.2.1.narrow hAB, h.2.2.1.narrow hAB, h.2.2.2.narrow hAB⟩
theorem kZ.moved {A : Nat → Prop} {u U : State} {H : Heap} (hvm : u.vm.Alike U.vm) (h : kZ A u H) : kZ A U H := by
  obtain ⟨h1, w, hw, h2⟩ := h
  exact ⟨h1.moved hvm, w, hw, h2.moved hvm⟩
theorem kZ.kept {A : Nat → Prop} {U : State} {H H1 : Heap} (h : kZ A U H) (hq : ∀ q : Nat, q < H.size → ¬ A q → H1[q]? = H[q]?) : kZ A U H1 := by
  obtain ⟨h1, w, hw, h2⟩ := h
  exact ⟨h1.kept hq, w, hw, h2.kept hq⟩
theorem kZ.narrow {A B : Nat → Prop} {U : State} {H : Heap} (h : kZ A U H) (hAB : ∀ q, B q → A q) : kZ B U H := by
  obtain ⟨h1, w, hw, h2⟩ := h
  exact ⟨h1.narrow hAB, w, hw, h2.narrow hAB⟩
abbrev kN : Nat → Prop := fun _ => False
/-- what a call on strings asks of the state -/
def kB (bs : List Int32) (a v : Nat) (U : State) : Prop := kS bs a v kN U U.heap ∧ kZ kN U U.heap
theorem kB.moved {bs : List Int32} {a v : Nat} {u U : State} (hvm : u.vm.Alike U.vm) (hh : U.heap = u.heap) (h : kB bs a v u) : kB bs a v U := ⟨by rw [hh]; exact h.1.moved hvm, by rw [hh]; exact h.2.moved hvm⟩
section KR
variable {p : Program} {l : Launch} {e : Env} {R : Room} {s : State} {m : MethodId} {args : Array Value} {below : List Frame} {meth : Method} {c : Code} {H : Heap} {locs : List Loc} {cells slots : Nat} {Q : State → Prop}
variable {cc : ByteArray} {nL pc : Nat} {ls : Array Slot} {rest st0 : List Value} {own : String} {A0 : Nat → Prop} {bs : List Int32} {a v : Nat}
/-- a call of a String's own method -/
theorem k_calli {y : MethodName} {bytes : ByteArray} {maxL idx : Nat} {rt : FieldType} {rm : Room} {F : Int32} {As : List Value} (n : Nat) (C : FX p s m args c cc nL own) (hSt : kS bs a v A0 s s.heap) (hZt : kZ A0 s s.heap) (hM : Met l y (ws_ y bytes maxL (some rt)) rm (va_Pc (.ref a :: As) (kB bs a v)) (sQi F) 0 0 kN) (hG : GoodIn lw_all (wsV own idx "java/lang/String" y (ws_ y bytes maxL (some rt)))) (hrc : rm.cells = 0) (hrs : rm.slots = 0)
    (hd : y.cls = "java/lang/String" ∧ y.cls ≠ "java/lang/invoke/MethodHandle" ∧ y.cls ≠ "java/lang/invoke/VarHandle" ∧ (parseMethodDescriptor y.desc).map (fun d => d.parameters.length) = some n) (hR : rm.frames + 1 ≤ R.frames ∧ 8 + (maxL + 11) + rm.locals ≤ R.locals) (hn : As.length = n) (hls : ls.size = nL) (hst : st0 = As.reverse ++ .ref a :: rest) (hW : (rest.map fun v => v.category).sum ≤ 8) (hcs : cells ≤ R.cells ∧ slots ≤ R.slots) (hdg : decode cc pc = .ok (.invokevirtual idx, 3)) (hS : va_S A0 s.heap H locs)
    (kk : ∀ (r : Int32) (H1 : Heap) (locs1 : List Loc), r = F → H.size ≤ H1.size → (∀ q : Nat, q < H.size → H1[q]? = H[q]?) → va_S A0 s.heap H1 locs1 → W p l e R s m args below meth c H1 locs1 cells slots Q (F0 m (pc + 3) ls (.int r :: rest))) : W p l e R s m args below meth c H locs cells slots Q (F0 m pc ls st0) := by
  have hB0 : kS bs a v kN s H ∧ kZ kN s H := ⟨(hSt.kept hS.2.1).narrow (fun _ h => h.elim), (hZt.kept hS.2.1).narrow (fun _ h => h.elim)⟩
  obtain ⟨cell, h1, h2, h3, -⟩ := hB0.1.1
  exact va_calli (va_runV (As := As) (rest := rest) C hM (cwV n C.2.2.2.2 hG rfl hrc hrs hd hR) ⟨fun a U G mk q => ⟨q.1, q.2.moved (U := U.calling G mk a) (Vm.Alike.refl U.vm) rfl⟩, ⟨cell, h1, h2, h3⟩, fun U hU hW => ⟨rfl, by rw [hU]; exact hB0.1.moved hW.alike, by rw [hU]; exact hB0.2.moved hW.alike⟩⟩ rfl hn hls hst (lv_room hW) hdg hcs) hS (fun _ _ h => h.elim) (fun _ h => h.elim)
    (fun r _ _ H1 locs1 _ _ hp _ hz hk hS1 => kk r H1 locs1 hp hz (fun q h => hk q h (fun z => z)) hS1)
end KR
set_option maxHeartbeats 4000000 in
theorem k_J8_checkIndex (l : Launch) (i n : Int32) (w : Value) (hw : w = .null ∨ ∃ q : Nat, w = .ref q) (h0 : ¬ i < 0) (h1 : i < n) : Met l yJ8_checkIndex (ws_ yJ8_checkIndex cJ8_checkIndex 3 (some .int)) ({ frames := 0, cells := 0, slots := 0, locals := 0 } : Room) (va_Pc [.int i, .int n, w] (fun _ => True)) (sQi i) 0 0 kN := by
  refine met_S "jdk/internal/util/Preconditions" (by decide) rfl rfl (by rcases hw with rfl | ⟨q, rfl⟩ <;> exact Nat.le_of_ble_eq_true rfl) ?_
  intro p e s m args below meth c C hr hlocks _ _ _ ls hl
  have hx := C.1
  have hb := C.2.1
  have hl : lv_has ls 3 [(0, .int i), (1, .int n)] := by rcases hw with rfl | ⟨q, rfl⟩ <;> exact lv_sub hl [0, 1] rfl
  refine lv_iload_n hx hb dJ8_checkIndex_0 rfl (lv_at hl 0 rfl) ?_
  refine lv_if_lt (tgt := 9) hx hb dJ8_checkIndex_1 (by decide) (fun q => absurd q h0) (fun _ => ?_)
  refine lv_iload_n hx hb dJ8_checkIndex_4 rfl (lv_at hl 0 rfl) ?_
  refine lv_iload_n hx hb dJ8_checkIndex_5 rfl (lv_at hl 1 rfl) ?_
  refine lv_icmp_lt (tgt := 16) hx hb dJ8_checkIndex_6 (by decide) (fun _ => ?_) (fun q => absurd h1 q)
  refine lv_iload_n hx hb dJ8_checkIndex_16 rfl (lv_at hl 0 rfl) ?_
  exact s_reti C hr hlocks va_S.rf rfl dJ8_checkIndex_17
set_option maxHeartbeats 4000000 in
theorem k_J4_checkIndex (l : Launch) (bs : List Int32) (a v : Nat) (i n : Int32) (h0 : ¬ i < 0) (h1 : i < n) : Met l yJ4_checkIndex (ws_ yJ4_checkIndex cJ4_checkIndex 2 none) ({ frames := 1, cells := 0, slots := 0, locals := 22 } : Room) (va_Pc [.int i, .int n] (kB bs a v)) (va_Qv (fun (_ : Unit) => True) (fun _ _ => True) kN) 0 0 kN := by
  refine met_S "java/lang/String" (by decide) rfl rfl (Nat.le_of_ble_eq_true rfl) ?_
  intro p e s m args below meth c C hr hlocks _ _ hB ls hl
  have hx := C.1
  have hb := C.2.1
  have hl : lv_has ls 2 [(0, .int i), (1, .int n)] := hl
  refine lv_iload_n hx hb dJ4_checkIndex_0 rfl (lv_at hl 0 rfl) ?_
  refine lv_iload_n hx hb dJ4_checkIndex_1 rfl (lv_at hl 1 rfl) ?_
  obtain ⟨hS4, hZ1, w, hw, hZ2⟩ := hB
  refine va_gets hx hb hZ2 va_S.rf C.2.2.2.1 (C.2.2.2.2 _ q664) (fun _ h9 => h9) dJ4_checkIndex_2 ?_
  refine va_calli (va_runS (As := [.int i, .int n, w]) (rest := []) C (k_J8_checkIndex l i n w hw h0 h1) (va_cwS 3 C.2.2.2.2 (lw_S q666 q667 q161 q668) rfl rfl rfl (by decide +kernel) ⟨Nat.le_of_ble_eq_true rfl, Nat.le_of_ble_eq_true rfl⟩) ⟨fun _ _ _ _ q => q, fun _ _ _ => ⟨rfl, trivial⟩⟩ rfl rfl hl.1 rfl (lv_room (Nat.le_of_ble_eq_true rfl)) dJ4_checkIndex_5 ⟨Nat.le_of_ble_eq_true rfl, Nat.le_of_ble_eq_true rfl⟩) (va_S.rf (A := kN)) (fun _ _ h => h.elim) (fun _ h => h.elim) (fun r _ t H1 locs1 ht _ _ _ hz hk hS1 => ?_)
  refine lv_pop hx hb dJ4_checkIndex_8 rfl ?_
  exact W.vret hx hb hr (fun t ht hW => ⟨⟨(), rfl, trivial, trivial⟩, hS1.F ht⟩) hS1.2.2 dJ4_checkIndex_9 hlocks
set_option maxHeartbeats 4000000 in
theorem k_J4_coder (l : Launch) (bs : List Int32) (a v : Nat) : Met l yJ4_coder (ws_ yJ4_coder cJ4_coder 1 (some .byte)) ({ frames := 0, cells := 0, slots := 0, locals := 0 } : Room) (va_Pc [.ref a] (kB bs a v)) (sQi 0) 0 0 kN := by
  refine met_S "java/lang/String" (by decide) rfl rfl (Nat.le_of_ble_eq_true rfl) ?_
  intro p e s m args below meth c C hr hlocks _ _ hB ls hl
  have hx := C.1
  have hb := C.2.1
  have hl : lv_has ls 1 [(0, .ref a)] := hl
  obtain ⟨hS4, hZ1, w, hw, hZ2⟩ := hB
  refine va_gets hx hb hZ1 va_S.rf C.2.2.2.1 (C.2.2.2.2 _ q648) (fun _ h9 => h9) dJ4_coder_0 ?_
  refine lv_if_eq (tgt := 13) hx hb dJ4_coder_3 (by decide) (fun q => absurd q (by decide)) (fun _ => ?_)
  refine lv_aload_n hx hb dJ4_coder_6 rfl (lv_at hl 0 rfl) ?_
  refine vk_getf hx hb hS4.2.1 va_S.rf C.2.2.2.1 (C.2.2.2.2 _ q2272) (fun _ h9 => h9) dJ4_coder_7 ?_
  refine lv_goto (tgt := 14) hx hb dJ4_coder_10 (by decide) ?_
  exact W.zret (v := 0) hx hb hr rfl (fun t ht _ => ⟨⟨0, (), rfl, rfl, trivial⟩, va_S.rf.F ht⟩) (fun _ h => by cases h) dJ4_coder_14 hlocks
set_option maxHeartbeats 4000000 in
theorem k_J4_isLatin1 (l : Launch) (bs : List Int32) (a v : Nat) : Met l yJ4_isLatin1 (ws_ yJ4_isLatin1 cJ4_isLatin1 1 (some .boolean)) ({ frames := 0, cells := 0, slots := 0, locals := 0 } : Room) (va_Pc [.ref a] (kB bs a v)) (sQi 1) 0 0 kN := by
  refine met_S "java/lang/String" (by decide) rfl rfl (Nat.le_of_ble_eq_true rfl) ?_
  intro p e s m args below meth c C hr hlocks _ _ hB ls hl
  have hx := C.1
  have hb := C.2.1
  have hl : lv_has ls 1 [(0, .ref a)] := hl
  obtain ⟨hS4, hZ1, w, hw, hZ2⟩ := hB
  refine va_gets hx hb hZ1 va_S.rf C.2.2.2.1 (C.2.2.2.2 _ q648) (fun _ h9 => h9) dJ4_isLatin1_0 ?_
  refine lv_if_eq (tgt := 17) hx hb dJ4_isLatin1_3 (by decide) (fun q => absurd q (by decide)) (fun _ => ?_)
  refine lv_aload_n hx hb dJ4_isLatin1_6 rfl (lv_at hl 0 rfl) ?_
  refine vk_getf hx hb hS4.2.1 va_S.rf C.2.2.2.1 (C.2.2.2.2 _ q2272) (fun _ h9 => h9) dJ4_isLatin1_7 ?_
  refine lv_if_ne (tgt := 17) hx hb dJ4_isLatin1_10 (by decide) (fun q => absurd rfl q) (fun _ => ?_)
  refine lv_iconst (v := 1) hx hb dJ4_isLatin1_13 (by decide) ?_
  refine lv_goto (tgt := 18) hx hb dJ4_isLatin1_14 (by decide) ?_
  exact W.zret (v := 1) hx hb hr rfl (fun t ht _ => ⟨⟨1, (), rfl, rfl, trivial⟩, va_S.rf.F ht⟩) (fun _ h => by cases h) dJ4_isLatin1_18 hlocks
set_option maxHeartbeats 4000000 in
theorem k_J4_length (l : Launch) (bs : List Int32) (a v : Nat) : Met l yJ4_length (ws_ yJ4_length cJ4_length 1 (some .int)) ({ frames := 1, cells := 0, slots := 0, locals := 20 } : Room) (va_Pc [.ref a] (kB bs a v)) (sQi (nI bs.length)) 0 0 kN := by
  refine met_S "java/lang/String" (by decide) rfl rfl (Nat.le_of_ble_eq_true rfl) ?_
  intro p e s m args below meth c C hr hlocks _ _ hB ls hl
  have hx := C.1
  have hb := C.2.1
  have hl : lv_has ls 1 [(0, .ref a)] := hl
  refine lv_aload_n hx hb dJ4_length_0 rfl (lv_at hl 0 rfl) ?_
  refine vk_getf hx hb hB.1.2.2.1 va_S.rf C.2.2.2.1 (C.2.2.2.2 _ q2271) (fun _ h9 => h9) dJ4_length_1 ?_
  refine va_tlen (v := nI bs.length) hx hb hB.1.2.2.2 va_S.rf rfl dJ4_length_4 ?_
  refine lv_aload_n hx hb dJ4_length_5 rfl (lv_at hl 0 rfl) ?_
  refine k_calli (As := []) (rest := [.int (nI bs.length)]) 0 C hB.1 hB.2 (k_J4_coder l bs a v) (lw_V q644 q645 q646 q155 q647) rfl rfl (by decide +kernel) ⟨Nat.le_of_ble_eq_true rfl, Nat.le_of_ble_eq_true rfl⟩ rfl hl.1 rfl (Nat.le_of_ble_eq_true rfl) ⟨Nat.le_of_ble_eq_true rfl, Nat.le_of_ble_eq_true rfl⟩ dJ4_length_6 va_S.rf (fun r H locs er hz hk hS => ?_)
  refine lv_ishr hx hb dJ4_length_9 ?_
  exact s_reti C hr hlocks hS (by rw [er]; exact (sb_shr0 _).symm) dJ4_length_10
/-- the char at i -/
def kc (bs : List Int32) (i : Int32) : Int32 := bs.getD i.toNatClampNeg 0 &&& 255
set_option maxHeartbeats 4000000 in
theorem k_J7_charAt (l : Launch) (bs : List Int32) (a v : Nat) (i : Int32) (hi : vp_in i bs.length) (hn : bs.length < 2 ^ 31) : Met l yJ7_charAt (ws_ yJ7_charAt cJ7_charAt 2 (some .char)) ({ frames := 2, cells := 0, slots := 0, locals := 43 } : Room) (va_Pc [.ref v, .int i] (kB bs a v)) (sQi (kc bs i)) 0 0 kN := by
  refine met_S "java/lang/StringLatin1" (by decide) rfl rfl (Nat.le_of_ble_eq_true rfl) ?_
  intro p e s m args below meth c C hr hlocks _ _ hB ls hl
  have hx := C.1
  have hb := C.2.1
  have hl : lv_has ls 2 [(0, .ref v), (1, .int i)] := hl
  refine lv_iload_n hx hb dJ7_charAt_0 rfl (lv_at hl 1 rfl) ?_
  refine lv_aload_n hx hb dJ7_charAt_1 rfl (lv_at hl 0 rfl) ?_
  refine va_tlen (v := nI bs.length) hx hb hB.1.2.2.2 va_S.rf rfl dJ7_charAt_2 ?_
  have h2 := vp_in_iff.mp hi
  have h0 : ¬ i < 0 := fun q => hi (Or.inl q)
  have h1 : i < nI bs.length := Int32.lt_iff_toInt_lt.mpr (by rw [nI_toInt hn]; exact h2.2)
  refine va_callv (va_runS (As := [.int i, .int (nI bs.length)]) (rest := []) C (k_J4_checkIndex l bs a v i (nI bs.length) h0 h1) (va_cwS 2 C.2.2.2.2 (lw_S q661 q662 q155 q663) rfl rfl rfl (by decide +kernel) ⟨Nat.le_of_ble_eq_true rfl, Nat.le_of_ble_eq_true rfl⟩) ⟨fun a U G mk q => ⟨q.1, q.2.moved (U := U.calling G mk a) (Vm.Alike.refl U.vm) rfl⟩, fun U hU hW => ⟨rfl, hB.moved hW.alike hU⟩⟩ rfl rfl hl.1 rfl (lv_room (Nat.le_of_ble_eq_true rfl)) dJ7_charAt_3 ⟨Nat.le_of_ble_eq_true rfl, Nat.le_of_ble_eq_true rfl⟩) (va_S.rf (A := kN)) (fun _ _ h => h.elim) (fun _ h => h.elim) (fun _ t H1 locs1 ht _ _ _ hz hk hS => ?_)
  refine lv_aload_n hx hb dJ7_charAt_6 rfl (lv_at hl 0 rfl) ?_
  refine lv_iload_n hx hb dJ7_charAt_7 rfl (lv_at hl 1 rfl) ?_
  refine va_tb (v := .int (bs.getD i.toNatClampNeg 0)) hx hb hB.1.2.2.2 hS hi rfl dJ7_charAt_8 ?_
  refine lv_sipush (v := 255) hx hb dJ7_charAt_9 (by decide) ?_
  refine lv_iand hx hb dJ7_charAt_12 ?_
  refine lv_i2c (v := kc bs i) hx hb dJ7_charAt_13 (sc_c2 _) ?_
  exact W.zret (v := kc bs i) hx hb hr (sc_nar _) (fun t ht _ => ⟨⟨kc bs i, (), rfl, rfl, trivial⟩, hS.F ht⟩) hS.2.2 dJ7_charAt_14 hlocks
set_option maxHeartbeats 4000000 in
theorem k_J4_charAt (l : Launch) (bs : List Int32) (a v : Nat) (i : Int32) (hi : vp_in i bs.length) (hn : bs.length < 2 ^ 31) : Met l yJ4_charAt (ws_ yJ4_charAt cJ4_charAt 2 (some .char)) ({ frames := 3, cells := 0, slots := 0, locals := 64 } : Room) (va_Pc [.ref a, .int i] (kB bs a v)) (sQi (kc bs i)) 0 0 kN := by
  refine met_S "java/lang/String" (by decide) rfl rfl (Nat.le_of_ble_eq_true rfl) ?_
  intro p e s m args below meth c C hr hlocks _ _ hB ls hl
  have hx := C.1
  have hb := C.2.1
  have hl : lv_has ls 2 [(0, .ref a), (1, .int i)] := hl
  refine lv_aload_n hx hb dJ4_charAt_0 rfl (lv_at hl 0 rfl) ?_
  refine k_calli (As := []) (rest := []) 0 C hB.1 hB.2 (k_J4_isLatin1 l bs a v) (lw_V q654 q655 q656 q155 q657) rfl rfl (by decide +kernel) ⟨Nat.le_of_ble_eq_true rfl, Nat.le_of_ble_eq_true rfl⟩ rfl hl.1 rfl (Nat.le_of_ble_eq_true rfl) ⟨Nat.le_of_ble_eq_true rfl, Nat.le_of_ble_eq_true rfl⟩ dJ4_charAt_1 va_S.rf (fun r H locs er hz hk hS => ?_)
  refine lv_if_eq (tgt := 16) hx hb dJ4_charAt_4 (by decide) (fun q => absurd (er.symm.trans q) (by decide)) (fun _ => ?_)
  refine lv_aload_n hx hb dJ4_charAt_7 rfl (lv_at hl 0 rfl) ?_
  refine vk_getf hx hb hB.1.2.2.1 hS C.2.2.2.1 (C.2.2.2.2 _ q2271) (fun _ h9 => h9) dJ4_charAt_8 ?_
  refine lv_iload_n hx hb dJ4_charAt_11 rfl (lv_at hl 1 rfl) ?_
  have hB0 : kS bs a v kN s H ∧ kZ kN s H := ⟨hB.1.kept hS.2.1, hB.2.kept hS.2.1⟩
  refine va_calli (va_runS (As := [.ref v, .int i]) (rest := []) C (k_J7_charAt l bs a v i hi hn) (va_cwS 2 C.2.2.2.2 (lw_S q658 q659 q160 q660) rfl rfl rfl (by decide +kernel) ⟨Nat.le_of_ble_eq_true rfl, Nat.le_of_ble_eq_true rfl⟩) ⟨fun a U G mk q => ⟨q.1, q.2.moved (U := U.calling G mk a) (Vm.Alike.refl U.vm) rfl⟩, fun U hU hW => ⟨rfl, by rw [hU]; exact hB0.1.moved hW.alike, by rw [hU]; exact hB0.2.moved hW.alike⟩⟩ rfl rfl hl.1 rfl (lv_room (Nat.le_of_ble_eq_true rfl)) dJ4_charAt_12 ⟨Nat.le_of_ble_eq_true rfl, Nat.le_of_ble_eq_true rfl⟩) hS (fun _ _ h => h.elim) (fun _ h => h.elim) (fun r2 _ t H1 locs1 ht _ hp _ hz2 hk2 hS2 => ?_)
  exact W.zret (v := r2) hx hb hr (by rw [hp]; exact sc_nar _) (fun t ht _ => ⟨⟨r2, (), rfl, hp, trivial⟩, hS2.F ht⟩) hS2.2.2 dJ4_charAt_15 hlocks
