/-! small laws of ints -/
set_option maxRecDepth 100000
/-- a fact that the arithmetic needn't see -/
def Hd (P : Prop) : Prop := P
theorem and_rng {x y : Int32} (h : 0 ≤ x.toInt) : 0 ≤ (x &&& y).toInt ∧ (x &&& y).toInt ≤ x.toInt := by
  have hx : x.toInt = (x.toBitVec.toNat : Int) := by
    have := x.toBitVec.toInt_eq_toNat_cond
    show x.toBitVec.toInt = _
    have h0 : 0 ≤ x.toBitVec.toInt := h
    rw [this] at h0 ⊢
    split at h0
    · split <;> omega
    · have := x.toBitVec.isLt; omega
  have hlt : x.toBitVec.toNat < 2 ^ 31 := by
    have := Int32.toInt_lt x; omega
  have e : (x &&& y).toBitVec.toNat = x.toBitVec.toNat &&& y.toBitVec.toNat := by
    show (x.toBitVec &&& y.toBitVec).toNat = _
    exact BitVec.toNat_and ..
  have hle : (x &&& y).toBitVec.toNat ≤ x.toBitVec.toNat := by rw [e]; exact Nat.and_le_left
  have hz : (x &&& y).toInt = ((x &&& y).toBitVec.toNat : Int) := by
    show (x &&& y).toBitVec.toInt = _
    rw [BitVec.toInt_eq_toNat_cond]
    split <;> omega
  rw [hz, hx]
  omega
theorem small_nI {x : Int32} {n : Nat} (h : 0 ≤ x.toInt ∧ x.toInt ≤ (n : Int)) : ∃ j : Nat, j ≤ n ∧ x = nI j := by
  refine ⟨x.toInt.toNat, by omega, ?_⟩
  have h1 := Int32.toInt_lt x
  refine Int32.toInt_inj.mp ?_
  rw [nI_toInt (by omega)]
  omega
theorem ev_k : ∀ n, n < 7 → 0 ≤ (((1 : Int32) <<< (nI n &&& 31)) - 1).toInt ∧ (((1 : Int32) <<< (nI n &&& 31)) - 1).toInt ≤ 63 := by decide +kernel
theorem shl_k : ∀ n, n < 17 → 1 ≤ ((1 : Int32) <<< (nI n &&& 31)).toInt ∧ ((1 : Int32) <<< (nI n &&& 31)).toInt ≤ 65536 := by decide +kernel
theorem shl_rng {x : Int32} (h : 0 ≤ x.toInt ∧ x.toInt ≤ 16) : 1 ≤ ((1 : Int32) <<< (x &&& 31)).toInt ∧ ((1 : Int32) <<< (x &&& 31)).toInt ≤ 65536 := by
  obtain ⟨j, hj, rfl⟩ := small_nI (n := 16) h
  exact shl_k j (by omega)
theorem ga_sa_ne {σ : MS} {k : Nat} {i j v : Int32} {X Y : Int} (hi : i.toInt = X) (hj : j.toInt = Y) (h : X.toNat ≠ Y.toNat) : ga (sa σ k i v) k j = ga σ k j := by
  have a : i.toNatClampNeg = X.toNat := by rw [← hi]; rfl
  have b : j.toNatClampNeg = Y.toNat := by rw [← hj]; rfl
  have hne : ¬ j.toNatClampNeg = i.toNatClampNeg := by rw [a, b]; exact fun q => h q.symm
  simp [ga, sa, va_up, upd, hne]
theorem ga_sa_eq {σ : MS} {k : Nat} {i v : Int32} : ga (sa σ k i v) k i = v := by simp [ga, sa, va_up, upd]
theorem ga_sa_k {σ : MS} {k k' : Nat} {i j v : Int32} (h : k' ≠ k) : ga (sa σ k i v) k' j = ga σ k' j := by simp [ga, sa, va_up, h]
theorem sk_k : ∀ n, n < 32 → ((0 : Int32) >>> (nI n &&& 31)) &&& 1 = 0 := by decide +kernel
theorem lne {x : Int64} (h : ¬ lg_cmp x 0 = 0) : ¬ x = 0 := fun q => h (by rw [q]; rfl)
theorem leq {x : Int64} (h : lg_cmp x 0 = 0) : x = 0 := by
  unfold lg_cmp at h
  split at h
  · exact absurd h (by decide)
  · split at h
    · assumption
    · exact absurd h (by decide)
theorem l_bm {x : Int} (h : -9223372036854775808 ≤ x ∧ x < 9223372036854775808) : x.bmod (2 ^ 64) = x := by
  rw [Int.bmod_def]; split <;> omega
theorem lrem_toInt (a b : Int64) (hb : ¬ b = 0) : (a - a / b * b).toInt = a.toInt.tmod b.toInt := by
  have hb' : b.toInt ≠ 0 := fun q => hb (Int64.toInt_inj.mp q)
  have h1 := Int64.toInt_lt a
  have h2 := Int64.le_toInt a
  have h3 := Int64.toInt_lt b
  have h4 := Int64.le_toInt b
  rw [Int64.toInt_sub, Int64.toInt_mul, Int64.toInt_div, Int.sub_bmod_bmod]
  rw [Int.sub_bmod, Int.bmod_mul_bmod, ← Int.sub_bmod, Int.mul_comm, ← Int.tmod_def]
  refine l_bm ?_
  have h5 := Int.natAbs_tmod a.toInt b.toInt
  have h6 : a.toInt.natAbs % b.toInt.natAbs < b.toInt.natAbs := Nat.mod_lt _ (by omega)
  have h7 : a.toInt.natAbs % b.toInt.natAbs ≤ a.toInt.natAbs := Nat.mod_le _ _
  omega
theorem lrem_abs (a b r : Int64) (h : r = a - a / b * b) (hb : ¬ b = 0) : r.toInt.natAbs < b.toInt.natAbs := by
  have hb' : b.toInt ≠ 0 := fun q => hb (Int64.toInt_inj.mp q)
  rw [h, lrem_toInt a b hb, Int.natAbs_tmod]
  exact Nat.mod_lt _ (by omega)
theorem and63 {x y : Int32} (h : 0 ≤ x.toInt ∧ x.toInt ≤ 63) : 0 ≤ (x &&& y).toInt ∧ (x &&& y).toInt ≤ 63 := by
  have := and_rng (y := y) h.1
  omega
theorem or_k : ∀ a, a < 64 → ∀ b, b < 6 → (nI a).toInt ≤ (nI a ||| ((1 : Int32) <<< (nI b &&& 31))).toInt ∧ (nI a ||| ((1 : Int32) <<< (nI b &&& 31))).toInt ≤ 63 := by decide +kernel
theorem or_rng {x b : Int32} (h : 0 ≤ x.toInt ∧ x.toInt ≤ 63) (hb : 0 ≤ b.toInt ∧ b.toInt ≤ 5) : x.toInt ≤ (x ||| ((1 : Int32) <<< (b &&& 31))).toInt ∧ (x ||| ((1 : Int32) <<< (b &&& 31))).toInt ≤ 63 := by
  obtain ⟨j, hj, rfl⟩ := small_nI (n := 63) h
  obtain ⟨k, hk, rfl⟩ := small_nI (n := 5) hb
  exact or_k j (by omega) k (by omega)
theorem shl5_k : ∀ b, b < 6 → 1 ≤ ((1 : Int32) <<< (nI b &&& 31)).toInt ∧ ((1 : Int32) <<< (nI b &&& 31)).toInt ≤ 63 := by decide +kernel
theorem shl5_rng {b : Int32} (hb : 0 ≤ b.toInt ∧ b.toInt ≤ 5) : 1 ≤ ((1 : Int32) <<< (b &&& 31)).toInt ∧ ((1 : Int32) <<< (b &&& 31)).toInt ≤ 63 := by
  obtain ⟨k, hk, rfl⟩ := small_nI (n := 5) hb
  exact shl5_k k (by omega)
theorem isFrom_i {x : Int32} {a b : Int64} {A B : Int} (ha : a.toInt = A) (hb : b.toInt = B) (h : a.toInt ≤ x.toInt64.toInt ∧ x.toInt64.toInt ≤ b.toInt) : A ≤ x.toInt ∧ x.toInt ≤ B := by
  rw [Int32.toInt_toInt64, ha, hb] at h; exact h
theorem ne_pos {x : Int32} (h : 1 ≤ x.toInt) : ¬ x = 0 := by
  intro q; rw [q] at h; exact absurd h (by decide)
theorem lg_lt0 (x y : Int64) : lg_cmp x y < 0 ↔ x.toInt < y.toInt := by
  unfold lg_cmp
  simp only [gt_iff_lt, Int64.lt_iff_toInt_lt, ← Int64.toInt_inj]
  repeat' split
  all_goals (constructor <;> intro hh <;> first | omega | decide | exact absurd hh (by decide))
theorem lg_gt0 (x y : Int64) : 0 < lg_cmp x y ↔ y.toInt < x.toInt := by
  unfold lg_cmp
  simp only [gt_iff_lt, Int64.lt_iff_toInt_lt, ← Int64.toInt_inj]
  repeat' split
  all_goals (constructor <;> intro hh <;> first | omega | decide | exact absurd hh (by decide))
theorem or63_k : ∀ a, a < 64 → ∀ b, b < 64 → 0 ≤ (nI a ||| nI b).toInt ∧ (nI a ||| nI b).toInt ≤ 63 := by decide +kernel
theorem or63 {x y : Int32} (h : 0 ≤ x.toInt ∧ x.toInt ≤ 63) (h2 : 0 ≤ y.toInt ∧ y.toInt ≤ 63) : 0 ≤ (x ||| y).toInt ∧ (x ||| y).toInt ≤ 63 := by
  obtain ⟨j, hj, rfl⟩ := small_nI (n := 63) h
  obtain ⟨k, hk, rfl⟩ := small_nI (n := 63) h2
  exact or63_k j (by omega) k (by omega)
theorem ix63 {x : Int32} (h : 0 ≤ x.toInt ∧ x.toInt ≤ 63) : vp_in x 64 := ix_of rfl (by omega)
theorem l2i_rng {y : Int64} {n : Int32} (hn : 0 ≤ n.toInt ∧ n.toInt ≤ 6) (h : (0 : Int64).toInt ≤ y.toInt ∧ y.toInt ≤ (n.toInt64 - 1).toInt) : 0 ≤ y.toInt32.toInt ∧ y.toInt32.toInt < n.toInt ∧ y.toInt32.toInt = y.toInt := by
  have e : (n.toInt64 - 1).toInt = n.toInt - 1 := by
    rw [Int64.toInt_sub, Int32.toInt_toInt64, show (1 : Int64).toInt = 1 from rfl]; exact l_bm (by omega)
  have z : (0 : Int64).toInt = 0 := rfl
  have t : y.toInt32.toInt = y.toInt := by
    rw [Int64.toInt_toInt32]; exact i_bm (by omega)
  omega
theorem irem_toInt (a b : Int32) (hb : ¬ b = 0) : (a - a / b * b).toInt = a.toInt.tmod b.toInt := by
  have hb' : b.toInt ≠ 0 := fun q => hb (Int32.toInt_inj.mp q)
  have h1 := Int32.toInt_lt a
  have h2 := Int32.le_toInt a
  have h3 := Int32.toInt_lt b
  have h4 := Int32.le_toInt b
  rw [Int32.toInt_sub, Int32.toInt_mul, Int32.toInt_div, Int.sub_bmod_bmod]
  rw [Int.sub_bmod, Int.bmod_mul_bmod, ← Int.sub_bmod, Int.mul_comm, ← Int.tmod_def]
  refine i_bm ?_
  have h5 := Int.natAbs_tmod a.toInt b.toInt
  have h6 : a.toInt.natAbs % b.toInt.natAbs < b.toInt.natAbs := Nat.mod_lt _ (by omega)
  have h7 : a.toInt.natAbs % b.toInt.natAbs ≤ a.toInt.natAbs := Nat.mod_le _ _
  omega
theorem irem_rng {a b : Int32} (ha : 0 ≤ a.toInt) (hb : 1 ≤ b.toInt) : 0 ≤ (a - a / b * b).toInt ∧ (a - a / b * b).toInt < b.toInt := by
  rw [irem_toInt a b (ne_pos hb), Int.tmod_eq_emod_of_nonneg ha]
  exact ⟨Int.emod_nonneg _ (by omega), Int.emod_lt_of_pos _ (by omega)⟩
theorem idiv_toInt {a b : Int32} (ha : 0 ≤ a.toInt) (hb : 1 ≤ b.toInt) : (a / b).toInt = a.toInt / b.toInt := by
  rw [Int32.toInt_div, Int.tdiv_eq_ediv_of_nonneg ha]
  have h1 := Int32.toInt_lt a
  have h2 : 0 ≤ a.toInt / b.toInt := Int.ediv_nonneg ha (by omega)
  have h3 : a.toInt / b.toInt ≤ a.toInt := Int.ediv_le_self _ ha
  exact i_bm (by omega)
theorem draw_rng {x : Int32} (h : 0 ≤ x.toInt ∧ x.toInt ≤ 65535) : 0 ≤ (((x * 2917) + 11119) - ((((x * 2917) + 11119) / 65536) * 65536)).toInt ∧ (((x * 2917) + 11119) - ((((x * 2917) + 11119) / 65536) * 65536)).toInt ≤ 65535 := by
  have t : ((x * 2917) + 11119).toInt = x.toInt * 2917 + 11119 := i_add (i_mul rfl (show (2917 : Int32).toInt = 2917 from rfl) (by omega)) (show (11119 : Int32).toInt = 11119 from rfl) (by omega)
  have z : (65536 : Int32).toInt = 65536 := rfl
  have := irem_rng (a := (x * 2917) + 11119) (b := 65536) (by omega) (by omega)
  omega
theorem hY_sa {σ : MS} {i v : Int32} {X : Int} {f : Int32 → Int32} (hi : i.toInt = X) (h : 0 ≤ X ∧ X < 130) (hY : ∀ j : Int32, 130 ≤ j.toInt → ga σ 0 j = f j) : ∀ j : Int32, 130 ≤ j.toInt → ga (sa σ 0 i v) 0 j = f j := by
  intro j hj
  rw [ga_sa_ne hi rfl (by omega)]
  exact hY j hj
def CV (d v : Int) : Prop := (d = 0 → 0 ≤ v ∧ v ≤ 6) ∧ (d = 1 → 0 ≤ v ∧ v ≤ 3) ∧ (d = 2 → 0 ≤ v ∧ v ≤ 16) ∧ (d = 3 → 0 ≤ v ∧ v ≤ 2) ∧ (d = 4 → 0 ≤ v ∧ v ≤ 3) ∧ ((d = 7 ∨ d = 8) → 0 ≤ v ∧ v ≤ 63) ∧ ((12 ≤ d ∧ d < 60) → (((d - 12) % 8 = 0 → 0 ≤ v ∧ v ≤ 16) ∧ ((d - 12) % 8 = 1 → 0 ≤ v ∧ v ≤ 20) ∧ ((d - 12) % 8 = 2 → 0 ≤ v ∧ v ≤ 99) ∧ ((d - 12) % 8 = 3 → 0 ≤ v ∧ v ≤ 999) ∧ ((d - 12) % 8 = 4 → -1 ≤ v ∧ v ≤ 5))) ∧ ((60 ≤ d ∧ d < 92) → ((d % 2 = 0 → 0 ≤ v ∧ v ≤ 999) ∧ (d % 2 = 1 → -1 ≤ v ∧ v ≤ 5))) ∧ ((92 ≤ d ∧ d < 128) → 0 ≤ v ∧ v ≤ 999999)
/-- a slot's cells are in range -/
def SL (σ : MS) (B : Int) : Prop := ∀ j : Int32, B ≤ j.toInt → j.toInt < B + 130 → CV (j.toInt - B) (ga σ 0 j).toInt
theorem SL_sa {σ : MS} {i v : Int32} {X B : Int} (hi : i.toInt = X) (hX : 0 ≤ X) (hB : 0 ≤ B) (hv : B ≤ X → X < B + 130 → CV (X - B) v.toInt) (h : SL σ B) : SL (sa σ 0 i v) B := by
  intro j h0 h1
  by_cases q : j.toInt = X
  · have e : j = i := Int32.toInt_inj.mp (q.trans hi.symm)
    subst e
    rw [ga_sa_eq, q]; exact hv (by omega) (by omega)
  · rw [ga_sa_ne hi rfl (by omega)]; exact h j h0 h1
theorem SL_A0 {σ u : MS} {B : Int} (hA : ∀ j : Int32, ga u 0 j = ga σ 0 j) (h : SL σ B) : SL u B := by
  intro j h0 h1
  rw [hA j]; exact h j h0 h1
theorem SL_A1 {σ u : MS} {B : Int} {p : Int32} (hA : ∀ j : Int32, 0 ≤ j.toInt → ¬ j.toInt = p.toInt → ga u 0 j = ga σ 0 j) (hB : 0 ≤ B) (hv : B ≤ p.toInt → p.toInt < B + 130 → ga u 0 p = ga σ 0 p ∨ CV (p.toInt - B) (ga u 0 p).toInt) (h : SL σ B) : SL u B := by
  intro j h0 h1
  by_cases q : j.toInt = p.toInt
  · have e : j = p := Int32.toInt_inj.mp q
    subst e
    rcases hv h0 h1 with z | z
    · rw [z]; exact h j h0 h1
    · exact z
  · rw [hA j (by omega) q]; exact h j h0 h1
theorem SL_num {σ u : MS} {B lo hi : Int} {p : Int32} (hA : ∀ j : Int32, 0 ≤ j.toInt → ¬ j.toInt = p.toInt → ga u 0 j = ga σ 0 j) (hw : ga u 0 p = ga σ 0 p ∨ (lo ≤ (ga u 0 p).toInt ∧ (ga u 0 p).toInt ≤ hi)) (hB : 0 ≤ B) (hc : B ≤ p.toInt → p.toInt < B + 130 → ∀ v, lo ≤ v → v ≤ hi → CV (p.toInt - B) v) (h : SL σ B) : SL u B :=
  SL_A1 hA hB (fun h0 h1 => hw.elim Or.inl (fun z => Or.inr (hc h0 h1 _ z.1 z.2))) h
/-- the new table's dishes have a price -/
def DP (σ : MS) : Prop := ∀ j : Int32, 2060 ≤ j.toInt → j.toInt < 2060 + 2 * (ga σ 0 (2002 : Int32)).toInt → j.toInt % 2 = 0 → 1 ≤ (ga σ 0 j).toInt
theorem DP_sa {σ : MS} {i v : Int32} {X : Int} (hi : i.toInt = X) (hX : 0 ≤ X) (h2 : X ≠ 2002) (hv : 2060 ≤ X → X < 2060 + 2 * (ga σ 0 (2002 : Int32)).toInt → X % 2 = 0 → 1 ≤ v.toInt) (h : DP σ) : DP (sa σ 0 i v) := by
  intro j h0 h1 h3
  rw [ga_sa_ne (j := (2002 : Int32)) hi (show (2002 : Int32).toInt = 2002 from rfl) (by omega)] at h1
  by_cases q : j.toInt = X
  · have e : j = i := Int32.toInt_inj.mp (q.trans hi.symm)
    subst e
    rw [ga_sa_eq]; exact hv (by omega) (by omega) (by omega)
  · rw [ga_sa_ne hi rfl (by omega)]; exact h j h0 h1 h3
theorem DP_A0 {σ u : MS} (hA : ∀ j : Int32, ga u 0 j = ga σ 0 j) (h : DP σ) : DP u := by
  intro j h0 h1 h3
  rw [hA] at h1
  rw [hA j]; exact h j h0 h1 h3
theorem DP_A1 {σ u : MS} {p : Int32} (hA : ∀ j : Int32, 0 ≤ j.toInt → ¬ j.toInt = p.toInt → ga u 0 j = ga σ 0 j) (h2 : ¬ p.toInt = 2002) (hv : 2060 ≤ p.toInt → p.toInt < 2060 + 2 * (ga σ 0 (2002 : Int32)).toInt → p.toInt % 2 = 0 → 1 ≤ (ga u 0 p).toInt) (h : DP σ) : DP u := by
  have z : (2002 : Int32).toInt = 2002 := rfl
  intro j h0 h1 h3
  rw [hA 2002 (by omega) (by omega)] at h1
  by_cases q : j.toInt = p.toInt
  · have e : j = p := Int32.toInt_inj.mp q
    subst e
    exact hv h0 h1 h3
  · rw [hA j (by omega) q]; exact h j h0 h1 h3
theorem DP_inc {σ : MS} {d v : Int32} (hd : d.toInt = 2060 + 2 * (ga σ 0 (2002 : Int32)).toInt) (hp : 1 ≤ (ga σ 0 d).toInt) (hv : v.toInt = (ga σ 0 (2002 : Int32)).toInt + 1) (h : DP σ) : DP (sa σ 0 2002 v) := by
  have z : (2002 : Int32).toInt = 2002 := rfl
  intro j h0 h1 h3
  rw [ga_sa_eq, hv] at h1
  rw [ga_sa_ne z rfl (by omega)]
  by_cases q : j.toInt = d.toInt
  · have e : j = d := Int32.toInt_inj.mp q
    subst e; exact hp
  · exact h j h0 (by omega) h3
theorem gb_sb_ne {σ : MS} {k : Nat} {i j : Int32} {v : Int64} {X Y : Int} (hi : i.toInt = X) (hj : j.toInt = Y) (h : X.toNat ≠ Y.toNat) : gb (sb σ k i v) k j = gb σ k j := by
  have a : i.toNatClampNeg = X.toNat := by rw [← hi]; rfl
  have b : j.toNatClampNeg = Y.toNat := by rw [← hj]; rfl
  have hne : ¬ j.toNatClampNeg = i.toNatClampNeg := by rw [a, b]; exact fun q => h q.symm
  simp [gb, sb, va_up, vp_updL, hne]
theorem gb_sb_eq {σ : MS} {k : Nat} {i : Int32} {v : Int64} : gb (sb σ k i v) k i = v := by simp [gb, sb, va_up, vp_updL]
theorem gb_sb_k {σ : MS} {k k' : Nat} {i j : Int32} {v : Int64} (h : k' ≠ k) : gb (sb σ k i v) k' j = gb σ k' j := by simp [gb, sb, va_up, h]
/-- what is left as it was: int fields but those listed, arrays but those listed, cells of the great row and of the names but those allowed -/
def Fr (I A : List Nat) (a0 n0 : Int → Prop) (σ u : MS) : Prop := (∀ k, k ∉ I → gi u k = gi σ k) ∧ (∀ k, gl u k = gl σ k) ∧ (∀ k i, k ≠ 0 → k ∉ A → ga u k i = ga σ k i) ∧ (∀ j : Int32, 0 ≤ j.toInt → ¬ a0 j.toInt → ga u 0 j = ga σ 0 j) ∧ (∀ k j, k ≠ 1 → gb u k j = gb σ k j) ∧ (∀ j : Int32, 0 ≤ j.toInt → ¬ n0 j.toInt → gb u 1 j = gb σ 1 j)
section FRS
variable {I A I' A' : List Nat} {a0 n0 a0' n0' : Int → Prop} {σ u w : MS}
theorem Fr.rf : Fr I A a0 n0 σ σ := ⟨fun _ _ => rfl, fun _ => rfl, fun _ _ _ _ => rfl, fun _ _ _ => rfl, fun _ _ _ => rfl, fun _ _ _ => rfl⟩
theorem Fr.tr2 (h : Fr I A a0 n0 σ u) (h2 : Fr I' A' a0' n0' u w) (hI : ∀ k, k ∈ I' → k ∈ I) (hA : ∀ k, k ∈ A' → k ∈ A) (ha : ∀ j, a0' j → a0 j) (hn : ∀ j, n0' j → n0 j) : Fr I A a0 n0 σ w :=
  ⟨fun k q => (h2.1 k (fun z => q (hI k z))).trans (h.1 k q), fun k => (h2.2.1 k).trans (h.2.1 k), fun k i q q2 => (h2.2.2.1 k i q (fun z => q2 (hA k z))).trans (h.2.2.1 k i q q2), fun j q q2 => (h2.2.2.2.1 j q (fun z => q2 (ha _ z))).trans (h.2.2.2.1 j q q2), fun k j q => (h2.2.2.2.2.1 k j q).trans (h.2.2.2.2.1 k j q), fun j q q2 => (h2.2.2.2.2.2 j q (fun z => q2 (hn _ z))).trans (h.2.2.2.2.2 j q q2)⟩
theorem Fr.tr (h : Fr I A a0 n0 σ u) (h2 : Fr I A a0 n0 u w) : Fr I A a0 n0 σ w := h.tr2 h2 (fun _ q => q) (fun _ q => q) (fun _ q => q) (fun _ q => q)
theorem Fr_si {k : Nat} {v : Int32} (hk : k ∈ I) (h : Fr I A a0 n0 σ u) : Fr I A a0 n0 σ (si u k v) :=
  h.tr ⟨fun j q => by
    have hne : j ≠ k := fun e => q (e ▸ hk)
    show upd u.1 k v j = u.1 j
    simp [upd, hne], fun _ => rfl, fun _ _ _ _ => rfl, fun _ _ _ => rfl, fun _ _ _ => rfl, fun _ _ _ => rfl⟩
theorem Fr_sa {i v : Int32} {X : Int} (hi : i.toInt = X) (hX : a0 X) (h0 : 0 ≤ X) (h : Fr I A a0 n0 σ u) : Fr I A a0 n0 σ (sa u 0 i v) :=
  h.tr ⟨fun _ _ => rfl, fun _ => rfl, fun _ _ q _ => ga_sa_k q, fun j h1 q => ga_sa_ne hi rfl (fun e => q (by
    have e2 : X = j.toInt := by omega
    rw [← e2]; exact hX)), fun _ _ _ => rfl, fun _ _ _ => rfl⟩
theorem Fr_xa {k : Nat} {i v : Int32} (hk : k ∈ A) (hk0 : k ≠ 0) (h : Fr I A a0 n0 σ u) : Fr I A a0 n0 σ (sa u k i v) :=
  h.tr ⟨fun _ _ => rfl, fun _ => rfl, fun j _ _ q => ga_sa_k (fun e => q (e ▸ hk)), fun _ _ _ => ga_sa_k (fun e => hk0 e.symm), fun _ _ _ => rfl, fun _ _ _ => rfl⟩
theorem Fr_xb {i : Int32} {v : Int64} {X : Int} (hi : i.toInt = X) (hX : n0 X) (h0 : 0 ≤ X) (h : Fr I A a0 n0 σ u) : Fr I A a0 n0 σ (sb u 1 i v) :=
  h.tr ⟨fun _ _ => rfl, fun _ => rfl, fun _ _ _ _ => rfl, fun _ _ _ => rfl, fun _ _ q => gb_sb_k q, fun j h1 q => gb_sb_ne hi rfl (fun e => q (by
    have e2 : X = j.toInt := by omega
    rw [← e2]; exact hX))⟩
end FRS
/-- what the reading of a text leaves as it was -/
abbrev PFr (σ u : MS) : Prop := Fr [12, 13, 14, 15, 17, 18, 20] [] (fun j => 2000 ≤ j) (fun j => 24 ≤ j) σ u
abbrev YFr (σ u : MS) : Prop := Fr [12, 13, 14, 15, 17, 18, 20, 22, 23] [21] (fun j => 2000 ≤ j) (fun j => 24 ≤ j) σ u
abbrev BFr (σ u : MS) : Prop := Fr [10, 11, 12, 13, 14, 15, 17, 18, 19, 20] [9] (fun j => 2000 ≤ j) (fun j => 24 ≤ j) σ u
abbrev TFr (σ u : MS) : Prop := Fr [2, 10, 11, 12, 13, 14, 15, 16, 17, 18, 19, 20] [9] (fun j => j < 500 ∨ 2000 ≤ j) (fun j => j < 6 ∨ 24 ≤ j) σ u
abbrev UFr (σ u : MS) : Prop := Fr [2, 10, 11, 12, 13, 14, 15, 16, 17, 18, 19, 20, 22, 23] [9, 21] (fun j => j < 500 ∨ 2000 ≤ j) (fun j => j < 6 ∨ 24 ≤ j) σ u
abbrev MFr (σ u : MS) : Prop := Fr [2, 28, 29, 33] [24, 25, 26, 30, 31, 32] (fun j => j < 130) (fun _ => False) σ u
abbrev NFr (σ u : MS) : Prop := Fr [2, 28, 29, 33] [24, 25, 26, 30, 31, 32] (fun j => j < 130 ∨ 2500 ≤ j) (fun _ => False) σ u
theorem PFr_gi {σ u : MS} (h : PFr σ u) (k : Nat) (hk : k ∉ [12, 13, 14, 15, 17, 18, 20]) : gi u k = gi σ k := h.1 k hk
/-- what the clearing of a slot leaves as it was -/
def PLf (σ u : MS) (P : Int) : Prop := (∀ k, gi u k = gi σ k) ∧ (∀ k, gl u k = gl σ k) ∧ (∀ k i, k ≠ 0 → ga u k i = ga σ k i) ∧ (∀ k i, gb u k i = gb σ k i) ∧ (∀ j : Int32, 0 ≤ j.toInt → (j.toInt < P ∨ P + 500 ≤ j.toInt) → ga u 0 j = ga σ 0 j)
theorem PLf_rfl {σ : MS} {P : Int} : PLf σ σ P := ⟨fun _ => rfl, fun _ => rfl, fun _ _ _ => rfl, fun _ _ => rfl, fun _ _ _ => rfl⟩
theorem PLf_sa {σ u : MS} {i v : Int32} {X P : Int} (hi : i.toInt = X) (hX : 0 ≤ X ∧ P ≤ X ∧ X < P + 500) (h : PLf σ u P) : PLf σ (sa u 0 i v) P :=
  ⟨h.1, h.2.1, fun k j q => (ga_sa_k q).trans (h.2.2.1 k j q), h.2.2.2.1, fun j h0 q => (ga_sa_ne hi rfl (by omega)).trans (h.2.2.2.2 j h0 q)⟩
theorem PLf.fr {σ u : MS} {P : Int} (hP : 2000 ≤ P) (h : PLf σ u P) : PFr σ u :=
  ⟨fun k _ => h.1 k, h.2.1, fun k i q _ => h.2.2.1 k i q, fun j h0 h1 => h.2.2.2.2 j h0 (Or.inl (by have : ¬ 2000 ≤ j.toInt := h1; omega)), fun k j _ => h.2.2.2.1 k j, fun j _ _ => h.2.2.2.1 1 j⟩
theorem pz_sa {σ : MS} {i : Int32} {X P : Int} (hi : i.toInt = X) (hP : 0 ≤ P) (h : ∀ j : Int32, P ≤ j.toInt → j.toInt < X → ga σ 0 j = 0) : ∀ j : Int32, P ≤ j.toInt → j.toInt < X + 1 → ga (sa σ 0 i 0) 0 j = 0 := by
  intro j h0 h1
  by_cases q : j.toInt = X
  · have e : j = i := Int32.toInt_inj.mp (q.trans hi.symm)
    subst e; exact ga_sa_eq
  · rw [ga_sa_ne hi rfl (by omega)]; exact h j h0 (by omega)
theorem SL_pz {u : MS} {P : Int} (hP : 0 ≤ P) (h : ∀ j : Int32, P ≤ j.toInt → j.toInt < P + 500 → ¬ j.toInt = P + 9 → ga u 0 j = 0) : SL u P := by
  intro j h0 h1
  by_cases q : j.toInt = P + 9
  · unfold CV; omega
  · rw [h j h0 (by omega) q, show (0 : Int32).toInt = 0 from rfl]
    unfold CV; omega
theorem hOP_sa {σ : MS} {i v : Int32} {X : Int} (hi : i.toInt = X) (hX : 0 ≤ X) (hv : 0 ≤ v.toInt ∧ v.toInt ≤ 59) (h : ∀ d : Int32, (0 ≤ d.toInt ∧ d.toInt ≤ 2) → 0 ≤ (ga σ 21 d).toInt ∧ (ga σ 21 d).toInt ≤ 59) : ∀ d : Int32, (0 ≤ d.toInt ∧ d.toInt ≤ 2) → 0 ≤ (ga (sa σ 21 i v) 21 d).toInt ∧ (ga (sa σ 21 i v) 21 d).toInt ≤ 59 := by
  intro d hd
  by_cases q : d.toInt = X
  · have e : d = i := Int32.toInt_inj.mp (q.trans hi.symm)
    subst e
    rw [ga_sa_eq]; exact hv
  · rw [ga_sa_ne hi rfl (by omega)]; exact h d hd
