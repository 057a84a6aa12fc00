/-! A YEAR LIVED: one act, both sides -/
set_option maxRecDepth 100000
abbrev LFa (σ u : MS) : Prop := Fr [28, 29] [31] (fun j => j = 5 ∨ j = 6 ∨ (12 ≤ j ∧ j < 60) ∨ (92 ≤ j ∧ j < 128)) (fun _ => False) σ u
theorem LFa.of {μ u : MS} (h : KP μ u) : LFa μ u := Fr.tr2 (I := [28, 29]) (A := [31]) Fr.rf h (fun _ q => absurd q (by simp)) (fun _ q => absurd q (by simp)) (fun _ q => q) (fun _ q => q)
abbrev LFr (σ u : MS) : Prop := Fr [28, 29] [30, 31] (fun j => j = 5 ∨ j = 6 ∨ (12 ≤ j ∧ j < 60) ∨ (92 ≤ j ∧ j < 128)) (fun _ => False) σ u
theorem LFa.lf {μ u : MS} (h : LFa μ u) : LFr μ u := Fr.tr2 (I := [28, 29]) (A := [30, 31]) Fr.rf h (fun _ q => q) (fun k q => by simp at q ⊢; exact Or.inr q) (fun _ q => q) (fun _ q => q)
/-- the living and its table against the reference: how often one paid at most, M -/
def LV (M : Int) (σ : MS × MS) (μ : MS) : Prop :=
  RT (ttb σ) μ ∧ (SL μ 0 ∧ PB μ M) ∧ (gi (own σ) 1 = gi μ 28 ∧ gi (own σ) 2 = gi μ 29 ∧ gi (own σ) 3 = ga μ 31 0 ∧ gi (own σ) 4 = ga μ 31 1 ∧ gi (own σ) 5 = ga μ 31 2 ∧ gi (own σ) 6 = ga μ 31 3 ∧ gi (own σ) 8 = ga μ 31 4) ∧ (0 ≤ (gi μ 28).toInt ∧ (gi μ 28).toInt ≤ 65535)
/-- what an act leaves of the living -/
def KO (σ σ' : MS × MS) : Prop := gi (own σ') 2 = gi (own σ) 2 ∧ gi (own σ') 7 = gi (own σ) 7 ∧ gi (own σ') 3 = gi (own σ) 3
theorem KO.rf {σ : MS × MS} : KO σ σ := ⟨rfl, rfl, rfl⟩
theorem KO.tr {σ σ' σ'' : MS × MS} (h : KO σ σ') (h2 : KO σ' σ'') : KO σ σ'' := ⟨h2.1.trans h.1, h2.2.1.trans h.2.1, h2.2.2.trans h.2.2⟩
section LV1
variable {M : Int} {σ : MS × MS} {μ u : MS}
theorem LV.mono (h : LV M σ μ) {M' : Int} (hm : M ≤ M') : LV M' σ μ := ⟨h.1, ⟨h.2.1.1, h.2.1.2.mono hm⟩, h.2.2⟩
theorem LV.n (h : LV M σ μ) : 0 ≤ (ga μ 0 0).toInt ∧ (ga μ 0 0).toInt ≤ 6 := SL_p h.2.1.1
theorem k31 (h : KP μ u) (i : Int32) : ga u 31 i = ga μ 31 i := h.2.2.1 31 i (by decide) (by simp)
theorem kgi (h : KP μ u) (k : Nat) : gi u k = gi μ k := h.1 k (by simp)
/-- the table's part has changed, alike -/
theorem lv_tab {M' : Int} {τ' : MS} (h : LV M σ μ) (hR : RT τ' u) (hS : SL u 0) (hB : PB u M') (hK : KP μ u) : LV M' (tput σ τ') u :=
  ⟨hR, ⟨hS, hB⟩, by
    simp only [k31 hK, kgi hK]
    exact h.2.2.1, by rw [kgi hK]; exact h.2.2.2⟩
theorem lv_i3 (h : LV M σ μ) : LV M (lsi σ 3 (gi (own σ) 3 + 1)) (sa μ 31 0 (ga μ 31 0 + 1)) :=
  ⟨h.1, h.2.1, ⟨h.2.2.1.1, h.2.2.1.2.1, by rw [ga_sa_eq, ← h.2.2.1.2.2.1]; rfl, by rw [ga_sa_ne z_0 z_1 (by decide)]; exact h.2.2.1.2.2.2.1, by rw [ga_sa_ne z_0 z_2 (by decide)]; exact h.2.2.1.2.2.2.2.1, by rw [ga_sa_ne z_0 z_3 (by decide)]; exact h.2.2.1.2.2.2.2.2.1, by rw [ga_sa_ne z_0 z_4 (by decide)]; exact h.2.2.1.2.2.2.2.2.2⟩, h.2.2.2⟩
theorem lv_i4 (h : LV M σ μ) : LV M (lsi σ 4 (gi (own σ) 4 + 1)) (sa μ 31 1 (ga μ 31 1 + 1)) :=
  ⟨h.1, h.2.1, ⟨h.2.2.1.1, h.2.2.1.2.1, by rw [ga_sa_ne z_1 z_0 (by decide)]; exact h.2.2.1.2.2.1, by rw [ga_sa_eq, ← h.2.2.1.2.2.2.1]; rfl, by rw [ga_sa_ne z_1 z_2 (by decide)]; exact h.2.2.1.2.2.2.2.1, by rw [ga_sa_ne z_1 z_3 (by decide)]; exact h.2.2.1.2.2.2.2.2.1, by rw [ga_sa_ne z_1 z_4 (by decide)]; exact h.2.2.1.2.2.2.2.2.2⟩, h.2.2.2⟩
theorem lv_i5 (h : LV M σ μ) : LV M (lsi σ 5 (gi (own σ) 5 + 1)) (sa μ 31 2 (ga μ 31 2 + 1)) :=
  ⟨h.1, h.2.1, ⟨h.2.2.1.1, h.2.2.1.2.1, by rw [ga_sa_ne z_2 z_0 (by decide)]; exact h.2.2.1.2.2.1, by rw [ga_sa_ne z_2 z_1 (by decide)]; exact h.2.2.1.2.2.2.1, by rw [ga_sa_eq, ← h.2.2.1.2.2.2.2.1]; rfl, by rw [ga_sa_ne z_2 z_3 (by decide)]; exact h.2.2.1.2.2.2.2.2.1, by rw [ga_sa_ne z_2 z_4 (by decide)]; exact h.2.2.1.2.2.2.2.2.2⟩, h.2.2.2⟩
theorem lv_i6 (h : LV M σ μ) : LV M (lsi σ 6 (gi (own σ) 6 + 1)) (sa μ 31 3 (ga μ 31 3 + 1)) :=
  ⟨h.1, h.2.1, ⟨h.2.2.1.1, h.2.2.1.2.1, by rw [ga_sa_ne z_3 z_0 (by decide)]; exact h.2.2.1.2.2.1, by rw [ga_sa_ne z_3 z_1 (by decide)]; exact h.2.2.1.2.2.2.1, by rw [ga_sa_ne z_3 z_2 (by decide)]; exact h.2.2.1.2.2.2.2.1, by rw [ga_sa_eq, ← h.2.2.1.2.2.2.2.2.1]; rfl, by rw [ga_sa_ne z_3 z_4 (by decide)]; exact h.2.2.1.2.2.2.2.2.2⟩, h.2.2.2⟩
theorem lf_31 {i v : Int32} : LFa μ (sa μ 31 i v) := Fr_xa (by simp) (by decide) Fr.rf
theorem lf_30 {i v : Int32} : LFr μ (sa μ 30 i v) := Fr_xa (by simp) (by decide) Fr.rf
theorem lv_draw (h : LV M σ μ) (n : Int32) : (f_X14_draw σ n).2 = (f_X6_draw μ n).2 ∧ LV M (f_X14_draw σ n).1 (f_X6_draw μ n).1 ∧ LFa μ (f_X6_draw μ n).1 ∧ KO σ (f_X14_draw σ n).1 ∧ (1 ≤ n.toInt ∧ n.toInt ≤ 200 → 0 ≤ (f_X6_draw μ n).2.toInt ∧ (f_X6_draw μ n).2.toInt < n.toInt) := by
  have e := h.2.2.1.1
  have hr := h.2.2.2
  have z1 : ((gi μ 28 * 2917) + 11119 : Int32).toInt = (gi μ 28).toInt * 2917 + 11119 := i_add (i_mul rfl (show (2917 : Int32).toInt = 2917 from rfl) (by omega)) (show (11119 : Int32).toInt = 11119 from rfl) (by omega)
  have z2 := irem_toInt ((gi μ 28 * 2917) + 11119 : Int32) 65536 (by decide)
  rw [z1, show (65536 : Int32).toInt = 65536 from rfl, Int.tmod_eq_emod_of_nonneg (by omega)] at z2
  unfold f_X14_draw f_X6_draw
  dsimp only
  rw [e]
  refine ⟨rfl, ⟨h.1, h.2.1, ⟨rfl, h.2.2.1.2⟩, ?_⟩, Fr_si (by simp) Fr.rf, ⟨rfl, rfl, rfl⟩, fun hn => ?_⟩
  · show 0 ≤ (_ - _ / _ * _ : Int32).toInt ∧ (_ - _ / _ * _ : Int32).toInt ≤ 65535
    rw [z2]; omega
  · have hq : (gi (si μ 28 ((((gi μ 28) * (2917 : Int32)) + (11119 : Int32)) - (((((gi μ 28) * (2917 : Int32)) + (11119 : Int32)) / (65536 : Int32)) * (65536 : Int32)))) 28).toInt = ((gi μ 28).toInt * 2917 + 11119) % 65536 := z2
    generalize gi (si μ 28 ((((gi μ 28) * (2917 : Int32)) + (11119 : Int32)) - (((((gi μ 28) * (2917 : Int32)) + (11119 : Int32)) / (65536 : Int32)) * (65536 : Int32)))) 28 = w at hq
    have d1 : (w / 8 : Int32).toInt = w.toInt / 8 := by
      rw [Int32.toInt_div, show (8 : Int32).toInt = 8 from rfl, Int.tdiv_eq_ediv_of_nonneg (by omega)]
      exact i_bm (by omega)
    have d2 := irem_toInt (w / 8) n (fun q => by rw [q, z_0] at hn; omega)
    rw [d1, Int.tmod_eq_emod_of_nonneg (by omega)] at d2
    rw [d2]
    exact ⟨Int.emod_nonneg _ (by omega), Int.emod_lt_of_pos _ (by omega)⟩
theorem lv_pays (h : LV M σ μ) (hM : M ≤ 1000000) {p : Int32} (hp : 0 ≤ p.toInt ∧ p.toInt < (ga μ 0 0).toInt) : (f_X14_pays σ p).2 = (f_X6_dines μ p).2 ∧ LV (M + 1) (f_X14_pays σ p).1 (f_X6_dines μ p).1 ∧ LFa μ (f_X6_dines μ p).1 ∧ KO σ (f_X14_pays σ p).1 := by
  obtain ⟨a, ⟨b1, b2, b3, b4⟩, kp⟩ := e_pays hM h.1 h.2.1.1 h.2.1.2 hp
  have hL := lv_tab h b1 b2 b3 kp
  unfold f_X14_pays f_X6_dines
  dsimp only
  rw [a]
  by_cases c : (f_X6_pays μ p).2 = 0
  · rw [if_pos c, if_pos c]
    exact ⟨rfl, hL, LFa.of kp, ⟨rfl, rfl, rfl⟩⟩
  · rw [if_neg c, if_neg c]
    exact ⟨rfl, lv_i4 hL, (LFa.of kp).tr lf_31, ⟨rfl, rfl, rfl⟩⟩
theorem par_k : ∀ j, j < 21 → ((nI j - nI j / 2 * 2 = 0) ↔ j % 2 = 0) := by decide +kernel
theorem lv_duels_L (a b : Int32) : ∀ (n j : Nat) (M : Int) (σ : MS × MS) (μ : MS), LV M σ μ → M ≤ 1000000 → (0 ≤ a.toInt ∧ a.toInt < (ga μ 0 0).toInt) → (0 ≤ b.toInt ∧ b.toInt < (ga μ 0 0).toInt) → n + j = 21 →
    (f_X13_duels_L14 n (if j % 2 = 0 then a else b) (if j % 2 = 0 then b else a) (nI j) σ).2 = (f_X6_duels_L2 a b n (nI j) μ).2 ∧ (1 ≤ n → LV (M + 1) (f_X13_duels_L14 n (if j % 2 = 0 then a else b) (if j % 2 = 0 then b else a) (nI j) σ).1 (f_X6_duels_L2 a b n (nI j) μ).1 ∧ LFa μ (f_X6_duels_L2 a b n (nI j) μ).1 ∧ KO σ (f_X13_duels_L14 n (if j % 2 = 0 then a else b) (if j % 2 = 0 then b else a) (nI j) σ).1) := by
  intro n
  induction n with
  | zero => intro j M σ μ _ _ _ _ _; exact ⟨rfl, fun q => absurd q (by omega)⟩
  | succ n ih =>
    intro j M σ μ h hM ha hb hn
    rw [f_X13_duels_L14, f_X6_duels_L2]
    dsimp only
    have hj : j < 21 := by omega
    have ej : (nI j).toInt = (j : Int) := nI_toInt (by omega)
    have hw : 0 ≤ (if j % 2 = 0 then b else a).toInt ∧ (if j % 2 = 0 then b else a).toInt < (ga μ 0 0).toInt := by split <;> assumption
    have hs : 0 ≤ (if j % 2 = 0 then a else b).toInt ∧ (if j % 2 = 0 then a else b).toInt < (ga μ 0 0).toInt := by split <;> assumption
    have jj : ∀ u : MS, (if (nI j - ((nI j / (2 : Int32)) * (2 : Int32))) = (0 : Int32) then ((f_X6_dines u b).1, (f_X6_dines u b).2) else ((f_X6_dines u a).1, (f_X6_dines u a).2)) = f_X6_dines u (if j % 2 = 0 then b else a) := by
      intro u
      by_cases c : j % 2 = 0
      · rw [if_pos ((par_k j hj).mpr c), if_pos c]
      · rw [if_neg (fun q => c ((par_k j hj).mp q)), if_neg c]
    by_cases c : (20 : Int32) ≤ nI j
    · rw [if_pos c, if_pos c, jj]
      have q := lv_pays h hM hw
      exact ⟨q.1, fun _ => q.2⟩
    · have c' := c_nle c
      rw [ej, show (20 : Int32).toInt = 20 from rfl] at c'
      rw [if_neg c, if_neg c]
      have d := lv_draw (lv_i5 h) 16
      have e5 : f_X6_draw (sa μ 31 2 (ga μ 31 2 + 1)) 16 = (sa (f_X6_draw μ 16).1 31 2 (ga (f_X6_draw μ 16).1 31 2 + 1), (f_X6_draw μ 16).2) := rfl
      rw [e5] at d
      dsimp only at d
      obtain ⟨d1, d2, d3, d4, -⟩ := d
      generalize hμ' : sa (f_X6_draw μ 16).1 31 2 (ga (f_X6_draw μ 16).1 31 2 + 1) = μ' at d2 d3
      generalize hσ' : (f_X14_draw (lsi σ 5 (gi (own σ) 5 + 1)) 16).1 = σ' at d2 d4
      have hF : LFa μ μ' := lf_31.tr d3
      have e0 : ga μ' 0 0 = ga μ 0 0 := hF.2.2.2.1 0 (by decide) (by rw [z_0]; omega)
      have et : (if (nI j - ((nI j / (2 : Int32)) * (2 : Int32))) = (0 : Int32) then a else b) = (if j % 2 = 0 then a else b) := by
        by_cases c : j % 2 = 0
        · rw [if_pos ((par_k j hj).mpr c), if_pos c]
        · rw [if_neg (fun q => c ((par_k j hj).mp q)), if_neg c]
      have ei : f_X6_insists μ' (if j % 2 = 0 then a else b) = ga (ttb σ') 21 (if j % 2 = 0 then a else b) := by
        show ga μ' 0 (f_X6_personRow _) = _
        exact (d2.1.p hs.1 (by rw [e0]; exact hs.2)).1.symm
      rw [d1, et, ei, jj]
      by_cases c2 : (f_X6_draw μ 16).2 < ga (ttb σ') 21 (if j % 2 = 0 then a else b)
      · rw [if_pos c2, if_pos c2, nI_1]
        have q := ih (j + 1) M σ' μ' d2 hM (by rw [e0]; exact ha) (by rw [e0]; exact hb) (by omega)
        have p1 : (if (j + 1) % 2 = 0 then a else b) = (if j % 2 = 0 then b else a) := by
          by_cases c : j % 2 = 0
          · rw [if_neg (by omega), if_pos c]
          · rw [if_pos (by omega), if_neg c]
        have p2 : (if (j + 1) % 2 = 0 then b else a) = (if j % 2 = 0 then a else b) := by
          by_cases c : j % 2 = 0
          · rw [if_neg (by omega), if_pos c]
          · rw [if_pos (by omega), if_neg c]
        rw [p1, p2] at q
        exact ⟨q.1, fun _ => ⟨(q.2 (by omega)).1, hF.tr (q.2 (by omega)).2.1, (KO.tr ⟨rfl, rfl, rfl⟩ d4).tr (q.2 (by omega)).2.2⟩⟩
      · rw [if_neg c2, if_neg c2]
        have q := lv_pays d2 hM (by rw [e0]; exact hw)
        exact ⟨q.1, fun _ => ⟨q.2.1, hF.tr q.2.2.1, (KO.tr ⟨rfl, rfl, rfl⟩ d4).tr q.2.2.2⟩⟩
theorem lv_duels (h : LV M σ μ) (hM : M ≤ 1000000) {a b : Int32} (ha : 0 ≤ a.toInt ∧ a.toInt < (ga μ 0 0).toInt) (hb : 0 ≤ b.toInt ∧ b.toInt < (ga μ 0 0).toInt) (w0 w3 : Int32) : (f_X13_duels σ w0 a b w3).2 = (f_X6_duels μ a b).2 ∧ LV (M + 1) (f_X13_duels σ w0 a b w3).1 (f_X6_duels μ a b).1 ∧ LFa μ (f_X6_duels μ a b).1 ∧ KO σ (f_X13_duels σ w0 a b w3).1 := by
  have q := lv_duels_L a b 21 0 M σ μ h hM ha hb rfl
  exact ⟨q.1, q.2 (by omega)⟩
/-- all that are quick -/
def qkf (μ : MS) (q : Nat) : Int := (ga μ 0 (f_X6_personRow (nI q) + 1)).toInt
theorem qk_rng (h : LV M σ μ) {q : Nat} (hq : (q : Int) < (ga μ 0 0).toInt) : 0 ≤ qkf μ q ∧ qkf μ q ≤ 20 := by
  have hn := h.n
  have e : (nI q).toInt = (q : Int) := nI_toInt (by omega)
  exact (SL_ps h.2.1.1 (p := nI q) (by omega)).2.1
theorem ev_all : ∀ n, n < 7 → ∀ p, p < n → ((((1 : Int32) <<< (nI n &&& 31)) - 1) >>> (nI p &&& 31)) &&& 1 = 1 := by decide +kernel
theorem lv_sum (h : LV M σ μ) : ∀ (n p : Nat) (s : Int32), 7 ≤ n + p → (p : Int) ≤ (ga μ 0 0).toInt → s.toInt = isum (qkf μ) p →
    (f_X13_reaches_L5 σ n s (nI p)).1 = (f_X6_quickOf_L4 μ (f_X6_everybody μ) n s (nI p)).1 ∧ (f_X6_quickOf_L4 μ (f_X6_everybody μ) n s (nI p)).1.toInt = isum (qkf μ) (ga μ 0 0).toInt.toNat := by
  have hn := h.n
  intro n
  induction n with
  | zero => intro p s h1 h2 h3; omega
  | succ n ih =>
    intro p s h1 h2 h3
    have ep : (nI p).toInt = (p : Int) := nI_toInt (by omega)
    rw [f_X13_reaches_L5, f_X6_quickOf_L4, h.1.n]
    by_cases c : ga μ 0 0 ≤ nI p
    · have c' := c_le c
      rw [if_pos c, if_pos c]
      exact ⟨rfl, by rw [h3]; congr 1; omega⟩
    · have c' := c_nle c
      rw [if_neg c, if_neg c]
      dsimp only
      have e1 : ¬ f_X6_isIn μ (f_X6_everybody μ) (nI p) = 0 := by
        rw [i_isIn]
        obtain ⟨j, hj, ej⟩ := small_nI (n := 6) (x := ga μ 0 0) (by omega)
        unfold f_X6_everybody
        rw [ej] at c' ⊢
        rw [nI_toInt (n := j) (by omega), ep] at c'
        exact not_not_intro (ev_all j (by omega) p (by omega))
      have e2 := (h.1.p (p := nI p) (by omega) c').2.1
      have r := qk_rng h (q := p) (by omega)
      have b := isum_rng (f := qkf μ) (M := 20) p (fun q hq => by have := qk_rng h (q := q) (by omega); omega)
      rw [if_neg e1, e2, nI_1]
      exact ih (p + 1) _ (by omega) (by omega) (by rw [isum]; exact i_add h3 rfl (by omega))
theorem isum_le {f : Nat → Int} : ∀ (m n : Nat), m ≤ n → (∀ q, q < n → 0 ≤ f q) → isum f m ≤ isum f n
  | m, 0, h, _ => by rw [show m = 0 by omega]; exact Int.le_refl _
  | m, n + 1, h, hf => by
    by_cases e : m = n + 1
    · rw [e]; exact Int.le_refl _
    · have := isum_le m n (by omega) (fun q hq => hf q (by omega))
      have := hf n (by omega)
      rw [isum]; omega
theorem lv_who (h : LV M σ μ) : ∀ (n p : Nat) (v : Int32), 7 ≤ n + p → (p : Int) ≤ (ga μ 0 0).toInt → 0 ≤ v.toInt → v.toInt + isum (qkf μ) p < isum (qkf μ) (ga μ 0 0).toInt.toNat →
    (f_X13_reaches_L49 σ n v (nI p)).2 = (f_X6_reaches_L23 μ n v (nI p)).2 ∧ (0 ≤ (f_X6_reaches_L23 μ n v (nI p)).2.toInt ∧ (f_X6_reaches_L23 μ n v (nI p)).2.toInt < (ga μ 0 0).toInt) := by
  have hn := h.n
  intro n
  induction n with
  | zero => intro p v h1 h2; omega
  | succ n ih =>
    intro p v h1 h2 h3 h4
    have ep : (nI p).toInt = (p : Int) := nI_toInt (by omega)
    have hp : (p : Int) < (ga μ 0 0).toInt := by
      refine Int.not_le.mp (fun q => ?_)
      rw [show (ga μ 0 0).toInt.toNat = p by omega] at h4
      omega
    have e2 := (h.1.p (p := nI p) (by omega) (by omega)).2.1
    have r := qk_rng h (q := p) hp
    have b := isum_rng (f := qkf μ) (M := 20) (ga μ 0 0).toInt.toNat (fun q hq => by have := qk_rng h (q := q) (by omega); omega)
    have b0 : 0 ≤ isum (qkf μ) p := isum_le 0 p (by omega) (fun q hq => (qk_rng h (q := q) (by omega)).1)
    rw [f_X13_reaches_L49, f_X6_reaches_L23]
    dsimp only
    rw [e2]
    by_cases c : v < ga μ 0 (f_X6_personRow (nI p) + 1)
    · rw [if_pos c, if_pos c]
      exact ⟨rfl, by rw [ep]; omega⟩
    · have c' := c_nlt c
      rw [if_neg c, if_neg c, nI_1]
      have e3 : (v - ga μ 0 (f_X6_personRow (nI p) + 1)).toInt = v.toInt - qkf μ p := i_sub rfl rfl (by omega)
      have c2 : qkf μ p ≤ v.toInt := c'
      exact ih (p + 1) _ (by omega) (by omega) (by rw [e3]; omega) (by rw [e3, isum]; omega)
theorem lv_reaches (h : LV M σ μ) (hM : M ≤ 1000000) (w0 w1 w2 w3 : Int32) : (f_X13_reaches σ w0 w1 w2 w3).2 = (f_X6_reaches μ).2 ∧ LV (M + 1) (f_X13_reaches σ w0 w1 w2 w3).1 (f_X6_reaches μ).1 ∧ LFa μ (f_X6_reaches μ).1 ∧ KO σ (f_X13_reaches σ w0 w1 w2 w3).1 := by
  have hn := h.n
  obtain ⟨s1, s2⟩ := lv_sum h 7 0 0 (by omega) (by omega) rfl
  have b := isum_rng (f := qkf μ) (M := 20) (ga μ 0 0).toInt.toNat (fun q hq => by have := qk_rng h (q := q) (by omega); omega)
  have b0 : 0 ≤ isum (qkf μ) (ga μ 0 0).toInt.toNat := isum_le 0 _ (by omega) (fun q hq => (qk_rng h (q := q) (by omega)).1)
  rw [nI_0] at s1 s2
  unfold f_X13_reaches f_X6_reaches f_X6_quickOf
  dsimp only
  rw [s1]
  generalize (f_X6_quickOf_L4 μ (f_X6_everybody μ) 7 0 0).1 = q at s2
  by_cases c : q = 0
  · rw [if_pos c, if_pos c]
    exact ⟨rfl, h.mono (by omega), Fr.rf, KO.rf⟩
  · have cz : ¬ q.toInt = 0 := fun z => c (Int32.toInt_inj.mp (by rw [z, z_0]))
    rw [if_neg c, if_neg c]
    obtain ⟨d1, d2, d3, d4, d5⟩ := lv_draw h q
    have d6 := d5 (by omega)
    have e0 : ga (f_X6_draw μ q).1 0 0 = ga μ 0 0 := d3.2.2.2.1 0 (by decide) (by rw [z_0]; omega)
    have eq : qkf (f_X6_draw μ q).1 = qkf μ := rfl
    obtain ⟨w1, w2⟩ := lv_who d2 7 0 (f_X6_draw μ q).2 (by omega) (by rw [e0]; omega) d6.1 (by rw [e0, eq]; show _ + 0 < _; omega)
    rw [nI_0] at w1 w2
    rw [d1, w1]
    have p := lv_pays d2 hM w2
    exact ⟨p.1, p.2.1, d3.tr p.2.2.1, d4.tr p.2.2.2⟩
end LV1
/-! A YEAR LIVED: the tree of steps against the rows -/
set_option maxRecDepth 100000
/-- an act and its row -/
def actR (μ : MS) (w : Int32 × Int32 × Int32 × Int32) (r : Int32) : Prop :=
  (ga μ 0 r = 17 ∧ w.1 = 0 ∧ ga μ 0 (r + 1) = w.2.1 ∧ (-1 ≤ w.2.1.toInt ∧ w.2.1.toInt < (ga μ 0 0).toInt)) ∨
  (ga μ 0 r = 18 ∧ w.1 = 1 ∧ (ga μ 0 (r + 1) = w.2.1 ∧ (0 ≤ w.2.1.toInt ∧ w.2.1.toInt < (ga μ 0 0).toInt)) ∧ (ga μ 0 (r + 2) = w.2.2.1 ∧ (0 ≤ w.2.2.1.toInt ∧ w.2.2.1.toInt < (ga μ 0 0).toInt))) ∨
  (((ga μ 0 r = 19 ∧ w.1 = 2) ∨ (ga μ 0 r = 20 ∧ w.1 = 3)) ∧ (ga μ 0 (r + 1) = w.2.1 ∧ (0 ≤ w.2.1.toInt ∧ w.2.1.toInt < (ga μ 0 0).toInt)) ∧ (ga μ 0 (r + 2) = w.2.2.1 ∧ (0 ≤ w.2.2.1.toInt ∧ w.2.2.1.toInt < (ga μ 0 0).toInt)) ∧ ga μ 0 (r + 3) = w.2.2.2 ∧ (0 ≤ w.2.2.2.toInt ∧ w.2.2.2.toInt ≤ 9999)) ∨
  (ga μ 0 r = 21 ∧ w.1 = 4) ∨ (ga μ 0 r = 27 ∧ w.1 = 5)
/-- a test and its row -/
def whnR (μ : MS) (y : Int32 × Int32 × Int32 × Int32 × Int32) (r : Int32) : Prop :=
  ((ga μ 0 r = 2428 ∧ y.1 = 0 ∧ ga μ 0 (r + 5) = y.2.2.2.1 ∧ ga μ 0 (r + 3) = y.2.2.2.2) ∨ (ga μ 0 r = 2403 ∧ y.1 = 1 ∧ (ga μ 0 (r + 2) = y.2.2.1 ∧ (0 ≤ y.2.2.1.toInt ∧ y.2.2.1.toInt < (ga μ 0 0).toInt)) ∧ ga μ 0 (r + 5) = y.2.2.2.1 ∧ ga μ 0 (r + 3) = y.2.2.2.2) ∨ (ga μ 0 r = 2415 ∧ y.1 = 2)) ∧ ga μ 0 (r + 1) = y.2.1 ∧ (0 ≤ y.2.1.toInt ∧ y.2.1.toInt < (ga μ 0 0).toInt)
def stR (μ : MS) {T : Type} (B : T → Nat → Nat → Prop) : ST T → Nat → Nat → Prop
  | .inl w, k, j => j = k + 1 ∧ actR μ w (rowI (nI k))
  | .inr (.inl y), k, j => (ga μ 0 (rowI (nI k)) = 25 ∧ ga μ 0 (rowI (nI k) + 1) = y.1 ∧ (1 ≤ y.1.toInt ∧ y.1.toInt ≤ 99)) ∧ ∃ i : Nat, B y.2 (k + 1) i ∧ j = i + 1 ∧ ga μ 0 (rowI (nI i)) = 26 ∧ ga μ 0 (rowI (nI i) + 4) = nI k
  | .inr (.inr y), k, j => whnR μ y.1 (rowI (nI k)) ∧ ∃ i : Nat, B y.2 (k + 1) i ∧ j = i + 1 ∧ ga μ 0 (rowI (nI i)) = 26 ∧ ga μ 0 (rowI (nI i) + 4) = nI k ∧ ga μ 0 (rowI (nI k) + 4) = nI i
def sqR (μ : MS) {T : Type} (B : T → Nat → Nat → Prop) : List (ST T) → Nat → Nat → Prop
  | [], k, j => j = k
  | x :: t, k, j => ∃ i : Nat, stR μ B x k i ∧ sqR μ B t i j
def trR (μ : MS) : (d : Nat) → TR d → Nat → Nat → Prop
  | 0, _, k, j => j = k
  | d + 1, t, k, j => sqR μ (trR μ d) (trl t) k j
theorem stR_le {μ : MS} {T : Type} {B : T → Nat → Nat → Prop} (hB : ∀ t k j, B t k j → k ≤ j) : ∀ (x : ST T) (k j : Nat), stR μ B x k j → k < j := by
  intro x k j h
  rcases x with w | y | y
  · obtain ⟨h, -⟩ := h; omega
  · obtain ⟨-, i, h1, h2, -⟩ := h; have := hB _ _ _ h1; omega
  · obtain ⟨-, i, h1, h2, -⟩ := h; have := hB _ _ _ h1; omega
theorem sqR_le {μ : MS} {T : Type} {B : T → Nat → Nat → Prop} (hB : ∀ t k j, B t k j → k ≤ j) : ∀ (t : List (ST T)) (k j : Nat), sqR μ B t k j → k ≤ j
  | [], k, j, h => by rw [show j = k from h]; exact Nat.le_refl _
  | x :: t, k, j, ⟨i, h1, h2⟩ => by have := stR_le hB x k i h1; have := sqR_le hB t i j h2; omega
theorem trR_le {μ : MS} : ∀ (d : Nat) (t : TR d) (k j : Nat), trR μ d t k j → k ≤ j
  | 0, _, k, j, h => by rw [show j = k from h]; exact Nat.le_refl _
  | d + 1, t, k, j, h => sqR_le (trR_le d) (trl t) k j h
/-- the rows are as they were -/
def SM (μ0 μ : MS) : Prop := (∀ j : Int32, 130 ≤ j.toInt → ga μ 0 j = ga μ0 0 j) ∧ ga μ 0 0 = ga μ0 0 0 ∧ ga μ 0 9 = ga μ0 0 9
theorem SM.lf {μ0 μ u : MS} (h : SM μ0 μ) (hF : LFr μ u) : SM μ0 u := ⟨fun j hj => (hF.2.2.2.1 j (by omega) (by omega)).trans (h.1 j hj), (hF.2.2.2.1 0 (by decide) (by rw [z_0]; omega)).trans h.2.1, (hF.2.2.2.1 9 (by decide) (by rw [show (9 : Int32).toInt = 9 from rfl]; omega)).trans h.2.2⟩
theorem row_k {k : Nat} (h : k ≤ 60) : (rowI (nI k)).toInt = 130 + 6 * (k : Int) := by rw [rowI_toInt (by rw [nI_toInt (by omega)]; omega), nI_toInt (by omega)]
theorem row_o {k : Nat} (h : k ≤ 60) {c : Int32} {v : Int} (hc : c.toInt = v) (hv : 0 ≤ v ∧ v ≤ 5) : (rowI (nI k) + c).toInt = 130 + 6 * (k : Int) + v := i_add (row_k h) hc (by omega)
theorem SM.r {μ0 μ : MS} (h : SM μ0 μ) {k : Nat} (hk : k ≤ 60) : ga μ 0 (rowI (nI k)) = ga μ0 0 (rowI (nI k)) := h.1 _ (by rw [row_k hk]; omega)
theorem SM.o {μ0 μ : MS} (h : SM μ0 μ) {k : Nat} (hk : k ≤ 60) {c : Int32} {v : Int} (hc : c.toInt = v) (hv : 0 ≤ v ∧ v ≤ 5) : ga μ 0 (rowI (nI k) + c) = ga μ0 0 (rowI (nI k) + c) := h.1 _ (by rw [row_o hk hc hv]; omega)
theorem SM.act {μ0 μ : MS} (h : SM μ0 μ) {k : Nat} (hk : k ≤ 60) {w : Int32 × Int32 × Int32 × Int32} (ha : actR μ0 w (rowI (nI k))) : actR μ w (rowI (nI k)) := by
  unfold actR at ha ⊢
  rw [h.r hk, h.o hk z_1 (by omega), h.o hk z_2 (by omega), h.o hk z_3 (by omega), h.2.1]
  exact ha
theorem SM.whn {μ0 μ : MS} (h : SM μ0 μ) {k : Nat} (hk : k ≤ 60) {w : Int32 × Int32 × Int32 × Int32 × Int32} (ha : whnR μ0 w (rowI (nI k))) : whnR μ w (rowI (nI k)) := by
  unfold whnR at ha ⊢
  rw [h.r hk, h.o hk z_1 (by omega), h.o hk z_2 (by omega), h.o hk z_3 (by omega), h.o hk z_5 (by omega), h.2.1]
  exact ha
section LV2
variable {M : Int} {σ : MS × MS} {μ u : MS}
theorem lv_s3 (h : LV M σ μ) (x : Int32) : LV M (lsi σ 3 x) (sa μ 31 0 x) :=
  ⟨h.1, h.2.1, ⟨h.2.2.1.1, h.2.2.1.2.1, by rw [ga_sa_eq]; rfl, by rw [ga_sa_ne z_0 z_1 (by decide)]; exact h.2.2.1.2.2.2.1, by rw [ga_sa_ne z_0 z_2 (by decide)]; exact h.2.2.1.2.2.2.2.1, by rw [ga_sa_ne z_0 z_3 (by decide)]; exact h.2.2.1.2.2.2.2.2.1, by rw [ga_sa_ne z_0 z_4 (by decide)]; exact h.2.2.1.2.2.2.2.2.2⟩, h.2.2.2⟩
theorem lv_k3 (h : LV M σ μ) {x : Int32} (hx : x = gi (own σ) 3) : LV M σ (sa μ 31 0 x) :=
  ⟨h.1, h.2.1, ⟨h.2.2.1.1, h.2.2.1.2.1, by rw [ga_sa_eq, hx], by rw [ga_sa_ne z_0 z_1 (by decide)]; exact h.2.2.1.2.2.2.1, by rw [ga_sa_ne z_0 z_2 (by decide)]; exact h.2.2.1.2.2.2.2.1, by rw [ga_sa_ne z_0 z_3 (by decide)]; exact h.2.2.1.2.2.2.2.2.1, by rw [ga_sa_ne z_0 z_4 (by decide)]; exact h.2.2.1.2.2.2.2.2.2⟩, h.2.2.2⟩
theorem lv_act (h : LV M σ μ) (hM : M ≤ 1000000) {w : Int32 × Int32 × Int32 × Int32} {r : Int32} (ha : actR μ w r) (hns : ¬ ga μ 0 r = 27) : (f_X13_can σ w.1 w.2.1 w.2.2.1 w.2.2.2).2 = (f_X6_does μ r).2 ∧ LV (M + 1) (f_X13_can σ w.1 w.2.1 w.2.2.1 w.2.2.2).1 (f_X6_does μ r).1 ∧ LFa μ (f_X6_does μ r).1 ∧ KO σ (f_X13_can σ w.1 w.2.1 w.2.2.1 w.2.2.2).1 := by
  have hn := h.n
  unfold f_X13_can f_X6_does
  dsimp only
  rcases ha with ⟨e0, e1, e2, e3⟩ | ⟨e0, e1, ⟨e2, e3⟩, e4, e5⟩ | ⟨e01, ⟨e2, e3⟩, ⟨e4, e5⟩, e6, e7⟩ | ⟨e0, e1⟩ | ⟨e0, e1⟩
  · rw [e0, e1, e2, if_pos rfl, if_pos rfl]
    by_cases c : w.2.1 < 0
    · rw [if_pos c, if_pos ((neg_m1 e3.1).mpr c)]
      exact lv_reaches h hM 0 0 0 0
    · have c' := c_nlt c
      rw [if_neg c, if_neg (fun q => c ((neg_m1 e3.1).mp q))]
      exact lv_pays h hM ⟨c', e3.2⟩
  · rw [e0, e1, e2, e4, if_neg (by decide), if_pos rfl, if_neg (by decide), if_pos rfl]
    exact lv_duels h hM e3 e5 0 0
  · rcases e01 with ⟨e0, e1⟩ | ⟨e0, e1⟩
    · rw [e0, e1, e2, e4, e6, if_neg (by decide), if_neg (by decide), if_pos rfl, if_neg (by decide), if_neg (by decide), if_pos rfl]
      obtain ⟨a1, ⟨a2, a3, a4⟩, a5⟩ := e_lends h.1 h.2.1.1 h.2.1.2 (a := w.2.1) (b := w.2.2.1) (m := w.2.2.2) (by omega) (by omega) e7
      exact ⟨a1, lv_tab h a2 a3 (a4.mono (by omega)) a5, LFa.of a5, ⟨rfl, rfl, rfl⟩⟩
    · rw [e0, e1, e2, e4, e6, if_neg (by decide), if_neg (by decide), if_neg (by decide), if_pos rfl, if_neg (by decide), if_neg (by decide), if_neg (by decide), if_pos rfl]
      obtain ⟨a1, ⟨a2, a3, a4⟩, a5⟩ := e_gives h.1 h.2.1.1 h.2.1.2 (a := w.2.1) (b := w.2.2.1) (m := w.2.2.2) (by omega) (by omega) e7
      exact ⟨rfl, lv_tab h a2 a3 (a4.mono (by omega)) a5, LFa.of a5, ⟨rfl, rfl, rfl⟩⟩
  · rw [e0, e1, if_neg (show ¬ (4 : Int32) = 0 by decide), if_neg (show ¬ (4 : Int32) = 1 by decide), if_neg (show ¬ (4 : Int32) = 2 by decide), if_neg (show ¬ (4 : Int32) = 3 by decide), if_pos (show (4 : Int32) = 4 from rfl), if_neg (show ¬ (21 : Int32) = 17 by decide), if_neg (show ¬ (21 : Int32) = 18 by decide), if_neg (show ¬ (21 : Int32) = 19 by decide), if_neg (show ¬ (21 : Int32) = 20 by decide), if_pos (show (21 : Int32) = 21 from rfl)]
    obtain ⟨a1, ⟨a2, a3, a4⟩, a5⟩ := e_round h.1 h.2.1.1 h.2.1.2
    have hL := lv_tab h a2 a3 (a4.mono (by omega : M ≤ M + 1)) a5
    have hr : -1 ≤ (f_X6_rounds μ).2.toInt := by
      have := buyer_rng h.2.1.1
      unfold f_X6_rounds
      dsimp only
      split
      · show (-1 : Int) ≤ (-1 : Int32).toInt; decide
      · exact this.1
    rw [a1]
    by_cases c : (f_X6_rounds μ).2 = -1
    · rw [if_neg (fun q => by have := c_le q; rw [c, z_0, z_m1] at this; omega), if_pos c]
      exact ⟨rfl, hL, LFa.of a5, ⟨rfl, rfl, rfl⟩⟩
    · have c2 : ¬ (f_X6_rounds μ).2.toInt = -1 := fun q => c (Int32.toInt_inj.mp (by rw [q, z_m1]))
      rw [if_pos (Int32.le_iff_toInt_le.mpr (by rw [z_0]; omega)), if_neg c]
      exact ⟨rfl, lv_i6 hL, (LFa.of a5).tr lf_31, ⟨rfl, rfl, rfl⟩⟩
  · exact absurd e0 hns
/-- an act, and whether it was missed -/
theorem lv_does (h : LV M σ μ) (hM : M ≤ 1000000) {w : Int32 × Int32 × Int32 × Int32} {r : Int32} (ha : actR μ w r) (hns : ¬ ga μ 0 r = 27) : LV (M + 1) (f_X13_does σ w.1 w.2.1 w.2.2.1 w.2.2.2) (sa (f_X6_does μ r).1 31 0 (ga μ 31 0 + (if (f_X6_does μ r).2 = 0 then 1 else 0))) ∧ LFa μ (sa (f_X6_does μ r).1 31 0 (ga μ 31 0 + (if (f_X6_does μ r).2 = 0 then 1 else 0))) ∧ gi (own (f_X13_does σ w.1 w.2.1 w.2.2.1 w.2.2.2)) 2 = gi (own σ) 2 ∧ gi (own (f_X13_does σ w.1 w.2.1 w.2.2.1 w.2.2.2)) 7 = gi (own σ) 7 := by
  obtain ⟨a1, a2, a3, a4⟩ := lv_act h hM ha hns
  have e3 : ga μ 31 0 = gi (own (f_X13_can σ w.1 w.2.1 w.2.2.1 w.2.2.2).1) 3 := by rw [a4.2.2]; exact h.2.2.1.2.2.1.symm
  unfold f_X13_does
  dsimp only
  rw [a1]
  by_cases c : (f_X6_does μ r).2 = 0
  · rw [if_pos c, if_pos c, e3]
    exact ⟨lv_s3 a2 _, a3.tr lf_31, a4.1, a4.2.1⟩
  · rw [if_neg c, if_neg c, Int32.add_zero]
    exact ⟨lv_k3 a2 e3, a3.tr lf_31, a4.1, a4.2.1⟩
theorem lv_holds (h : LV M σ μ) (hM : M ≤ 1000000) {y : Int32 × Int32 × Int32 × Int32 × Int32} {r : Int32} (ha : whnR μ y r) : f_X12_is σ y.1 y.2.1 y.2.2.1 y.2.2.2.1 y.2.2.2.2 = f_X6_holds μ r := by
  have hn := h.n
  obtain ⟨hk, e1, e2⟩ := ha
  unfold f_X12_is f_X6_holds
  dsimp only
  rcases hk with ⟨e0, k0, k5, k3⟩ | ⟨e0, k0, ⟨k2, k2'⟩, k5, k3⟩ | ⟨e0, k0⟩
  · rw [e0, k0, e1, k5, k3, if_neg (show ¬ (0 : Int32) = 2 by decide), if_pos (show (0 : Int32) = 0 from rfl), if_neg (show ¬ (2428 - 2400 : Int32) = 15 by decide), if_pos (show (2428 - 2400 : Int32) = 28 by decide), (h.1.p e2.1 e2.2).2.2.2.2.2.1]
  · rw [e0, k0, e1, k2, k5, k3, if_neg (show ¬ (1 : Int32) = 2 by decide), if_neg (show ¬ (1 : Int32) = 0 by decide), if_neg (show ¬ (2403 - 2400 : Int32) = 15 by decide), if_neg (show ¬ (2403 - 2400 : Int32) = 28 by decide), h.1.ow (a := y.2.1) (b := y.2.2.1) (by omega) (by omega)]
  · rw [e0, k0, e1, if_pos (show (2 : Int32) = 2 from rfl), if_pos (show (2415 - 2400 : Int32) = 15 by decide), h.1.l, e_turn h.1 h.2.1.1 h.2.1.2 hM]
end LV2
/-! behind ends -/
theorem be_fuel : ∀ (n m k : Nat) (μ : MS), YOK μ → k ≤ 60 → 61 * lps μ + (60 - k) < n → 61 * lps μ + (60 - k) < m → f_X6_behindEnds_L2 n (nI k) μ = f_X6_behindEnds_L2 m (nI k) μ := by
  intro n
  induction n with
  | zero => intro m k μ _ _ h; omega
  | succ n ih =>
    intro m k μ hY hk h1 h2
    obtain ⟨m, rfl⟩ : ∃ m', m = m' + 1 := ⟨m - 1, by omega⟩
    have ek : (nI k).toInt = (k : Int) := nI_toInt (by omega)
    rw [f_X6_behindEnds_L2, f_X6_behindEnds_L2]
    dsimp only
    by_cases c : ga μ 0 9 ≤ nI k
    · rw [if_pos c, if_pos c]
    · have c' := c_nle c
      rw [if_neg c, if_neg c]
      by_cases c2 : ga μ 0 (rowI (nI k)) = 26
      · have hr := (hY.2 (nI k) (by omega) c').1 (by rw [c2]; rfl)
        obtain ⟨o, ho, eo⟩ := small_nI (n := 59) hr
        have e4 : ga μ 0 ((130 : Int32) + (6 : Int32) * nI k + 4) = nI o := eo
        have c3 : ga μ 0 ((130 : Int32) + (6 : Int32) * nI k) = 26 := c2
        rw [if_pos c3, if_pos c3, e4]
        have oi : (nI o).toInt = (o : Int) := nI_toInt (by omega)
        by_cases c4 : ga μ 0 ((130 : Int32) + (6 : Int32) * nI o) = 25
        · by_cases c5 : ga μ 30 (nI o) ≤ 0
          · simp only [if_pos c4, if_pos c5, if_true, nI_1]
            have dl := lps_dec (σ := μ) (σ' := sa μ 30 (nI o) (ga μ 30 (nI o) - 0)) (o := nI o) (t := 0) (by omega) (Or.inl z_0) rfl
            rw [z_0] at dl
            by_cases k60 : k = 60
            · exact absurd c' (by have := hY.1.2; omega)
            · exact ih m (k + 1) _ (YOK_A0 (fun j => ga_sa_k (by decide)) hY) (by omega) (by omega) (by omega)
          · have c5' := c_nle c5
            rw [z_0] at c5'
            simp only [if_pos c4, if_neg c5, if_neg (show ¬ (1 : Int32) = 0 by decide), nI_1]
            have dl := lps_dec (σ := μ) (σ' := sa μ 30 (nI o) (ga μ 30 (nI o) - 1)) (o := nI o) (t := 1) (by omega) (Or.inr ⟨z_1, c5'⟩) rfl
            rw [z_1] at dl
            exact ih m (o + 1) _ (YOK_A0 (fun j => ga_sa_k (by decide)) hY) (by omega) (by omega) (by omega)
        · simp only [if_neg c4, if_true, nI_1]
          have dl := lps_dec (σ := μ) (σ' := sa μ 30 (nI o) (ga μ 30 (nI o) - 0)) (o := nI o) (t := 0) (by omega) (Or.inl z_0) rfl
          rw [z_0] at dl
          by_cases k60 : k = 60
          · exact absurd c' (by have := hY.1.2; omega)
          · exact ih m (k + 1) _ (YOK_A0 (fun j => ga_sa_k (by decide)) hY) (by omega) (by omega) (by omega)
      · have c3 : ¬ ga μ 0 ((130 : Int32) + (6 : Int32) * nI k) = 26 := c2
        rw [if_neg c3, if_neg c3]
theorem be_ex {μ : MS} {k : Nat} {n : Nat} (hY : YOK μ) (hk : k ≤ 60) (hn : 61 * lps μ + (60 - k) < n) : f_X6_behindEnds μ (nI k) = ((f_X6_behindEnds_L2 n (nI k) μ).2, (f_X6_behindEnds_L2 n (nI k) μ).1) := by
  unfold f_X6_behindEnds
  dsimp only
  rw [be_fuel _ n k μ hY hk (by omega) hn]
theorem be_stop {μ : MS} {k : Nat} (h : ga μ 0 9 ≤ nI k ∨ ¬ ga μ 0 (rowI (nI k)) = 26) : f_X6_behindEnds μ (nI k) = (μ, nI k) := by
  unfold f_X6_behindEnds
  dsimp only
  rw [f_X6_behindEnds_L2]
  by_cases c : ga μ 0 9 ≤ nI k
  · rw [if_pos c]
  · rw [if_neg c, if_neg (show ¬ ga μ 0 ((130 : Int32) + (6 : Int32) * nI k) = 26 from h.resolve_left c)]
theorem be_close {μ : MS} {k o : Nat} (hY : YOK μ) (hk : (k : Int) < (ga μ 0 9).toInt) (h26 : ga μ 0 (rowI (nI k)) = 26) (h4 : ga μ 0 (rowI (nI k) + 4) = nI o) (ho : o ≤ 59) :
    ((ga μ 0 (rowI (nI o)) = 25 ∧ 0 < (ga μ 30 (nI o)).toInt) → f_X6_behindEnds μ (nI k) = f_X6_behindEnds (sa μ 30 (nI o) (ga μ 30 (nI o) - 1)) (nI (o + 1))) ∧
    (¬ (ga μ 0 (rowI (nI o)) = 25 ∧ 0 < (ga μ 30 (nI o)).toInt) → f_X6_behindEnds μ (nI k) = f_X6_behindEnds (sa μ 30 (nI o) (ga μ 30 (nI o) - 0)) (nI (k + 1))) := by
  have hb := hY.1.2
  have ek : (nI k).toInt = (k : Int) := nI_toInt (by omega)
  have oi : (nI o).toInt = (o : Int) := nI_toInt (by omega)
  have cn : ¬ ga μ 0 9 ≤ nI k := fun q => by have := c_le q; omega
  have hY' : ∀ v, YOK (sa μ 30 (nI o) v) := fun v => YOK_A0 (fun j => ga_sa_k (by decide)) hY
  have e4 : ga μ 0 ((130 : Int32) + (6 : Int32) * nI k + 4) = nI o := h4
  have c3 : ga μ 0 ((130 : Int32) + (6 : Int32) * nI k) = 26 := h26
  refine ⟨fun ⟨c4, c5⟩ => ?_, fun c => ?_⟩
  · have dl := lps_dec (σ := μ) (σ' := sa μ 30 (nI o) (ga μ 30 (nI o) - 1)) (o := nI o) (t := 1) (by omega) (Or.inr ⟨z_1, c5⟩) rfl
    rw [z_1] at dl
    rw [be_ex hY (by omega) (n := 61 * lps μ + 61 + 1) (by omega), be_ex (hY' _) (by omega) (n := 61 * lps μ + 61) (by omega), f_X6_behindEnds_L2]
    have c4' : ga μ 0 ((130 : Int32) + (6 : Int32) * nI o) = 25 := c4
    have c5' : ¬ ga μ 30 (nI o) ≤ 0 := fun q => by have := c_le q; rw [z_0] at this; omega
    simp only [if_neg cn, if_pos c3, e4, if_pos c4', if_neg c5', if_neg (show ¬ (1 : Int32) = 0 by decide), nI_1]
  · have dl := lps_dec (σ := μ) (σ' := sa μ 30 (nI o) (ga μ 30 (nI o) - 0)) (o := nI o) (t := 0) (by omega) (Or.inl z_0) rfl
    rw [z_0] at dl
    rw [be_ex hY (by omega) (n := 61 * lps μ + 61 + 1) (by omega), be_ex (hY' _) (by omega) (n := 61 * lps μ + 61) (by omega), f_X6_behindEnds_L2]
    by_cases c4 : ga μ 0 ((130 : Int32) + (6 : Int32) * nI o) = 25
    · have c5 : ga μ 30 (nI o) ≤ 0 := Int32.le_iff_toInt_le.mpr (by rw [z_0]; exact Int.not_lt.mp (fun q => c ⟨c4, q⟩))
      simp only [if_neg cn, if_pos c3, e4, if_pos c4, if_pos c5, if_true, nI_1]
    · simp only [if_neg cn, if_pos c3, e4, if_neg c4, if_true, nI_1]
/-! A YEAR LIVED: the whole year -/
set_option maxRecDepth 100000
def lvB (n : Nat) (x : Int32) (μ : MS) : MS :=
  if ga μ 0 (rowI x) = 27 then μ else
    (let z := f_X6_does μ (rowI x)
     let a := sa z.1 31 0 (ga μ 31 0 + (if z.2 = 0 then 1 else 0))
     let b := if ga a 0 (rowI x) = 25 then sa a 30 x (ga a 0 (rowI x + 1) - 1) else a
     let r := if ga b 0 (rowI x) < 2400 then x + 1 else if f_X6_holds b (rowI x) = 0 then ga b 0 (rowI x + 4) + 1 else x + 1
     f_X6_lives_L32 n (f_X6_behindEnds b r).2 (f_X6_behindEnds b r).1)
theorem lvB_e (n : Nat) (x : Int32) (μ : MS) : f_X6_lives_L32 (n + 1) x μ = if ga μ 0 9 ≤ x then μ else if gi μ 29 = 300 then sa μ 31 4 1 else lvB n x (si μ 29 (gi μ 29 + 1)) := by
  rw [f_X6_lives_L32]
  rfl
/-- the reference, come to row k (behind the ends that stand there) -/
def GG (n k : Nat) (μ : MS) : MS := f_X6_lives_L32 n (f_X6_behindEnds μ (nI k)).2 (f_X6_behindEnds μ (nI k)).1
section SIM
variable {μ0 : MS} {n9 : Nat} {M0 : Int}
def PRE (μ0 : MS) (M0 : Int) (n : Nat) (σ : MS × MS) (μ : MS) : Prop := LV (M0 + (gi (own σ) 2).toInt) σ μ ∧ gi (own σ) 7 = 0 ∧ ((n : Int) + (gi (own σ) 2).toInt = 301 ∧ 0 ≤ (gi (own σ) 2).toInt ∧ (gi (own σ) 2).toInt ≤ 300) ∧ SM μ0 μ
def RES (M0 : Int) (lo s j n : Nat) (σ σ' : MS × MS) (μ : MS) : Prop :=
  ((gi (own σ) 2).toInt ≤ (gi (own σ') 2).toInt ∧ (gi (own σ') 2).toInt ≤ 300) ∧
  ((gi (own σ') 7 = 0 ∧ ∃ (n' : Nat) (μ' : MS), GG n s μ = GG n' j μ' ∧ (n' : Int) + (gi (own σ') 2).toInt = 301 ∧ LV (M0 + (gi (own σ') 2).toInt) σ' μ' ∧ LFr μ μ' ∧ ∀ i : Nat, i ≤ 79 → (i < lo ∨ j ≤ i) → ga μ' 30 (nI i) = ga μ 30 (nI i)) ∨
   (¬ gi (own σ') 7 = 0 ∧ LV (M0 + (gi (own σ') 2).toInt) σ' (GG n s μ) ∧ LFr μ (GG n s μ)))
def SIMB (μ0 : MS) (M0 : Int) (f : MS × MS → MS × MS) (k j : Nat) : Prop := ∀ (n : Nat) (σ : MS × MS) (μ : MS), PRE μ0 M0 n σ μ → RES M0 k k j n σ (f σ) μ
theorem RES.go {lo s j i n : Nat} {σ σ1 σ2 : MS × MS} {μ : MS} (hi : lo ≤ i ∧ i ≤ j) (hp : PRE μ0 M0 n σ μ) (h : RES M0 lo s i n σ σ1 μ) (h2 : ∀ (n' : Nat) (μ' : MS), GG n s μ = GG n' i μ' → PRE μ0 M0 n' σ1 μ' → (∀ q : Nat, q ≤ 79 → (q < lo ∨ i ≤ q) → ga μ' 30 (nI q) = ga μ 30 (nI q)) → RES M0 lo i j n' σ1 σ2 μ') (h3 : ¬ gi (own σ1) 7 = 0 → σ2 = σ1) : RES M0 lo s j n σ σ2 μ := by
  obtain ⟨b, h⟩ := h
  rcases h with ⟨a0, n', μ', e, a1, a2, a3, a4⟩ | ⟨a0, a1, a2⟩
  · have hP : PRE μ0 M0 n' σ1 μ' := ⟨a2, a0, ⟨a1, by have := hp.2.2.1; omega, b.2⟩, hp.2.2.2.lf a3⟩
    obtain ⟨c, r⟩ := h2 n' μ' e hP a4
    refine ⟨⟨by omega, c.2⟩, ?_⟩
    rcases r with ⟨d0, n2, μ2, e2, d1, d2, d3, d4⟩ | ⟨d0, d1, d2⟩
    · exact Or.inl ⟨d0, n2, μ2, e.trans e2, d1, d2, a3.tr d3, fun q hq hl => (d4 q hq hl).trans (a4 q hq (by omega))⟩
    · rw [← e] at d1 d2
      exact Or.inr ⟨d0, d1, a3.tr d2⟩
  · rw [h3 a0]
    exact ⟨b, Or.inr ⟨a0, a1, a2⟩⟩
theorem sim_seq {T : Type} {f : T → MS × MS → MS × MS} {B : T → Nat → Nat → Prop} (hB : ∀ t k j, B t k j → k ≤ j) (hS : ∀ (x : ST T) (k j : Nat), stR μ0 B x k j → j ≤ n9 → SIMB μ0 M0 (goS f x) k j) : ∀ (t : List (ST T)) (k j : Nat), sqR μ0 B t k j → j ≤ n9 → SIMB μ0 M0 (seqS (goS f) t) k j
  | [], k, j, h, _ => fun n σ μ hp => by
    have e : j = k := h
    subst e
    exact ⟨⟨Int.le_refl _, hp.2.2.1.2.2⟩, Or.inl ⟨hp.2.1, n, μ, rfl, hp.2.2.1.1, hp.1, Fr.rf, fun _ _ _ => rfl⟩⟩
  | x :: t, k, j, ⟨i, h1, h2⟩, hj => fun n σ μ hp => by
    have l1 := stR_le hB x k i h1
    have l2 := sqR_le hB t i j h2
    rw [seqS, if_pos hp.2.1]
    refine RES.go ⟨by omega, l2⟩ hp (hS x k i h1 (by omega) n σ μ hp) (fun n' μ' e hP hl => ?_) (fun h0 => ?_)
    · have r := sim_seq hB hS t i j h2 hj n' _ μ' hP
      obtain ⟨c, r⟩ := r
      refine ⟨c, r.imp (fun ⟨d0, n2, μ2, e2, d1, d2, d3, d4⟩ => ⟨d0, n2, μ2, e2, d1, d2, d3, fun q hq hl => d4 q hq (by omega)⟩) id⟩
    · cases t with
      | nil => rfl
      | cons y t => rw [seqS, if_neg h0]
theorem n9_i (h9 : ga μ0 0 9 = nI n9) (h60 : n9 ≤ 60) {μ : MS} (hS : SM μ0 μ) {k : Nat} (hk : k < n9) : ¬ ga μ 0 9 ≤ nI k := fun q => by
  have := c_le q
  rw [hS.2.2, h9, nI_toInt (by omega), nI_toInt (by omega)] at this
  omega
theorem GG_row (h9 : ga μ0 0 9 = nI n9) (h60 : n9 ≤ 60) {n : Nat} {σ : MS × MS} {μ : MS} (hp : PRE μ0 M0 n σ μ) {k : Nat} (hk : k < n9) (h26 : ¬ ga μ0 0 (rowI (nI k)) = 26) :
    (gi (own σ) 2 = 300 ∧ GG n k μ = sa μ 31 4 1) ∨ (¬ gi (own σ) 2 = 300 ∧ ∃ n' : Nat, n = n' + 1 ∧ GG n k μ = lvB n' (nI k) (si μ 29 (gi μ 29 + 1))) := by
  have hn : 1 ≤ n := by have := hp.2.2.1; omega
  obtain ⟨n', rfl⟩ : ∃ n', n = n' + 1 := ⟨n - 1, by omega⟩
  have e2 : gi (own σ) 2 = gi μ 29 := hp.1.2.2.1.2.1
  have e : GG (n' + 1) k μ = if gi μ 29 = 300 then sa μ 31 4 1 else lvB n' (nI k) (si μ 29 (gi μ 29 + 1)) := by
    unfold GG
    rw [be_stop (Or.inr (by rw [hp.2.2.2.r (by omega)]; exact h26)), lvB_e, if_neg (n9_i h9 h60 hp.2.2.2 hk)]
  by_cases c : gi μ 29 = 300
  · exact Or.inl ⟨by rw [e2]; exact c, by rw [e, if_pos c]⟩
  · exact Or.inr ⟨by rw [e2]; exact c, n', rfl, by rw [e, if_neg c]⟩
/-- one step is counted -/
theorem pre_cnt {n : Nat} {σ : MS × MS} {μ : MS} (hp : PRE μ0 M0 (n + 1) σ μ) (hc : ¬ gi (own σ) 2 = 300) : LV (M0 + (gi (own σ) 2).toInt) (lsi σ 2 (gi (own σ) 2 + 1)) (si μ 29 (gi μ 29 + 1)) ∧ (gi (own σ) 2 + 1).toInt = (gi (own σ) 2).toInt + 1 ∧ (gi (own σ) 2).toInt + 1 ≤ 300 ∧ (n : Int) + ((gi (own σ) 2).toInt + 1) = 301 := by
  have h1 := hp.2.2.1
  have h2 : ¬ (gi (own σ) 2).toInt = 300 := fun q => hc (Int32.toInt_inj.mp (by rw [q]; rfl))
  have h := hp.1
  refine ⟨⟨h.1, h.2.1, ⟨h.2.2.1.1, ?_, h.2.2.1.2.2⟩, h.2.2.2⟩, inc1 (by omega) (by omega), by omega, by omega⟩
  show gi (own σ) 2 + 1 = gi μ 29 + 1
  rw [h.2.2.1.2.1]
theorem does_no {μ : MS} {r : Int32} (h : ga μ 0 r = 25 ∨ 2400 ≤ (ga μ 0 r).toInt) : f_X6_does μ r = (μ, 1) := by
  have hne : ∀ (v : Int32) (V : Int), v.toInt = V → (V < 25) → ¬ ga μ 0 r = v := fun v V hv hV q => by
    rcases h with h | h
    · rw [q] at h; rw [h] at hv; have : (25 : Int32).toInt = 25 := rfl; omega
    · rw [q, hv] at h; omega
  unfold f_X6_does
  dsimp only
  rw [if_neg (hne 17 17 rfl (by omega)), if_neg (hne 18 18 rfl (by omega)), if_neg (hne 19 19 rfl (by omega)), if_neg (hne 20 20 rfl (by omega)), if_neg (hne 21 21 rfl (by omega))]
theorem sim_act (h9 : ga μ0 0 9 = nI n9) (h60 : n9 ≤ 60) (hM : M0 + 300 ≤ 999999) {T : Type} (f : T → MS × MS → MS × MS) (w : Int32 × Int32 × Int32 × Int32) (k : Nat) (hk : k < n9) (ha : actR μ0 w (rowI (nI k))) : SIMB μ0 M0 (goS f (.inl w)) k (k + 1) := by
  intro n σ μ hp
  have h1 := hp.2.2.1
  have h26 : ¬ ga μ0 0 (rowI (nI k)) = 26 := fun q => by
    unfold actR at ha
    rw [q] at ha
    rcases ha with ⟨a, -⟩ | ⟨a, -⟩ | ⟨⟨a, -⟩ | ⟨a, -⟩, -⟩ | ⟨a, -⟩ | ⟨a, -⟩ <;> exact absurd a (by decide)
  have h25 : ¬ ga μ0 0 (rowI (nI k)) = 25 := fun q => by
    unfold actR at ha
    rw [q] at ha
    rcases ha with ⟨a, -⟩ | ⟨a, -⟩ | ⟨⟨a, -⟩ | ⟨a, -⟩, -⟩ | ⟨a, -⟩ | ⟨a, -⟩ <;> exact absurd a (by decide)
  have h24 : ga μ0 0 (rowI (nI k)) < 2400 := by
    unfold actR at ha
    rcases ha with ⟨a, -⟩ | ⟨a, -⟩ | ⟨⟨a, -⟩ | ⟨a, -⟩, -⟩ | ⟨a, -⟩ | ⟨a, -⟩ <;> rw [a] <;> decide
  rcases GG_row h9 h60 hp hk h26 with ⟨c, e⟩ | ⟨c, n', rfl, e⟩
  · unfold goS
    rw [if_pos c]
    refine ⟨⟨Int.le_refl _, h1.2.2⟩, Or.inr ⟨by show ¬ (1 : Int32) = 0; decide, ?_⟩⟩
    rw [e]
    have h := hp.1
    exact ⟨⟨h.1, h.2.1, ⟨h.2.2.1.1, h.2.2.1.2.1, by rw [ga_sa_ne z_4 z_0 (by decide)]; exact h.2.2.1.2.2.1, by rw [ga_sa_ne z_4 z_1 (by decide)]; exact h.2.2.1.2.2.2.1, by rw [ga_sa_ne z_4 z_2 (by decide)]; exact h.2.2.1.2.2.2.2.1, by rw [ga_sa_ne z_4 z_3 (by decide)]; exact h.2.2.1.2.2.2.2.2.1, by rw [ga_sa_eq]; rfl⟩, h.2.2.2⟩, lf_31.lf⟩
  · obtain ⟨c1, c2, c3, c4⟩ := pre_cnt hp c
    have hF0 : LFr μ (si μ 29 (gi μ 29 + 1)) := Fr_si (by simp) Fr.rf
    have hS1 := hp.2.2.2.lf hF0
    have ha1 := hS1.act (by omega) ha
    unfold goS
    rw [if_neg c]
    unfold RES
    rw [e]
    unfold lvB
    have r1 := hS1.r (k := k) (by omega)
    by_cases hs : ga μ0 0 (rowI (nI k)) = 27
    · rw [if_pos (by rw [r1]; exact hs)]
      have w5 : w.1 = 5 := by
        unfold actR at ha
        rw [hs] at ha
        rcases ha with ⟨a, -⟩ | ⟨a, -⟩ | ⟨⟨a, -⟩ | ⟨a, -⟩, -⟩ | ⟨a, -⟩ | ⟨-, a⟩
        all_goals first | exact a | exact absurd a (by decide)
      have ed : doS f (.inl w) (lsi σ 2 (gi (own σ) 2 + 1)) = lsi (lsi σ 2 (gi (own σ) 2 + 1)) 7 1 := by
        show f_X13_does _ w.1 w.2.1 w.2.2.1 w.2.2.2 = _
        rw [w5]
        rfl
      rw [ed]
      have e2 : gi (own (lsi (lsi σ 2 (gi (own σ) 2 + 1)) 7 1)) 2 = gi (own σ) 2 + 1 := rfl
      refine ⟨by rw [e2, c2]; omega, Or.inr ⟨by show ¬ (1 : Int32) = 0; decide, ?_, ?_⟩⟩
      · rw [e2, c2]
        exact LV.mono (M := M0 + (gi (own σ) 2).toInt) ⟨c1.1, c1.2.1, c1.2.2.1, c1.2.2.2⟩ (by omega)
      · exact hF0
    · rw [if_neg (by rw [r1]; exact hs)]
      obtain ⟨d1, d2, d3, d4⟩ := lv_does c1 (by omega) ha1 (by rw [r1]; exact hs)
      have hS2 := hS1.lf d2.lf
      have r2 := hS2.r (k := k) (by omega)
      dsimp only
      have e2 : gi (own (doS f (.inl w) (lsi σ 2 (gi (own σ) 2 + 1)))) 2 = gi (own σ) 2 + 1 := d3
      have e7 : gi (own (doS f (.inl w) (lsi σ 2 (gi (own σ) 2 + 1)))) 7 = 0 := d4.trans hp.2.1
      refine ⟨by rw [e2, c2]; omega, Or.inl ⟨e7, n', _, ?_, by rw [e2, c2]; exact c4, ?_, hF0.tr d2.lf, fun i hi hl => ?_⟩⟩
      · rw [if_neg (show ¬ ga _ 0 (rowI (nI k)) = 25 by rw [r2]; exact h25), if_pos (show ga _ 0 (rowI (nI k)) < 2400 by rw [r2]; exact h24), nI_1]
        rfl
      · rw [e2, c2]
        exact d1.mono (by omega)
      · exact d2.2.2.1 30 (nI i) (by decide) (by simp)
theorem PRE.y {n : Nat} {σ : MS × MS} {μ : MS} (hp : PRE μ0 M0 n σ μ) (hY : YOK μ0) : YOK μ := YOK_hY hp.2.2.2.1 (by rw [hp.2.2.2.2.2]) hY
/-- a loop that has come to its end's row, with m times to go -/
theorem sim_it (h9 : ga μ0 0 9 = nI n9) (h60 : n9 ≤ 60) (hY : YOK μ0) (f : MS × MS → MS × MS) (k i : Nat) (hi : i < n9) (hki : k < i) (hf : SIMB μ0 M0 f (k + 1) i) (h25 : ga μ0 0 (rowI (nI k)) = 25) (h26 : ga μ0 0 (rowI (nI i)) = 26) (h4 : ga μ0 0 (rowI (nI i) + 4) = nI k) : ∀ (m n : Nat) (σ : MS × MS) (μ : MS), m ≤ 99 → PRE μ0 M0 n σ μ → ga μ 30 (nI k) = nI m → RES M0 k i (i + 1) n σ (itS f m σ) μ := by
  intro m
  induction m with
  | zero =>
    intro n σ μ _ hp hm
    have hS := hp.2.2.2
    have e9 : (ga μ 0 9).toInt = (n9 : Int) := by rw [hS.2.2, h9]; exact nI_toInt (by omega)
    have bc := (be_close (hp.y hY) (k := i) (o := k) (by omega) (by rw [hS.r (by omega)]; exact h26) (by rw [hS.o (by omega) z_4 (by omega)]; exact h4) (by omega)).2 (fun q => by rw [hm, nI_0, z_0] at q; omega)
    refine ⟨⟨Int.le_refl _, hp.2.2.1.2.2⟩, Or.inl ⟨hp.2.1, n, sa μ 30 (nI k) (ga μ 30 (nI k) - 0), ?_, hp.2.2.1.1, ?_, lf_30, fun q hq hl => ga_sa_ne (nI_toInt (by omega)) (nI_toInt (by omega)) (by omega)⟩⟩
    · unfold GG
      rw [bc]
    · have h := hp.1
      exact ⟨h.1, h.2.1, ⟨h.2.2.1.1, h.2.2.1.2.1, by rw [ga_sa_k (by decide)]; exact h.2.2.1.2.2.1, by rw [ga_sa_k (by decide)]; exact h.2.2.1.2.2.2.1, by rw [ga_sa_k (by decide)]; exact h.2.2.1.2.2.2.2.1, by rw [ga_sa_k (by decide)]; exact h.2.2.1.2.2.2.2.2.1, by rw [ga_sa_k (by decide)]; exact h.2.2.1.2.2.2.2.2.2⟩, h.2.2.2⟩
  | succ m ih =>
    intro n σ μ hm99 hp hm
    have hS := hp.2.2.2
    have e9 : (ga μ 0 9).toInt = (n9 : Int) := by rw [hS.2.2, h9]; exact nI_toInt (by omega)
    have bc := (be_close (hp.y hY) (k := i) (o := k) (by omega) (by rw [hS.r (by omega)]; exact h26) (by rw [hS.o (by omega) z_4 (by omega)]; exact h4) (by omega)).1 ⟨by rw [hS.r (by omega)]; exact h25, by rw [hm, nI_toInt (by omega)]; omega⟩
    rw [hm, nI_pred] at bc
    have h := hp.1
    have hp1 : PRE μ0 M0 n σ (sa μ 30 (nI k) (nI m)) := ⟨⟨h.1, h.2.1, ⟨h.2.2.1.1, h.2.2.1.2.1, by rw [ga_sa_k (by decide)]; exact h.2.2.1.2.2.1, by rw [ga_sa_k (by decide)]; exact h.2.2.1.2.2.2.1, by rw [ga_sa_k (by decide)]; exact h.2.2.1.2.2.2.2.1, by rw [ga_sa_k (by decide)]; exact h.2.2.1.2.2.2.2.2.1, by rw [ga_sa_k (by decide)]; exact h.2.2.1.2.2.2.2.2.2⟩, h.2.2.2⟩, hp.2.1, hp.2.2.1, hp.2.2.2.lf lf_30⟩
    have eG : GG n i μ = GG n (k + 1) (sa μ 30 (nI k) (nI m)) := by unfold GG; rw [bc]
    have fr : ∀ q : Nat, q ≤ 79 → (q < k ∨ i + 1 ≤ q) → ga (sa μ 30 (nI k) (nI m)) 30 (nI q) = ga μ 30 (nI q) := fun q hq hl => ga_sa_ne (nI_toInt (by omega)) (nI_toInt (by omega)) (by omega)
    rw [itS, if_pos hp.2.1]
    have r := hf n σ _ hp1
    have r2 : RES M0 k (k + 1) i n σ (f σ) (sa μ 30 (nI k) (nI m)) := ⟨r.1, r.2.imp (fun ⟨d0, n2, μ2, e2, d1, d2, d3, d4⟩ => ⟨d0, n2, μ2, e2, d1, d2, d3, fun q hq hl => d4 q hq (by omega)⟩) id⟩
    have keep : ∀ (n' : Nat) (μ' : MS), (∀ q : Nat, q ≤ 79 → (q < k + 1 ∨ i ≤ q) → ga μ' 30 (nI q) = ga (sa μ 30 (nI k) (nI m)) 30 (nI q)) → ga μ' 30 (nI k) = nI m := fun n' μ' hq => by
      rw [hq k (by omega) (by omega)]; exact ga_sa_eq
    obtain ⟨b, r⟩ := r
    rcases r with ⟨a0, n', μ', e, a1, a2, a3, a4⟩ | ⟨a0, a1, a2⟩
    · have hP : PRE μ0 M0 n' (f σ) μ' := ⟨a2, a0, ⟨a1, by have := hp.2.2.1; omega, b.2⟩, hp1.2.2.2.lf a3⟩
      obtain ⟨c, r⟩ := ih n' (f σ) μ' (by omega) hP (keep n' μ' a4)
      refine ⟨⟨by omega, c.2⟩, ?_⟩
      rcases r with ⟨d0, n2, μ2, e2, d1, d2, d3, d4⟩ | ⟨d0, d1, d2⟩
      · exact Or.inl ⟨d0, n2, μ2, (eG.trans e).trans e2, d1, d2, (lf_30.tr a3).tr d3, fun q hq hl => ((d4 q hq hl).trans (a4 q hq (by omega))).trans (fr q hq hl)⟩
      · rw [← e, ← eG] at d1 d2
        exact Or.inr ⟨d0, d1, (lf_30.tr a3).tr d2⟩
    · have e0 : itS f m (f σ) = f σ := by
        cases m with
        | zero => rfl
        | succ m => rw [itS, if_neg a0]
      rw [e0]
      rw [← eG] at a1 a2
      exact ⟨b, Or.inr ⟨a0, a1, lf_30.tr a2⟩⟩
theorem sim_loop (h9 : ga μ0 0 9 = nI n9) (h60 : n9 ≤ 60) (hY : YOK μ0) {T : Type} (f : T → MS × MS → MS × MS) (y : Int32 × T) (k i : Nat) (hi : i < n9) (hki : k < i) (hf : SIMB μ0 M0 (f y.2) (k + 1) i) (h25 : ga μ0 0 (rowI (nI k)) = 25) (h1 : ga μ0 0 (rowI (nI k) + 1) = y.1) (ht : 1 ≤ y.1.toInt ∧ y.1.toInt ≤ 99) (h26 : ga μ0 0 (rowI (nI i)) = 26) (h4 : ga μ0 0 (rowI (nI i) + 4) = nI k) : SIMB μ0 M0 (goS f (.inr (.inl y))) k (i + 1) := by
  intro n σ μ hp
  have hq := hp.2.2.1
  obtain ⟨T9, hT9, eT⟩ := small_nI (n := 99) (x := y.1) (by omega)
  have hT0 : 1 ≤ T9 := by rw [eT, nI_toInt (by omega)] at ht; omega
  have h26' : ¬ ga μ0 0 (rowI (nI k)) = 26 := fun q => by rw [h25] at q; exact absurd q (by decide)
  rcases GG_row h9 h60 hp (by omega) h26' with ⟨c, e⟩ | ⟨c, n', rfl, e⟩
  · unfold goS
    rw [if_pos c]
    refine ⟨⟨Int.le_refl _, hq.2.2⟩, Or.inr ⟨by show ¬ (1 : Int32) = 0; decide, ?_⟩⟩
    rw [e]
    have h := hp.1
    exact ⟨⟨h.1, h.2.1, ⟨h.2.2.1.1, h.2.2.1.2.1, by rw [ga_sa_ne z_4 z_0 (by decide)]; exact h.2.2.1.2.2.1, by rw [ga_sa_ne z_4 z_1 (by decide)]; exact h.2.2.1.2.2.2.1, by rw [ga_sa_ne z_4 z_2 (by decide)]; exact h.2.2.1.2.2.2.2.1, by rw [ga_sa_ne z_4 z_3 (by decide)]; exact h.2.2.1.2.2.2.2.2.1, by rw [ga_sa_eq]; rfl⟩, h.2.2.2⟩, lf_31.lf⟩
  · obtain ⟨c1, c2, c3, c4⟩ := pre_cnt hp c
    have hF0 : LFr μ (si μ 29 (gi μ 29 + 1)) := Fr_si (by simp) Fr.rf
    have hS1 := hp.2.2.2.lf hF0
    have r1 : ga (si μ 29 (gi μ 29 + 1)) 0 (rowI (nI k)) = 25 := (hS1.r (by omega)).trans h25
    have e3 : ga (si μ 29 (gi μ 29 + 1)) 31 0 + 0 = gi (own (lsi σ 2 (gi (own σ) 2 + 1))) 3 := by rw [Int32.add_zero]; exact hp.1.2.2.1.2.2.1.symm
    have d1 := lv_k3 c1 e3
    have eG : GG (n' + 1) k μ = GG n' (k + 1) (sa (sa (si μ 29 (gi μ 29 + 1)) 31 0 (ga (si μ 29 (gi μ 29 + 1)) 31 0 + 0)) 30 (nI k) (nI (T9 - 1))) := by
      rw [e]
      unfold lvB
      rw [if_neg (by rw [r1]; decide), does_no (Or.inl r1)]
      dsimp only
      have r2 : ga (sa (si μ 29 (gi μ 29 + 1)) 31 0 (ga (si μ 29 (gi μ 29 + 1)) 31 0 + 0)) 0 (rowI (nI k)) = 25 := r1
      have r3 : ga (sa (si μ 29 (gi μ 29 + 1)) 31 0 (ga (si μ 29 (gi μ 29 + 1)) 31 0 + 0)) 0 (rowI (nI k) + 1) - 1 = nI (T9 - 1) := by
        have : ga (sa (si μ 29 (gi μ 29 + 1)) 31 0 (ga (si μ 29 (gi μ 29 + 1)) 31 0 + 0)) 0 (rowI (nI k) + 1) = nI T9 := ((hS1.o (k := k) (by omega) z_1 (by omega)).trans h1).trans eT
        rw [this]
        obtain ⟨z, rfl⟩ : ∃ z, T9 = z + 1 := ⟨T9 - 1, by omega⟩
        rw [nI_pred]
        rfl
      rw [if_neg (show ¬ (1 : Int32) = 0 by decide), if_pos r2, r3, if_pos (show ga _ 0 (rowI (nI k)) < 2400 by rw [ga_sa_k (by decide), r2]; decide), nI_1]
      rfl
    have hF1 : LFr μ (sa (sa (si μ 29 (gi μ 29 + 1)) 31 0 (ga (si μ 29 (gi μ 29 + 1)) 31 0 + 0)) 30 (nI k) (nI (T9 - 1))) := (hF0.tr lf_31.lf).tr lf_30
    have fr : ∀ q : Nat, q ≤ 79 → (q < k ∨ i + 1 ≤ q) → ga (sa (sa (si μ 29 (gi μ 29 + 1)) 31 0 (ga (si μ 29 (gi μ 29 + 1)) 31 0 + 0)) 30 (nI k) (nI (T9 - 1))) 30 (nI q) = ga μ 30 (nI q) := fun q hq hl => (ga_sa_ne (nI_toInt (by omega)) (nI_toInt (by omega)) (by omega)).trans (ga_sa_k (by decide))
    have hk0 : ga (sa (sa (si μ 29 (gi μ 29 + 1)) 31 0 (ga (si μ 29 (gi μ 29 + 1)) 31 0 + 0)) 30 (nI k) (nI (T9 - 1))) 30 (nI k) = nI (T9 - 1) := ga_sa_eq
    generalize hμ1 : sa (sa (si μ 29 (gi μ 29 + 1)) 31 0 (ga (si μ 29 (gi μ 29 + 1)) 31 0 + 0)) 30 (nI k) (nI (T9 - 1)) = μ1 at eG hF1 fr hk0
    have hp1 : PRE μ0 M0 n' (lsi σ 2 (gi (own σ) 2 + 1)) μ1 := by
      refine ⟨?_, hp.2.1, ⟨by show (n' : Int) + (gi (own σ) 2 + 1).toInt = 301; rw [c2]; exact c4, by show 0 ≤ (gi (own σ) 2 + 1).toInt; rw [c2]; omega, by show (gi (own σ) 2 + 1).toInt ≤ 300; rw [c2]; exact c3⟩, hp.2.2.2.lf hF1⟩
      have h : LV (M0 + (gi (own σ) 2 + 1).toInt) (lsi σ 2 (gi (own σ) 2 + 1)) (sa (si μ 29 (gi μ 29 + 1)) 31 0 (ga (si μ 29 (gi μ 29 + 1)) 31 0 + 0)) := d1.mono (by rw [c2]; omega)
      rw [← hμ1]
      exact ⟨h.1, h.2.1, ⟨h.2.2.1.1, h.2.2.1.2.1, by rw [ga_sa_k (by decide)]; exact h.2.2.1.2.2.1, by rw [ga_sa_k (by decide)]; exact h.2.2.1.2.2.2.1, by rw [ga_sa_k (by decide)]; exact h.2.2.1.2.2.2.2.1, by rw [ga_sa_k (by decide)]; exact h.2.2.1.2.2.2.2.2.1, by rw [ga_sa_k (by decide)]; exact h.2.2.1.2.2.2.2.2.2⟩, h.2.2.2⟩
    have es : goS f (.inr (.inl y)) σ = itS (f y.2) T9 (lsi σ 2 (gi (own σ) 2 + 1)) := by
      unfold goS
      rw [if_neg c]
      show itS (f y.2) y.1.toNatClampNeg _ = _
      rw [eT, nI_clamp (by omega)]
    obtain ⟨z, rfl⟩ : ∃ z, T9 = z + 1 := ⟨T9 - 1, by omega⟩
    rw [es, itS, if_pos (show gi (own (lsi σ 2 (gi (own σ) 2 + 1))) 7 = 0 from hp.2.1)]
    obtain ⟨b, r⟩ := hf n' _ μ1 hp1
    have b2 : (gi (own (lsi σ 2 (gi (own σ) 2 + 1))) 2).toInt = (gi (own σ) 2).toInt + 1 := c2
    rcases r with ⟨a0, n2, μ', e2, a1, a2, a3, a4⟩ | ⟨a0, a1, a2⟩
    · have hP : PRE μ0 M0 n2 (f y.2 (lsi σ 2 (gi (own σ) 2 + 1))) μ' := ⟨a2, a0, ⟨a1, by omega, b.2⟩, hp1.2.2.2.lf a3⟩
      obtain ⟨c5, r⟩ := sim_it h9 h60 hY (f y.2) k i hi hki hf h25 h26 h4 z n2 _ μ' (by omega) hP ((a4 k (by omega) (by omega)).trans hk0)
      refine ⟨⟨by omega, c5.2⟩, ?_⟩
      rcases r with ⟨d0, n3, μ2, e3, d1, d2, d3, d4⟩ | ⟨d0, d1, d2⟩
      · exact Or.inl ⟨d0, n3, μ2, (eG.trans e2).trans e3, d1, d2, (hF1.tr a3).tr d3, fun q hq hl => ((d4 q hq hl).trans (a4 q hq (by omega))).trans (fr q hq hl)⟩
      · rw [← e2, ← eG] at d1 d2
        exact Or.inr ⟨d0, d1, (hF1.tr a3).tr d2⟩
    · have e0 : itS (f y.2) z (f y.2 (lsi σ 2 (gi (own σ) 2 + 1))) = f y.2 (lsi σ 2 (gi (own σ) 2 + 1)) := by
        cases z with
        | zero => rfl
        | succ m => rw [itS, if_neg a0]
      rw [e0]
      rw [← eG] at a1 a2
      exact ⟨⟨by omega, b.2⟩, Or.inr ⟨a0, a1, hF1.tr a2⟩⟩
theorem sim_when (h9 : ga μ0 0 9 = nI n9) (h60 : n9 ≤ 60) (hM : M0 + 300 ≤ 999999) (hY : YOK μ0) {T : Type} (f : T → MS × MS → MS × MS) (y : (Int32 × Int32 × Int32 × Int32 × Int32) × T) (k i : Nat) (hi : i < n9) (hki : k < i) (hf : SIMB μ0 M0 (f y.2) (k + 1) i) (hw : whnR μ0 y.1 (rowI (nI k))) (h26 : ga μ0 0 (rowI (nI i)) = 26) (h4 : ga μ0 0 (rowI (nI i) + 4) = nI k) (hk4 : ga μ0 0 (rowI (nI k) + 4) = nI i) : SIMB μ0 M0 (goS f (.inr (.inr y))) k (i + 1) := by
  intro n σ μ hp
  have hq := hp.2.2.1
  have hrow : (ga μ0 0 (rowI (nI k)) = 2428 ∨ ga μ0 0 (rowI (nI k)) = 2403 ∨ ga μ0 0 (rowI (nI k)) = 2415) := by
    rcases hw.1 with ⟨a, -⟩ | ⟨a, -⟩ | ⟨a, -⟩
    · exact Or.inl a
    · exact Or.inr (Or.inl a)
    · exact Or.inr (Or.inr a)
  have hbig : 2400 ≤ (ga μ0 0 (rowI (nI k))).toInt := by rcases hrow with q | q | q <;> rw [q] <;> decide
  have hne : ∀ v : Int32, v.toInt < 2400 → ¬ ga μ0 0 (rowI (nI k)) = v := fun v hv q => by rw [q] at hbig; omega
  have h26' : ¬ ga μ0 0 (rowI (nI k)) = 26 := hne 26 (by decide)
  rcases GG_row h9 h60 hp (by omega) h26' with ⟨c, e⟩ | ⟨c, n', rfl, e⟩
  · unfold goS
    rw [if_pos c]
    refine ⟨⟨Int.le_refl _, hq.2.2⟩, Or.inr ⟨by show ¬ (1 : Int32) = 0; decide, ?_⟩⟩
    rw [e]
    have h := hp.1
    exact ⟨⟨h.1, h.2.1, ⟨h.2.2.1.1, h.2.2.1.2.1, by rw [ga_sa_ne z_4 z_0 (by decide)]; exact h.2.2.1.2.2.1, by rw [ga_sa_ne z_4 z_1 (by decide)]; exact h.2.2.1.2.2.2.1, by rw [ga_sa_ne z_4 z_2 (by decide)]; exact h.2.2.1.2.2.2.2.1, by rw [ga_sa_ne z_4 z_3 (by decide)]; exact h.2.2.1.2.2.2.2.2.1, by rw [ga_sa_eq]; rfl⟩, h.2.2.2⟩, lf_31.lf⟩
  · obtain ⟨c1, c2, c3, c4⟩ := pre_cnt hp c
    have hF0 : LFr μ (si μ 29 (gi μ 29 + 1)) := Fr_si (by simp) Fr.rf
    have e3 : ga (si μ 29 (gi μ 29 + 1)) 31 0 + 0 = gi (own (lsi σ 2 (gi (own σ) 2 + 1))) 3 := by rw [Int32.add_zero]; exact hp.1.2.2.1.2.2.1.symm
    have d1 : LV (M0 + (gi (own σ) 2 + 1).toInt) (lsi σ 2 (gi (own σ) 2 + 1)) (sa (si μ 29 (gi μ 29 + 1)) 31 0 (ga (si μ 29 (gi μ 29 + 1)) 31 0 + 0)) := (lv_k3 c1 e3).mono (by rw [c2]; omega)
    have hF1 : LFr μ (sa (si μ 29 (gi μ 29 + 1)) 31 0 (ga (si μ 29 (gi μ 29 + 1)) 31 0 + 0)) := hF0.tr lf_31.lf
    have fr : ∀ q : Nat, ga (sa (si μ 29 (gi μ 29 + 1)) 31 0 (ga (si μ 29 (gi μ 29 + 1)) 31 0 + 0)) 30 (nI q) = ga μ 30 (nI q) := fun q => ga_sa_k (by decide)
    have hS0 := hp.2.2.2.lf hF0
    have eL : lvB n' (nI k) (si μ 29 (gi μ 29 + 1)) = (if f_X6_holds (sa (si μ 29 (gi μ 29 + 1)) 31 0 (ga (si μ 29 (gi μ 29 + 1)) 31 0 + 0)) (rowI (nI k)) = 0 then GG n' (i + 1) (sa (si μ 29 (gi μ 29 + 1)) 31 0 (ga (si μ 29 (gi μ 29 + 1)) 31 0 + 0)) else GG n' (k + 1) (sa (si μ 29 (gi μ 29 + 1)) 31 0 (ga (si μ 29 (gi μ 29 + 1)) 31 0 + 0))) := by
      have r0 := hS0.r (k := k) (by omega)
      have r4 : ga (sa (si μ 29 (gi μ 29 + 1)) 31 0 (ga (si μ 29 (gi μ 29 + 1)) 31 0 + 0)) 0 (rowI (nI k) + 4) = nI i := (hS0.o (k := k) (by omega) z_4 (by omega)).trans hk4
      unfold lvB
      rw [if_neg (by rw [r0]; exact hne 27 (by decide)), does_no (Or.inr (by rw [r0]; exact hbig))]
      dsimp only
      have r2 : ga (sa (si μ 29 (gi μ 29 + 1)) 31 0 (ga (si μ 29 (gi μ 29 + 1)) 31 0 + 0)) 0 (rowI (nI k)) = ga μ0 0 (rowI (nI k)) := r0
      rw [if_neg (show ¬ (1 : Int32) = 0 by decide), if_neg (by rw [r2]; exact hne 25 (by decide)), if_neg (show ¬ ga _ 0 (rowI (nI k)) < 2400 from fun q => by have := c_lt q; rw [r2, show (2400 : Int32).toInt = 2400 from rfl] at this; omega)]
      by_cases hh : f_X6_holds (sa (si μ 29 (gi μ 29 + 1)) 31 0 (ga (si μ 29 (gi μ 29 + 1)) 31 0 + 0)) (rowI (nI k)) = 0
      · rw [if_pos hh, if_pos hh, r4, nI_1]
        rfl
      · rw [if_neg hh, if_neg hh, nI_1]
        rfl
    generalize hμ1 : sa (si μ 29 (gi μ 29 + 1)) 31 0 (ga (si μ 29 (gi μ 29 + 1)) 31 0 + 0) = μ1 at eL hF1 fr d1
    have hS1 := hp.2.2.2.lf hF1
    have hp1 : PRE μ0 M0 n' (lsi σ 2 (gi (own σ) 2 + 1)) μ1 := ⟨d1, hp.2.1, ⟨by show (n' : Int) + (gi (own σ) 2 + 1).toInt = 301; rw [c2]; exact c4, by show 0 ≤ (gi (own σ) 2 + 1).toInt; rw [c2]; omega, by show (gi (own σ) 2 + 1).toInt ≤ 300; rw [c2]; exact c3⟩, hS1⟩
    have hh := lv_holds d1 (by rw [c2]; omega) (hS1.whn (k := k) (by omega) hw)
    have b2 : (gi (own (lsi σ 2 (gi (own σ) 2 + 1))) 2).toInt = (gi (own σ) 2).toInt + 1 := c2
    have es : goS f (.inr (.inr y)) σ = if f_X6_holds μ1 (rowI (nI k)) = 0 then lsi σ 2 (gi (own σ) 2 + 1) else f y.2 (lsi σ 2 (gi (own σ) 2 + 1)) := by
      unfold goS
      rw [if_neg c]
      show (if f_X12_is _ y.1.1 y.1.2.1 y.1.2.2.1 y.1.2.2.2.1 y.1.2.2.2.2 = 0 then _ else _) = _
      rw [hh]
    rw [es]
    by_cases h0 : f_X6_holds μ1 (rowI (nI k)) = 0
    · rw [if_pos h0] at eL ⊢
      exact ⟨⟨by omega, hp1.2.2.1.2.2⟩, Or.inl ⟨hp.2.1, n', μ1, e.trans eL, hp1.2.2.1.1, d1, hF1, fun q _ _ => fr q⟩⟩
    · rw [if_neg h0] at eL ⊢
      have eG := e.trans eL
      obtain ⟨b, r⟩ := hf n' _ μ1 hp1
      rcases r with ⟨a0, n2, μ', e2, a1, a2, a3, a4⟩ | ⟨a0, a1, a2⟩
      · have hP : PRE μ0 M0 n2 (f y.2 (lsi σ 2 (gi (own σ) 2 + 1))) μ' := ⟨a2, a0, ⟨a1, by omega, b.2⟩, hp1.2.2.2.lf a3⟩
        have hS := hP.2.2.2
        have e9 : (ga μ' 0 9).toInt = (n9 : Int) := by rw [hS.2.2, h9]; exact nI_toInt (by omega)
        have bc := (be_close (hP.y hY) (k := i) (o := k) (by omega) (by rw [hS.r (by omega)]; exact h26) (by rw [hS.o (by omega) z_4 (by omega)]; exact h4) (by omega)).2 (fun q => by have := q.1; rw [hS.r (by omega)] at this; exact hne 25 (by decide) this)
        refine ⟨⟨by omega, b.2⟩, Or.inl ⟨a0, n2, sa μ' 30 (nI k) (ga μ' 30 (nI k) - 0), ?_, a1, ?_, (hF1.tr a3).tr lf_30, fun q hq hl => ?_⟩⟩
        · rw [eG, e2]
          unfold GG
          rw [bc]
        · have h := a2
          exact ⟨h.1, h.2.1, ⟨h.2.2.1.1, h.2.2.1.2.1, by rw [ga_sa_k (by decide)]; exact h.2.2.1.2.2.1, by rw [ga_sa_k (by decide)]; exact h.2.2.1.2.2.2.1, by rw [ga_sa_k (by decide)]; exact h.2.2.1.2.2.2.2.1, by rw [ga_sa_k (by decide)]; exact h.2.2.1.2.2.2.2.2.1, by rw [ga_sa_k (by decide)]; exact h.2.2.1.2.2.2.2.2.2⟩, h.2.2.2⟩
        · exact ((ga_sa_ne (nI_toInt (by omega)) (nI_toInt (by omega)) (by omega)).trans (a4 q hq (by omega))).trans (fr q)
      · rw [← eG] at a1 a2
        exact ⟨⟨by omega, b.2⟩, Or.inr ⟨a0, a1, hF1.tr a2⟩⟩
theorem sim_tree (h9 : ga μ0 0 9 = nI n9) (h60 : n9 ≤ 60) (hM : M0 + 300 ≤ 999999) (hY : YOK μ0) : ∀ (d : Nat) (t : TR d) (k j : Nat), trR μ0 d t k j → j ≤ n9 → SIMB μ0 M0 (semT d t) k j
  | 0, t, k, j, h, _ => fun n σ μ hp => by
    have e : j = k := h
    subst e
    exact ⟨⟨Int.le_refl _, hp.2.2.1.2.2⟩, Or.inl ⟨hp.2.1, n, μ, rfl, hp.2.2.1.1, hp.1, Fr.rf, fun _ _ _ => rfl⟩⟩
  | d + 1, t, k, j, h, hj => by
    refine sim_seq (trR_le d) (fun x k j hx hj => ?_) (trl t) k j h hj
    rcases x with w | y | y
    · obtain ⟨rfl, ha⟩ := hx
      exact sim_act h9 h60 hM _ w k (by omega) ha
    · obtain ⟨⟨a1, a2, a3⟩, i, b1, rfl, b3, b4⟩ := hx
      have := trR_le d _ _ _ b1
      exact sim_loop h9 h60 hY _ y k i (by omega) (by omega) (sim_tree h9 h60 hM hY d y.2 (k + 1) i b1 (by omega)) a1 a2 a3 b3 b4
    · obtain ⟨a1, i, b1, rfl, b3, b4, b5⟩ := hx
      have := trR_le d _ _ _ b1
      exact sim_when h9 h60 hM hY _ y k i (by omega) (by omega) (sim_tree h9 h60 hM hY d y.2 (k + 1) i b1 (by omega)) a1 b3 b4 b5
end SIM
theorem tr_first {μ : MS} {d : Nat} {t : TR d} {n9 : Nat} (h : trR μ d t 0 n9) : n9 = 0 ∨ ¬ ga μ 0 (rowI (nI 0)) = 26 := by
  cases d with
  | zero => exact Or.inl h
  | succ d =>
    have h2 : sqR μ (trR μ d) (trl t) 0 n9 := h
    cases hc : trl t with
    | nil => rw [hc] at h2; exact Or.inl h2
    | cons x t2 =>
      rw [hc] at h2
      obtain ⟨i, h3, -⟩ := h2
      refine Or.inr (fun q => ?_)
      rcases x with w | y | y
      · obtain ⟨-, ha⟩ := h3
        unfold actR at ha
        rw [q] at ha
        rcases ha with ⟨a, -⟩ | ⟨a, -⟩ | ⟨⟨a, -⟩ | ⟨a, -⟩, -⟩ | ⟨a, -⟩ | ⟨a, -⟩ <;> exact absurd a (by decide)
      · obtain ⟨⟨a, -⟩, -⟩ := h3
        rw [q] at a
        exact absurd a (by decide)
      · obtain ⟨⟨hw, -⟩, -⟩ := h3
        rw [q] at hw
        rcases hw with ⟨a, -⟩ | ⟨a, -⟩ | ⟨a, -⟩ <;> exact absurd a (by decide)
/-- the living at its start -/
def liv0 (τ : MS) (seed : Int32) : MS × MS := (si m00 1 seed, τ)
theorem lives_0 (μ : MS) : ∃ u : MS, f_X6_lives_L12 6 0 μ = (5, u) ∧ (ga u 31 0 = 0 ∧ ga u 31 1 = 0 ∧ ga u 31 2 = 0 ∧ ga u 31 3 = 0 ∧ ga u 31 4 = 0) ∧ u.1 = μ.1 ∧ u.2.1 = μ.2.1 ∧ (∀ k, k ≠ 31 → u.2.2.1 k = μ.2.2.1 k) ∧ u.2.2.2 = μ.2.2.2 := by
  refine ⟨sa (sa (sa (sa (sa μ 31 0 0) 31 1 0) 31 2 0) 31 3 0) 31 4 0, ?_, ⟨?_, ?_, ?_, ?_, ?_⟩, rfl, rfl, fun k hk => ?_, rfl⟩
  · simp only [f_X6_lives_L12]
    rfl
  · rfl
  · rfl
  · rfl
  · rfl
  · rfl
  · simp [sa, va_up, hk]
theorem law_lives {N : Int} {τ μ : MS} (hR : RT τ μ) (hS : SL μ 0) (hB : PB μ N) (hN : N + 300 ≤ 999999) (hY : YOK μ) {d n9 : Nat} {t : TR d} (h9 : ga μ 0 9 = nI n9) (h60 : n9 ≤ 60) (ht : trR μ d t 0 n9) {p : Int32} (hp : 0 ≤ p.toInt ∧ p.toInt ≤ 9999) :
    LV (N + 300) (semT d t (liv0 τ p)) (f_X6_lives μ p) ∧ LFr μ (f_X6_lives μ p) ∧ (0 ≤ (gi (f_X6_lives μ p) 29).toInt ∧ (gi (f_X6_lives μ p) 29).toInt ≤ 300) := by
  obtain ⟨u, e, ⟨z0, z1, z2, z3, z4⟩, u1, u2, u3, u4⟩ := lives_0 (si (si μ 28 p) 29 0)
  have eL : f_X6_lives μ p = f_X6_lives_L32 301 0 u := by
    unfold f_X6_lives
    dsimp only
    rw [e]
  have g0 : ∀ i, ga u 0 i = ga μ 0 i := fun i => by unfold ga; rw [u3 0 (by decide)]; rfl
  have hF : LFr μ u := ⟨fun k hk => by
      show u.1 k = μ.1 k
      rw [u1]
      simp at hk
      show upd (upd μ.1 28 p) 29 0 k = _
      simp [upd, hk.1, hk.2], fun k => by show u.2.1 k = _; rw [u2]; rfl, fun k i h0 hk => by
      simp at hk
      show u.2.2.1 k _ = _
      rw [u3 k hk.2]; rfl, fun j _ _ => g0 j, fun k j _ => by show u.2.2.2 k _ = _; rw [u4]; rfl, fun j _ _ => by show u.2.2.2 1 _ = _; rw [u4]; rfl⟩
  have hS0 : SM μ u := ⟨fun j _ => g0 j, g0 0, g0 9⟩
  have e28 : gi u 28 = p := by show u.1 28 = p; rw [u1]; rfl
  have e29 : gi u 29 = 0 := by show u.1 29 = 0; rw [u1]; rfl
  have hRu : RT τ u := by
    unfold RT at hR ⊢
    simp only [g0]
    exact hR
  have hSu : SL u 0 := SL_A0 g0 hS
  have hBu : PB u N := fun q hq => by rw [g0]; exact hB q hq
  have hp0 : PRE μ N 301 (liv0 τ p) u := by
    refine ⟨⟨hRu, ⟨hSu, hBu.mono (by show N ≤ N + (0 : Int32).toInt; rw [z_0]; omega)⟩, ⟨e28.symm, e29.symm, z0.symm, z1.symm, z2.symm, z3.symm, z4.symm⟩, by rw [e28]; omega⟩, rfl, ⟨by show (301 : Int) + (0 : Int32).toInt = 301; rw [z_0]; rfl, by show 0 ≤ (0 : Int32).toInt; decide, by show (0 : Int32).toInt ≤ 300; decide⟩, hS0⟩
  have eG : f_X6_lives_L32 301 0 u = GG 301 0 u := by
    unfold GG
    rw [be_stop, nI_0]
    rcases tr_first ht with q | q
    · exact Or.inl (by rw [g0, h9, q]; decide)
    · exact Or.inr (by rw [g0]; exact q)
  obtain ⟨b, r⟩ := sim_tree h9 h60 hN hY d t 0 n9 ht (Nat.le_refl _) 301 _ u hp0
  rw [eL, eG]
  have b1 : 0 ≤ (gi (own (semT d t (liv0 τ p))) 2).toInt := by
    have := b.1
    have z : (gi (own (liv0 τ p)) 2).toInt = 0 := rfl
    omega
  rcases r with ⟨a0, n', μ', e2, a1, a2, a3, a4⟩ | ⟨a0, a1, a2⟩
  · have eE : GG n' n9 μ' = μ' := by
      have e9 : ga μ' 0 9 = nI n9 := ((hS0.lf a3).2.2).trans h9
      obtain ⟨m, rfl⟩ : ∃ m, n' = m + 1 := ⟨n' - 1, by omega⟩
      unfold GG
      rw [be_stop (Or.inl (by rw [e9]; exact Int32.le_refl _)), lvB_e, if_pos (by rw [e9]; exact Int32.le_refl _)]
    rw [e2, eE]
    refine ⟨a2.mono (by omega), hF.tr a3, ?_⟩
    rw [← a2.2.2.1.2.1]
    exact ⟨b1, b.2⟩
  · refine ⟨a1.mono (by omega), hF.tr a2, ?_⟩
    rw [← a1.2.2.1.2.1]
    exact ⟨b1, b.2⟩
