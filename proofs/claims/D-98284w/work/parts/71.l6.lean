/-! walks of methods by contract, printed by gen/mkwalk.py -/
set_option maxRecDepth 100000
theorem L_n18 {p : Program} {l : Launch} {e : Env} {R : Room} {s : State} {m : MethodId} {args : Array Value} {below : List Frame} {meth : Method} {c : Code} {H : Heap} {locs : List Loc} {cells slots : Nat} {Q : State → Prop} {cc : ByteArray} {nL pc : Nat} {ls : Array Slot} {rest : List Value} {g : GL} {σ : MS × MS} (C : wC (dL g) RX0 p s m args c cc nL) (h : wH (dL g) σ s H locs) (hdg : decode cc pc = .ok (.arraylength, 1)) (kk : W p l e R s m args below meth c H locs cells slots Q (F0 m (pc + 1) ls (.int 36 :: rest))) : W p l e R s m args below meth c H locs cells slots Q (F0 m pc ls (.ref (g.2.2.1 18) :: rest)) :=
  va_alen C.1.1 C.1.2.1 C.2.1 h.1 10 0 rfl rfl rfl hdg kk
/-- the row `simple` poured into the table's debts -/
def tcp (σ : MS × MS) : MS × MS := (σ.1, (σ.2.1, σ.2.2.1, (fun k => if k = 12 then va_cpy (σ.1.2.2.1 18) (σ.2.2.2.1 12) 0 0 36 else σ.2.2.2.1 k), σ.2.2.2.2))
theorem L_cpy {p : Program} {l : Launch} {e : Env} {R : Room} {s : State} {m : MethodId} {args : Array Value} {below : List Frame} {meth : Method} {c : Code} {H : Heap} {locs : List Loc} {cells slots : Nat} {Q : State → Prop} {cc : ByteArray} {nL pc : Nat} {ls : Array Slot} {g : GL} {σ : MS × MS} (C : wC (dL g) RX0 p s m args c cc nL) (h : wH (dL g) σ s H locs) (hls : ls.size = nL) (hR : 1 ≤ R.frames ∧ 18 ≤ R.locals) (hdg : decode cc pc = .ok (.invokestatic 148, 3))
    (kk : ∀ (σ1 : MS × MS) (H1 : Heap) (locs1 : List Loc), σ1 = tcp σ → wH (dL g) σ1 s H1 locs1 → W p l e R s m args below meth c H1 locs1 cells slots Q (F0 m (pc + 3) ls [])) : W p l e R s m args below meth c H locs cells slots Q (F0 m pc ls (.int 36 :: .int 0 :: .ref (g.1.2.1 12) :: .int 0 :: .ref (g.2.2.1 18) :: [])) :=
  va_copyi C.1.1 C.1.2.1 (C.1.2.2.1.trans hls.symm) C.1.2.2.2.1 (C.1.2.2.2.2 _ q565) (C.1.2.2.2.2 _ q567) (C.1.2.2.2.2 _ q566) (C.1.2.2.2.2 _ q158) C.2.1 h.1 h.2.1 h.2.2.1 10 4 0 0 (ty := .int) rfl rfl rfl rfl rfl (by decide) (by decide) (by decide) (by decide) (by decide) (fun _ _ => rfl) hR.1 (by show 0 + (7 + 11) ≤ R.locals; exact hR.2) hdg (fun H1 locs1 hP hD hS => kk _ H1 locs1 rfl ⟨hP, hD, hS, h.2.2.2⟩)
/-- the least or the most of what is left -/
def bestE (σ : MS × MS) (w a : Int32) (m : Int) : Prop := 0 ≤ a.toInt ∧ a.toInt < m ∧ ∀ q : Int32, 0 ≤ q.toInt → q.toInt < m → if w = 0 then (ga (own σ) 17 a).toInt ≤ (ga (own σ) 17 q).toInt else (ga (own σ) 17 q).toInt ≤ (ga (own σ) 17 a).toInt
theorem bestE_up {σ : MS × MS} {w a b : Int32} (h : bestE σ w a b.toInt) (hb : b.toInt < 1000) (hc : if w = 0 then (ga (own σ) 17 a).toInt ≤ (ga (own σ) 17 b).toInt else (ga (own σ) 17 b).toInt ≤ (ga (own σ) 17 a).toInt) : bestE σ w a (b.toInt + 1) := ⟨h.1, by have := h.2.1; omega, fun q h0 h1 => by
  by_cases e : q.toInt = b.toInt
  · rw [Int32.toInt_inj.mp e]; exact hc
  · exact h.2.2 q h0 (by omega)⟩
theorem bestE_new {σ : MS × MS} {w a b : Int32} (h : bestE σ w a b.toInt) (hb : 0 ≤ b.toInt) (hc : if w = 0 then (ga (own σ) 17 b).toInt ≤ (ga (own σ) 17 a).toInt else (ga (own σ) 17 a).toInt ≤ (ga (own σ) 17 b).toInt) : bestE σ w b (b.toInt + 1) := ⟨hb, by omega, fun q h0 h1 => by
  by_cases e : q.toInt = b.toInt
  · rw [Int32.toInt_inj.mp e]; split <;> exact Int.le_refl _
  · have := h.2.2 q h0 (by omega)
    by_cases w0 : w = 0
    · rw [if_pos w0] at this hc ⊢; exact Int.le_trans hc this
    · rw [if_neg w0] at this hc ⊢; exact Int.le_trans this hc⟩
theorem lext_L {σ : MS × MS} {w : Int32} {N : Int} (hN : (gi (ttb σ) 1).toInt = N) (h6 : 1 ≤ N ∧ N ≤ 6) : ∀ (n : Nat) (a b : Int32), 0 ≤ b.toInt → b.toInt ≤ N → N < b.toInt + n → ((b.toInt = 0 ∧ a = -1) ∨ bestE σ w a b.toInt) → bestE σ w (f_X0_extremeOf_L4 σ w n a b).1 N := by
  intro n
  induction n with
  | zero => intro a b h0 h1 h2; omega
  | succ n ih =>
    intro a b h0 h1 h2 h3
    rw [f_X0_extremeOf_L4]
    have eb : (b + 1).toInt = b.toInt + 1 := i_add rfl (show (1 : Int32).toInt = 1 from rfl) (by omega)
    by_cases c : gi (ttb σ) 1 ≤ b
    · rw [if_pos c]
      have c' := c_le c
      have e : b.toInt = N := by omega
      rcases h3 with h3 | h3
      · omega
      · rw [← e]; exact h3
    · rw [if_neg c]
      have c' := c_nle c
      rcases h3 with ⟨h4, h5⟩ | h3
      · rw [if_pos (by rw [h5]; decide)]
        refine ih b (b + 1) (by omega) (by omega) (by omega) (Or.inr ?_)
        rw [eb]
        exact ⟨h0, by omega, fun q p0 p1 => by rw [show q = b from Int32.toInt_inj.mp (by omega)]; split <;> exact Int.le_refl _⟩
      · rw [if_neg (fun q => by have := c_lt q; have := h3.1; rw [show (0 : Int32).toInt = 0 from rfl] at *; omega)]
        by_cases w0 : w = 0
        · rw [if_pos w0]
          by_cases d : ga (own σ) 17 a ≤ ga (own σ) 17 b
          · rw [if_pos d]
            exact ih a (b + 1) (by omega) (by omega) (by omega) (Or.inr (by rw [eb]; exact bestE_up h3 (by omega) (by rw [if_pos w0]; exact c_le d)))
          · rw [if_neg d]
            exact ih b (b + 1) (by omega) (by omega) (by omega) (Or.inr (by rw [eb]; exact bestE_new h3 h0 (by rw [if_pos w0]; have := c_nle d; omega)))
        · rw [if_neg w0]
          by_cases d : ga (own σ) 17 b ≤ ga (own σ) 17 a
          · rw [if_pos d]
            exact ih a (b + 1) (by omega) (by omega) (by omega) (Or.inr (by rw [eb]; exact bestE_up h3 (by omega) (by rw [if_neg w0]; exact c_le d)))
          · rw [if_neg d]
            exact ih b (b + 1) (by omega) (by omega) (by omega) (Or.inr (by rw [eb]; exact bestE_new h3 h0 (by rw [if_neg w0]; have := c_nle d; omega)))
theorem lext {σ : MS × MS} {w r : Int32} (h6 : 1 ≤ (gi (ttb σ) 1).toInt ∧ (gi (ttb σ) 1).toInt ≤ 6) (e : r = f_X0_extremeOf σ w) : bestE σ w r (gi (ttb σ) 1).toInt := by
  rw [e]
  exact lext_L rfl h6 7 (-1) 0 (by decide) (by rw [show (0 : Int32).toInt = 0 from rfl]; omega) (by rw [show (0 : Int32).toInt = 0 from rfl]; omega) (Or.inl ⟨rfl, rfl⟩)
theorem lbal_L : ∀ (n : Nat) (b : Int32) (σ : MS × MS), ((gi (ttb σ) 1).toInt ≤ 6) → 0 ≤ b.toInt → (gi (ttb σ) 1).toInt < b.toInt + n → (∀ q : Int32, 0 ≤ q.toInt → q.toInt < b.toInt → q.toInt < (gi (ttb σ) 1).toInt → ga (own σ) 17 q = f_X5_balance (ttb σ) q) → ∀ q : Int32, 0 ≤ q.toInt → q.toInt < (gi (ttb σ) 1).toInt → ga (own (f_X0_balances_L2 n b σ).2) 17 q = f_X5_balance (ttb σ) q := by
  intro n
  induction n with
  | zero => intro b σ h6 hb hn hq q h0 h1; exact hq q h0 (by omega) h1
  | succ n ih =>
    intro b σ h6 hb hn hq q h0 h1
    rw [f_X0_balances_L2]
    by_cases c : gi (ttb σ) 1 ≤ b
    · rw [if_pos c]
      have := c_le c
      exact hq q h0 (by omega) h1
    · rw [if_neg c]
      have c' := c_nle c
      have eb : (b + 1).toInt = b.toInt + 1 := i_add rfl (show (1 : Int32).toInt = 1 from rfl) (by omega)
      dsimp only
      refine ih (b + 1) (lsa σ 17 b (f_X5_balance (ttb σ) b)) h6 (by omega) (by show _ < _; have : (gi (ttb (lsa σ 17 b (f_X5_balance (ttb σ) b))) 1).toInt = (gi (ttb σ) 1).toInt := rfl; omega) (fun r r0 r1 r2 => ?_) q h0 h1
      show ga (sa (own σ) 17 b (f_X5_balance (ttb σ) b)) 17 r = f_X5_balance (ttb σ) r
      by_cases z : b.toInt = r.toInt
      · have := Int32.toInt_inj.mp z
        rw [← this, ga_sa_eq]
      · rw [ga_sa_ne (i := b) (j := r) rfl rfl (by omega)]
        exact hq r r0 (by omega) r2
theorem lbal {σ u : MS × MS} (h6 : 0 ≤ (gi (ttb σ) 1).toInt ∧ (gi (ttb σ) 1).toInt ≤ 6) (e : u = f_X0_balances σ) : ∀ q : Int32, 0 ≤ q.toInt → q.toInt < (gi (ttb σ) 1).toInt → ga (own u) 17 q = f_X5_balance (ttb σ) q := by
  rw [e]
  exact lbal_L 7 0 σ h6.2 (by decide) (by rw [show (0 : Int32).toInt = 0 from rfl]; omega) (fun q h0 h1 => by rw [show (0 : Int32).toInt = 0 from rfl] at h1; omega)
/-- what the balances give -/
def BZ (τ : MS) : Prop := (∀ q : Nat, q < (gi τ 1).toInt.toNat → -20000000 ≤ (f_X5_balance τ (nI q)).toInt ∧ (f_X5_balance τ (nI q)).toInt ≤ 20000000) ∧ isum (fun q => (f_X5_balance τ (nI q)).toInt) (gi τ 1).toInt.toNat = 0
theorem sb_of {σ u : MS × MS} {τ : MS} (h6 : 0 ≤ (gi (ttb σ) 1).toInt ∧ (gi (ttb σ) 1).toInt ≤ 6) (e : u = f_X0_balances σ) (ht : ttb σ = τ) (hB : BZ τ) : (∀ q, q < (gi τ 1).toInt.toNat → -20000000 ≤ lf (own u) 17 q ∧ lf (own u) 17 q ≤ 20000000) ∧ isum (lf (own u) 17) (gi τ 1).toInt.toNat = 0 := by
  have L := lbal h6 e
  subst ht
  have E : ∀ q, q < (gi (ttb σ) 1).toInt.toNat → lf (own u) 17 q = (f_X5_balance (ttb σ) (nI q)).toInt := fun q hq => by
    unfold lf
    rw [L (nI q) (by rw [nI_toInt (by omega)]; omega) (by rw [nI_toInt (by omega)]; omega)]
  refine ⟨fun q hq => by rw [E q hq]; exact hB.1 q hq, ?_⟩
  rw [isum_eq (f := fun q => (f_X5_balance (ttb σ) (nI q)).toInt) (g := lf (own u) 17) _ E]
  exact hB.2
theorem simp_stepK {σ σ1 σ2 σ3 : MS} {k n : Nat} {lo hi mu : Int32} (hn : n ≤ 6) (hB : ∀ q, q < n → -20000000 ≤ lf σ k q ∧ lf σ k q ≤ 20000000) (hS : isum (lf σ k) n = 0) (hlo : 0 ≤ lo.toInt ∧ lo.toInt < n) (hhi : 0 ≤ hi.toInt ∧ hi.toInt < n) (hneg : (ga σ k lo).toInt < 0) (hmax : ∀ q, q < n → lf σ k q ≤ (ga σ k hi).toInt) (hmu : mu = jmin (-(ga σ k lo)) (ga σ k hi)) (s1 : ∀ q, lf σ1 k q = lf σ k q) (q1 : ga σ1 k lo = ga σ k lo) (e2 : σ2 = sa σ1 k lo (ga σ1 k lo + mu)) (e3 : σ3 = sa σ2 k hi (ga σ2 k hi - mu)) :
    (∀ q, q < n → -20000000 ≤ lf σ3 k q ∧ lf σ3 k q ≤ 20000000) ∧ isum (lf σ3 k) n = 0 ∧ nzc (lf σ3 k) n < nzc (lf σ k) n := by
  obtain ⟨a, ha⟩ : ∃ a : Nat, lo.toInt = (a : Int) := ⟨lo.toInt.toNat, by omega⟩
  obtain ⟨b, hb⟩ : ∃ b : Nat, hi.toInt = (b : Int) := ⟨hi.toInt.toNat, by omega⟩
  have fa : lf σ k a = (ga σ k lo).toInt := by unfold lf; rw [show nI a = lo from Int32.toInt_inj.mp (by rw [nI_toInt (by omega), ha])]
  have fb : lf σ k b = (ga σ k hi).toInt := by unfold lf; rw [show nI b = hi from Int32.toInt_inj.mp (by rw [nI_toInt (by omega), hb])]
  have hpos : 0 < lf σ k b := by
    refine Int.not_le.mp (fun hle => ?_)
    have := isum_neg (f := lf σ k) (a := a) n (by omega) (by omega) (fun q hq => by have := hmax q hq; omega)
    omega
  have ba := hB a (by omega)
  have bb := hB b (by omega)
  have hab : a ≠ b := fun e => by rw [e] at fa; omega
  have mneg : (-(ga σ k lo)).toInt = -(ga σ k lo).toInt := i_neg rfl (by omega)
  have hm := jmin_i (x := -(ga σ k lo)) (y := ga σ k hi)
  rw [← hmu, mneg] at hm
  have u2 := lf_sa (σ := σ1) (k := k) (v := ga σ1 k lo + mu) ha (by omega)
  rw [← e2, q1, i_add (a := ga σ k lo) (b := mu) rfl rfl (by omega)] at u2
  have q2 : (ga σ2 k hi).toInt = (ga σ k hi).toInt := by
    have := u2.2 b (by omega) (by omega)
    rw [s1, fb] at this
    rw [← this]; unfold lf
    rw [show nI b = hi from Int32.toInt_inj.mp (by rw [nI_toInt (by omega), hb])]
  have u3 := lf_sa (σ := σ2) (k := k) (v := ga σ2 k hi - mu) hb (by omega)
  rw [← e3, i_sub (a := ga σ2 k hi) (b := mu) rfl rfl (by omega), q2] at u3
  have ca := isum_ch (f := lf σ1 k) (g := lf σ2 k) (a := a) n (by omega) (fun q hq hne => u2.2 q (by omega) hne)
  have cb := isum_ch (f := lf σ2 k) (g := lf σ3 k) (a := b) n (by omega) (fun q hq hne => u3.2 q (by omega) hne)
  have za := nzc_ch (f := lf σ1 k) (g := lf σ2 k) (a := a) n (by omega) (fun q hq hne => u2.2 q (by omega) hne)
  have zb := nzc_ch (f := lf σ2 k) (g := lf σ3 k) (a := b) n (by omega) (fun q hq hne => u3.2 q (by omega) hne)
  have t1 : isum (lf σ1 k) n = isum (lf σ k) n := isum_eq n (fun q _ => s1 q)
  have t2 : nzc (lf σ1 k) n = nzc (lf σ k) n := nzc_eq n (fun q _ => s1 q)
  have g2b : lf σ2 k b = lf σ k b := by rw [u2.2 b (by omega) (by omega), s1]
  have g3a : lf σ3 k a = lf σ2 k a := u3.2 a (by omega) hab
  rw [s1] at ca za
  refine ⟨fun q hq => ?_, by omega, ?_⟩
  · by_cases h1 : q = b
    · rw [h1, u3.1]; omega
    · rw [u3.2 q (by omega) h1]
      by_cases h2 : q = a
      · rw [h2, u2.1]; omega
      · rw [u2.2 q (by omega) h2, s1]; exact hB q hq
  · rw [t2] at za
    rw [if_neg (by omega)] at za zb
    rcases hm with hm | hm
    · rw [if_pos (show lf σ2 k a = 0 by omega)] at za
      split at zb <;> omega
    · rw [if_pos (show lf σ3 k b = 0 by omega)] at zb
      split at za <;> omega

def f_X0_simplify_L11 : Nat → Int32 → (MS × MS) → Int32 × (MS × MS)
  | 0, x1_11, σL11 => (x1_11, σL11)
  | n + 1, x1_11, σL11 => if (36 : Int32) ≤ x1_11 then ((x1_11, σL11)) else ((let σ26 := lsa σL11 18 x1_11 (0 : Int32); f_X0_simplify_L11 n (x1_11 + (1 : Int32)) σ26))
def f_X0_simplify_L33 : Nat → (MS × MS) → (MS × MS)
  | 0, σL33 => σL33
  | n + 1, σL33 => if (gi (ttb σL33) 1) ≤ (0 : Int32) then (σL33) else ((let r49 := (f_X0_extremeOf σL33 (0 : Int32)); if (0 : Int32) ≤ (ga (own σL33) 17 r49) then (σL33) else ((let r58 := (f_X0_extremeOf σL33 (0 : Int32)); let r64 := (f_X0_extremeOf σL33 (1 : Int32)); let v84 := (jmin (-(ga (own σL33) 17 r58)) (ga (own σL33) 17 r64)); let σ99 := lsa σL33 18 (((6 : Int32) * r58) + r64) ((ga (own σL33) 18 (((6 : Int32) * r58) + r64)) + v84); (let jj123 := (fun (σJ123 : (MS × MS)) => (let σ132 := lsa σJ123 17 r58 ((ga (own σJ123) 17 r58) + v84); let σ142 := lsa σ132 17 r64 ((ga (own σ132) 17 r64) - v84); f_X0_simplify_L33 n σ142)); if (ga (own σ99) 18 (((6 : Int32) * r58) + r64)) ≤ (999999 : Int32) then (jj123 σ99) else ((let σ120 := lsi σ99 7 (7 : Int32); jj123 σ120)))))))
def f_X0_simplify (σ : MS × MS) : (MS × MS) × Int32 := (let σ2 := lsi σ 7 (0 : Int32); let σ6 := (f_X0_balances σ2); (let zL11 := f_X0_simplify_L11 (37) (0 : Int32) σ6; let x1_11e := zL11.1; let σL11e := zL11.2; (let zL33 := f_X0_simplify_L33 (7) σL11e; let σL33e := zL33; if (gi (own σL33e) 7) ≤ (0 : Int32) then ((let σ173 := tcp σL33e; let r177 := (f_X0_tiesOf σ173); (σ173, r177))) else ((σL33e, (-1 : Int32))))))
set_option maxHeartbeats 4000000 in
set_option maxRecDepth 100000 in
theorem k_X0_simplify (l : Launch) (g : GL) (σ : MS × MS) (hlp : 0 ≤ (gi (ttb σ) 1).toInt ∧ (gi (ttb σ) 1).toInt ≤ 6) (hld : 0 ≤ (gi (ttb σ) 3).toInt ∧ (gi (ttb σ) 3).toInt ≤ 16 ∧ (gi (ttb σ) 3).toInt ≤ (g.1.2.1 50 : Int)) (hBZ : BZ (ttb σ)) : Met l yX0_simplify (ws_ yX0_simplify cX0_simplify 4 (some .int)) ({ frames := 3, cells := 0, slots := 0, locals := 66 } : Room) (wPc (dL g) (g.2.2.1 99) σ []) (wQi (dL g) (f_X0_simplify σ).1 (f_X0_simplify σ).2 (fun u r => ((gi (ttb u) 1).toInt = (gi (ttb σ) 1).toInt) ∧ ((gi (ttb u) 3).toInt = (gi (ttb σ) 3).toInt) ∧ (Fr [7, 13, 14, 15, 20] [16, 17, 18] (fun _ => False) (fun _ => False) (own σ) (own u)))) 0 0 (dL g).2.2.2.1 := by
  refine met_W RX0 (by decide) rfl (Nat.le_of_ble_eq_true rfl) ?_
  intro p e s m args below meth c C hr hlocks h ls hl
  have hx := C.1.1
  have hb := C.1.2.1
  have hml := C.1.2.2.1
  have hown := C.1.2.2.2.1
  have hts := C.1.2.2.2.2
  have hl : lv_has ls 4 [(0, .ref (g.2.2.1 99))] := hl
  have hlpq : (gi (ttb σ) 1).toInt = (gi (ttb σ) 1).toInt := rfl
  have hldq : (gi (ttb σ) 3).toInt = (gi (ttb σ) 3).toInt := rfl
  have hBF : Fr [7, 13, 14, 15, 20] [16, 17, 18] (fun _ => False) (fun _ => False) (own σ) (own σ) := Fr.rf
  have zlm1 : (-1 : Int32).toInt = -1 := rfl
  have zl0 : (0 : Int32).toInt = 0 := rfl
  have zl1 : (1 : Int32).toInt = 1 := rfl
  have zl6 : (6 : Int32).toInt = 6 := rfl
  have zl7 : (7 : Int32).toInt = 7 := rfl
  have zl36 : (36 : Int32).toInt = 36 := rfl
  have zl999999 : (999999 : Int32).toInt = 999999 := rfl
  refine lv_aload_n hx hb dX0_simplify_0 rfl (lv_at hl 0 rfl) ?_
  refine lv_iconst (v := 0) hx hb dX0_simplify_1 (by decide) ?_
  refine L_p7 C h dX0_simplify_2 (fun σ2 H locs eσ2 h => ?_)
  have hNEW : (0 ≤ (gi (ttb σ2) 1).toInt ∧ (gi (ttb σ2) 1).toInt ≤ 6) ∧ (0 ≤ (gi (ttb σ2) 3).toInt ∧ (gi (ttb σ2) 3).toInt ≤ 16 ∧ (gi (ttb σ2) 3).toInt ≤ (g.1.2.1 50 : Int)) ∧ ((gi (ttb σ2) 1).toInt = (gi (ttb σ) 1).toInt) ∧ ((gi (ttb σ2) 3).toInt = (gi (ttb σ) 3).toInt) ∧ (Fr [7, 13, 14, 15, 20] [16, 17, 18] (fun _ => False) (fun _ => False) (own σ) (own σ2)) := ⟨(by rw [eσ2] <;> exact hlp), (by rw [eσ2] <;> exact hld), (by rw [eσ2] <;> exact hlpq), (by rw [eσ2] <;> exact hldq), (by rw [eσ2]; exact (Fr_si (by decide) hBF))⟩
  obtain ⟨hlp, hld, hlpq, hldq, hBF⟩ := hNEW
  refine lv_aload_n hx hb dX0_simplify_5 rfl (lv_at hl 0 rfl) ?_
  have hlp2 := hlp
  refine w_callv (ci := 0) (q0 := 6) (As := []) (rest := []) 0 (wXL g) C h (k_X0_balances l g σ2 (by first | assumption | omega) (by first | assumption | omega)) (lw_V q1268 q1270 qs54 q144 q1271) rfl rfl rfl rfl (by decide +kernel) ⟨Nat.le_of_ble_eq_true rfl, Nat.le_of_ble_eq_true rfl⟩ rfl hl.1 rfl (Nat.le_of_ble_eq_true rfl) ⟨Nat.le_of_ble_eq_true rfl, Nat.le_of_ble_eq_true rfl⟩ dX0_simplify_6 (fun σ6 H locs eσ6 hE6 h => ?_)
  have hE6 : ((gi (ttb σ6) 1).toInt = (gi (ttb σ2) 1).toInt) ∧ ((gi (ttb σ6) 3).toInt = (gi (ttb σ2) 3).toInt) ∧ (Fr [7, 13, 14, 15, 20] [16, 17, 18] (fun _ => False) (fun _ => False) (own σ2) (own σ6)) ∧ ((ttb σ6) = (ttb σ2)) := hE6
  obtain ⟨hlpq_6, hldq_6, hBF_6, hB2_6⟩ := hE6
  have hNEW : (0 ≤ (gi (ttb σ6) 1).toInt ∧ (gi (ttb σ6) 1).toInt ≤ 6) ∧ (0 ≤ (gi (ttb σ6) 3).toInt ∧ (gi (ttb σ6) 3).toInt ≤ 16 ∧ (gi (ttb σ6) 3).toInt ≤ (g.1.2.1 50 : Int)) ∧ ((gi (ttb σ6) 1).toInt = (gi (ttb σ) 1).toInt) ∧ ((gi (ttb σ6) 3).toInt = (gi (ttb σ) 3).toInt) ∧ (Fr [7, 13, 14, 15, 20] [16, 17, 18] (fun _ => False) (fun _ => False) (own σ) (own σ6)) := ⟨(by first | assumption | omega), (by first | assumption | omega), (by first | assumption | omega), (by first | assumption | omega), (Fr.tr hBF hBF_6)⟩
  clear hlp hld hlpq hldq hBF
  obtain ⟨hlp, hld, hlpq, hldq, hBF⟩ := hNEW
  have hSB : (∀ q, q < (gi (ttb σ) 1).toInt.toNat → -20000000 ≤ lf (own σ6) 17 q ∧ lf (own σ6) 17 q ≤ 20000000) ∧ isum (lf (own σ6) 17) (gi (ttb σ) 1).toInt.toNat = 0 := (sb_of (σ := σ2) hlp2 eσ6 (by rw [eσ2] <;> rfl) hBZ)
  refine lv_iconst (v := 0) hx hb dX0_simplify_9 (by decide) ?_
  refine lv_istore_n (lv' := [(1, .int (0 : Int32)), (0, .ref (g.2.2.1 99))]) hx hb dX0_simplify_10 rfl hl (by decide) rfl (fun ls hl => ?_)
  have hL11 : ∀ (n : Nat) (x1_11 : Int32) (σL11 : (MS × MS)) (H : Heap) (locs : List Loc) (ls : Array Slot), (0 ≤ (gi (ttb σL11) 1).toInt ∧ (gi (ttb σL11) 1).toInt ≤ 6) → (0 ≤ (gi (ttb σL11) 3).toInt ∧ (gi (ttb σL11) 3).toInt ≤ 16 ∧ (gi (ttb σL11) 3).toInt ≤ (g.1.2.1 50 : Int)) → ((gi (ttb σL11) 1).toInt = (gi (ttb σ) 1).toInt) → ((gi (ttb σL11) 3).toInt = (gi (ttb σ) 3).toInt) → (Fr [7, 13, 14, 15, 20] [16, 17, 18] (fun _ => False) (fun _ => False) (own σ) (own σL11)) → ((∀ q, q < (gi (ttb σ) 1).toInt.toNat → -20000000 ≤ lf (own σL11) 17 q ∧ lf (own σL11) 17 q ≤ 20000000) ∧ isum (lf (own σL11) 17) (gi (ttb σ) 1).toInt.toNat = 0) → (0 ≤ x1_11.toInt ∧ x1_11.toInt ≤ 36) → (36 - x1_11.toInt).toNat < n → wH (dL g) σL11 s H locs → lv_has ls 4 [(0, .ref (g.2.2.1 99)), (1, .int x1_11)] → (∀ (x1_11' : Int32) (σL11' : (MS × MS)) (H : Heap) (locs : List Loc) (ls : Array Slot), f_X0_simplify_L11 n x1_11 σL11 = (x1_11', σL11') → (0 ≤ (gi (ttb σL11') 1).toInt ∧ (gi (ttb σL11') 1).toInt ≤ 6) → (0 ≤ (gi (ttb σL11') 3).toInt ∧ (gi (ttb σL11') 3).toInt ≤ 16 ∧ (gi (ttb σL11') 3).toInt ≤ (g.1.2.1 50 : Int)) → ((gi (ttb σL11') 1).toInt = (gi (ttb σ) 1).toInt) → ((gi (ttb σL11') 3).toInt = (gi (ttb σ) 3).toInt) → (Fr [7, 13, 14, 15, 20] [16, 17, 18] (fun _ => False) (fun _ => False) (own σ) (own σL11')) → ((∀ q, q < (gi (ttb σ) 1).toInt.toNat → -20000000 ≤ lf (own σL11') 17 q ∧ lf (own σL11') 17 q ≤ 20000000) ∧ isum (lf (own σL11') 17) (gi (ttb σ) 1).toInt.toNat = 0) → (0 ≤ x1_11'.toInt ∧ x1_11'.toInt ≤ 36) → wH (dL g) σL11' s H locs → lv_has ls 4 [(0, .ref (g.2.2.1 99))] → W p l e ({ frames := 3, cells := 0, slots := 0, locals := 66 } : Room) s m args below meth c H locs 0 0 (MQ below (wQi (dL g) (f_X0_simplify σ).1 (f_X0_simplify σ).2 (fun u r => ((gi (ttb u) 1).toInt = (gi (ttb σ) 1).toInt) ∧ ((gi (ttb u) 3).toInt = (gi (ttb σ) 3).toInt) ∧ (Fr [7, 13, 14, 15, 20] [16, 17, 18] (fun _ => False) (fun _ => False) (own σ) (own u)))) args s 0 0 (dL g).2.2.2.1) (F0 m 33 ls [])) → W p l e ({ frames := 3, cells := 0, slots := 0, locals := 66 } : Room) s m args below meth c H locs 0 0 (MQ below (wQi (dL g) (f_X0_simplify σ).1 (f_X0_simplify σ).2 (fun u r => ((gi (ttb u) 1).toInt = (gi (ttb σ) 1).toInt) ∧ ((gi (ttb u) 3).toInt = (gi (ttb σ) 3).toInt) ∧ (Fr [7, 13, 14, 15, 20] [16, 17, 18] (fun _ => False) (fun _ => False) (own σ) (own u)))) args s 0 0 (dL g).2.2.2.1) (F0 m 11 ls []) := by
    intro n
    induction n with
    | zero =>
      intro x1_11 σL11 H locs ls hlp hld hlpq hldq hBF hSB _ hm; exact absurd hm (Nat.not_lt_zero _)
    | succ n ih =>
      intro x1_11 σL11 H locs ls hlp hld hlpq hldq hBF hSB hI11 hm h hl kk
      refine lv_iload_n hx hb dX0_simplify_11 rfl (lv_at hl 1 rfl) ?_
      refine lv_aload_n hx hb dX0_simplify_12 rfl (lv_at hl 0 rfl) ?_
      refine L_g18 C h dX0_simplify_13 ?_
      refine L_n18 C h dX0_simplify_16 ?_
      refine lv_icmp_ge (tgt := 33) hx hb dX0_simplify_17 (by decide) (fun c17 => ?_) (fun c17 => ?_)
      · have i17 := c_le c17
        exact kk x1_11 σL11 _ _ _ (show f_X0_simplify_L11 (n + 1) x1_11 σL11 = (x1_11, σL11) from (by exact ((if_pos c17).trans rfl))) hlp hld hlpq hldq hBF hSB (by first | assumption | omega) h (lv_sub hl [0] rfl)
      · have i17 := c_nle c17
        refine lv_aload_n hx hb dX0_simplify_20 rfl (lv_at hl 0 rfl) ?_
        refine L_g18 C h dX0_simplify_21 ?_
        refine lv_iload_n hx hb dX0_simplify_24 rfl (lv_at hl 1 rfl) ?_
        refine lv_iconst (v := 0) hx hb dX0_simplify_25 (by decide) ?_
        refine L_s118 C h (ix_of (rfl : x1_11.toInt = x1_11.toInt) (by omega)) dX0_simplify_26 (fun σ26 H locs eσ26 h => ?_)
        have hNEW : (0 ≤ (gi (ttb σ26) 1).toInt ∧ (gi (ttb σ26) 1).toInt ≤ 6) ∧ (0 ≤ (gi (ttb σ26) 3).toInt ∧ (gi (ttb σ26) 3).toInt ≤ 16 ∧ (gi (ttb σ26) 3).toInt ≤ (g.1.2.1 50 : Int)) ∧ ((gi (ttb σ26) 1).toInt = (gi (ttb σ) 1).toInt) ∧ ((gi (ttb σ26) 3).toInt = (gi (ttb σ) 3).toInt) ∧ (Fr [7, 13, 14, 15, 20] [16, 17, 18] (fun _ => False) (fun _ => False) (own σ) (own σ26)) ∧ ((∀ q, q < (gi (ttb σ) 1).toInt.toNat → -20000000 ≤ lf (own σ26) 17 q ∧ lf (own σ26) 17 q ≤ 20000000) ∧ isum (lf (own σ26) 17) (gi (ttb σ) 1).toInt.toNat = 0) := ⟨(by rw [eσ26] <;> exact hlp), (by rw [eσ26] <;> exact hld), (by rw [eσ26] <;> exact hlpq), (by rw [eσ26] <;> exact hldq), (by rw [eσ26]; exact (Fr_xa (by decide) (by decide) hBF)), (by rw [eσ26] <;> exact hSB)⟩
        obtain ⟨hlp, hld, hlpq, hldq, hBF, hSB⟩ := hNEW
        refine lv_iinc (v := (x1_11 + (1 : Int32))) (lv' := [(1, .int (x1_11 + (1 : Int32))), (0, .ref (g.2.2.1 99))]) hx hb dX0_simplify_27 hl (k := 1) rfl rfl (by decide) rfl (fun ls hl => ?_)
        refine lv_goto (tgt := 11) hx hb dX0_simplify_30 (by decide) ?_
        have tt1 : (x1_11 + (1 : Int32)).toInt = (x1_11.toInt + (1)) := (i_add (rfl : x1_11.toInt = x1_11.toInt) zl1 (by omega))
        exact ih (x1_11 + (1 : Int32)) σ26 _ _ _ hlp hld hlpq hldq hBF hSB (by first | assumption | omega) (by omega) h (lv_sub hl [1, 0] rfl) (fun x1_11' σL11' H locs ls en hlp hld hlpq hldq hBF hSB hI h hl => kk x1_11' σL11' H locs ls ((show f_X0_simplify_L11 (n + 1) x1_11 σL11 = f_X0_simplify_L11 n (x1_11 + (1 : Int32)) σ26 from (by have eσ26 := eσ26.symm; subst eσ26; exact ((if_neg c17).trans rfl))).trans en) hlp hld hlpq hldq hBF hSB hI h hl)
  refine hL11 (37) (0 : Int32) σ6 _ _ _ hlp hld hlpq hldq hBF hSB (by first | assumption | omega) (by omega) h (lv_sub hl [1, 0] rfl) (fun x1_11e σL11e H locs ls eL11 hlp hld hlpq hldq hBF hSB hI11 h hl => ?_)
  have ex1_11e : x1_11e = (f_X0_simplify_L11 (37) (0 : Int32) σ6).1 := by rw [eL11]
  have eσL11e : σL11e = (f_X0_simplify_L11 (37) (0 : Int32) σ6).2 := by rw [eL11]
  have hL33 : ∀ (n : Nat) (σL33 : (MS × MS)) (H : Heap) (locs : List Loc) (ls : Array Slot), (0 ≤ (gi (ttb σL33) 1).toInt ∧ (gi (ttb σL33) 1).toInt ≤ 6) → (0 ≤ (gi (ttb σL33) 3).toInt ∧ (gi (ttb σL33) 3).toInt ≤ 16 ∧ (gi (ttb σL33) 3).toInt ≤ (g.1.2.1 50 : Int)) → ((gi (ttb σL33) 1).toInt = (gi (ttb σ) 1).toInt) → ((gi (ttb σL33) 3).toInt = (gi (ttb σ) 3).toInt) → (Fr [7, 13, 14, 15, 20] [16, 17, 18] (fun _ => False) (fun _ => False) (own σ) (own σL33)) → ((∀ q, q < (gi (ttb σ) 1).toInt.toNat → -20000000 ≤ lf (own σL33) 17 q ∧ lf (own σL33) 17 q ≤ 20000000) ∧ isum (lf (own σL33) 17) (gi (ttb σ) 1).toInt.toNat = 0) → (True) → nzc (lf (own σL33) 17) (gi (ttb σ) 1).toInt.toNat < n → wH (dL g) σL33 s H locs → lv_has ls 4 [(0, .ref (g.2.2.1 99))] → (∀ (σL33' : (MS × MS)) (H : Heap) (locs : List Loc) (ls : Array Slot), f_X0_simplify_L33 n σL33 = σL33' → (0 ≤ (gi (ttb σL33') 1).toInt ∧ (gi (ttb σL33') 1).toInt ≤ 6) → (0 ≤ (gi (ttb σL33') 3).toInt ∧ (gi (ttb σL33') 3).toInt ≤ 16 ∧ (gi (ttb σL33') 3).toInt ≤ (g.1.2.1 50 : Int)) → ((gi (ttb σL33') 1).toInt = (gi (ttb σ) 1).toInt) → ((gi (ttb σL33') 3).toInt = (gi (ttb σ) 3).toInt) → (Fr [7, 13, 14, 15, 20] [16, 17, 18] (fun _ => False) (fun _ => False) (own σ) (own σL33')) → ((∀ q, q < (gi (ttb σ) 1).toInt.toNat → -20000000 ≤ lf (own σL33') 17 q ∧ lf (own σL33') 17 q ≤ 20000000) ∧ isum (lf (own σL33') 17) (gi (ttb σ) 1).toInt.toNat = 0) → (True) → wH (dL g) σL33' s H locs → lv_has ls 4 [(0, .ref (g.2.2.1 99))] → W p l e ({ frames := 3, cells := 0, slots := 0, locals := 66 } : Room) s m args below meth c H locs 0 0 (MQ below (wQi (dL g) (f_X0_simplify σ).1 (f_X0_simplify σ).2 (fun u r => ((gi (ttb u) 1).toInt = (gi (ttb σ) 1).toInt) ∧ ((gi (ttb u) 3).toInt = (gi (ttb σ) 3).toInt) ∧ (Fr [7, 13, 14, 15, 20] [16, 17, 18] (fun _ => False) (fun _ => False) (own σ) (own u)))) args s 0 0 (dL g).2.2.2.1) (F0 m 146 ls [])) → W p l e ({ frames := 3, cells := 0, slots := 0, locals := 66 } : Room) s m args below meth c H locs 0 0 (MQ below (wQi (dL g) (f_X0_simplify σ).1 (f_X0_simplify σ).2 (fun u r => ((gi (ttb u) 1).toInt = (gi (ttb σ) 1).toInt) ∧ ((gi (ttb u) 3).toInt = (gi (ttb σ) 3).toInt) ∧ (Fr [7, 13, 14, 15, 20] [16, 17, 18] (fun _ => False) (fun _ => False) (own σ) (own u)))) args s 0 0 (dL g).2.2.2.1) (F0 m 33 ls []) := by
    intro n
    induction n with
    | zero =>
      intro σL33 H locs ls hlp hld hlpq hldq hBF hSB _ hm; exact absurd hm (Nat.not_lt_zero _)
    | succ n ih =>
      intro σL33 H locs ls hlp hld hlpq hldq hBF hSB hI33 hm h hl kk
      have hSBs := hSB
      have hlpS := hlp
      refine lv_aload_n hx hb dX0_simplify_33 rfl (lv_at hl 0 rfl) ?_
      refine L_at (rest := []) C h ⟨Nat.le_of_ble_eq_true rfl, Nat.le_of_ble_eq_true rfl⟩ hl.1 (Nat.le_of_ble_eq_true rfl) ⟨Nat.le_of_ble_eq_true rfl, Nat.le_of_ble_eq_true rfl⟩ dX0_simplify_34 (fun H locs h => ?_)
      refine L_t1 C h dX0_simplify_37 ?_
      refine lv_if_le (tgt := 146) hx hb dX0_simplify_40 (by decide) (fun c40 => ?_) (fun c40 => ?_)
      · have i40 := c_le c40
        exact kk σL33 _ _ _ (show f_X0_simplify_L33 (n + 1) σL33 = σL33 from (by exact ((if_pos c40).trans rfl))) hlp hld hlpq hldq hBF hSB trivial h hl
      · have i40 := c_nle c40
        refine lv_aload_n hx hb dX0_simplify_43 rfl (lv_at hl 0 rfl) ?_
        refine L_g17 C h dX0_simplify_44 ?_
        refine lv_aload_n hx hb dX0_simplify_47 rfl (lv_at hl 0 rfl) ?_
        refine lv_iconst (v := 0) hx hb dX0_simplify_48 (by decide) ?_
        refine w_calli (ci := 0) (q0 := 6) (As := [.int (0 : Int32)]) (rest := [.ref (g.2.2.1 17)]) 1 (wXL g) C h (k_X0_extremeOf l g σL33 (0 : Int32) (by first | assumption | omega) (by first | assumption | omega)) (lw_V q1287 q1289 qs56 q144 q1290) rfl rfl rfl rfl (by decide +kernel) ⟨Nat.le_of_ble_eq_true rfl, Nat.le_of_ble_eq_true rfl⟩ rfl hl.1 rfl (Nat.le_of_ble_eq_true rfl) ⟨Nat.le_of_ble_eq_true rfl, Nat.le_of_ble_eq_true rfl⟩ dX0_simplify_49 (fun r49 σ49 H locs eσ49 er49 hE49 h => ?_)
        rw [eσ49] at h
        have hE49 : (-1 ≤ r49.toInt ∧ r49.toInt < (gi (ttb σL33) 1).toInt) := hE49
        have erng_49 := hE49
        clear eσ49
        have x49 := lext (σ := σL33) (w := 0) ⟨by omega, by omega⟩ er49
        have y49 : 0 ≤ r49.toInt ∧ r49.toInt < (gi (ttb σL33) 1).toInt := ⟨x49.1, x49.2.1⟩
        refine L_l117 C h (ix_of (rfl : r49.toInt = r49.toInt) (by omega)) dX0_simplify_52 ?_
        refine lv_if_ge (tgt := 146) hx hb dX0_simplify_53 (by decide) (fun c53 => ?_) (fun c53 => ?_)
        · have i53 := c_le c53
          exact kk σL33 _ _ _ (show f_X0_simplify_L33 (n + 1) σL33 = σL33 from (by have er49 := er49.symm; subst er49; exact ((if_neg c40).trans ((if_pos c53).trans rfl)))) hlp hld hlpq hldq hBF hSB trivial h hl
        · have i53 := c_nle c53
          refine lv_aload_n hx hb dX0_simplify_56 rfl (lv_at hl 0 rfl) ?_
          refine lv_iconst (v := 0) hx hb dX0_simplify_57 (by decide) ?_
          refine w_calli (ci := 0) (q0 := 6) (As := [.int (0 : Int32)]) (rest := []) 1 (wXL g) C h (k_X0_extremeOf l g σL33 (0 : Int32) (by first | assumption | omega) (by first | assumption | omega)) (lw_V q1287 q1289 qs56 q144 q1290) rfl rfl rfl rfl (by decide +kernel) ⟨Nat.le_of_ble_eq_true rfl, Nat.le_of_ble_eq_true rfl⟩ rfl hl.1 rfl (Nat.le_of_ble_eq_true rfl) ⟨Nat.le_of_ble_eq_true rfl, Nat.le_of_ble_eq_true rfl⟩ dX0_simplify_58 (fun r58 σ58 H locs eσ58 er58 hE58 h => ?_)
          rw [eσ58] at h
          have hE58 : (-1 ≤ r58.toInt ∧ r58.toInt < (gi (ttb σL33) 1).toInt) := hE58
          have erng_58 := hE58
          clear eσ58
          have e58 : r58 = r49 := er58.trans er49.symm
          have y58 : 0 ≤ r58.toInt ∧ r58.toInt < (gi (ttb σL33) 1).toInt := by rw [e58]; exact y49
          refine lv_istore_n (lv' := [(1, .int r58), (0, .ref (g.2.2.1 99))]) hx hb dX0_simplify_61 rfl hl (by decide) rfl (fun ls hl => ?_)
          refine lv_aload_n hx hb dX0_simplify_62 rfl (lv_at hl 1 rfl) ?_
          refine lv_iconst (v := 1) hx hb dX0_simplify_63 (by decide) ?_
          refine w_calli (ci := 0) (q0 := 6) (As := [.int (1 : Int32)]) (rest := []) 1 (wXL g) C h (k_X0_extremeOf l g σL33 (1 : Int32) (by first | assumption | omega) (by first | assumption | omega)) (lw_V q1287 q1289 qs56 q144 q1290) rfl rfl rfl rfl (by decide +kernel) ⟨Nat.le_of_ble_eq_true rfl, Nat.le_of_ble_eq_true rfl⟩ rfl hl.1 rfl (Nat.le_of_ble_eq_true rfl) ⟨Nat.le_of_ble_eq_true rfl, Nat.le_of_ble_eq_true rfl⟩ dX0_simplify_64 (fun r64 σ64 H locs eσ64 er64 hE64 h => ?_)
          rw [eσ64] at h
          have hE64 : (-1 ≤ r64.toInt ∧ r64.toInt < (gi (ttb σL33) 1).toInt) := hE64
          have erng_64 := hE64
          clear eσ64
          have x64 := lext (σ := σL33) (w := 1) ⟨by omega, by omega⟩ er64
          have y64 : 0 ≤ r64.toInt ∧ r64.toInt < (gi (ttb σL33) 1).toInt := ⟨x64.1, x64.2.1⟩
          refine lv_istore_n (lv' := [(2, .int r64), (1, .int r58), (0, .ref (g.2.2.1 99))]) hx hb dX0_simplify_67 rfl hl (by decide) rfl (fun ls hl => ?_)
          refine lv_aload_n hx hb dX0_simplify_68 rfl (lv_at hl 2 rfl) ?_
          refine L_g17 C h dX0_simplify_69 ?_
          refine lv_iload_n hx hb dX0_simplify_72 rfl (lv_at hl 1 rfl) ?_
          refine L_l117 C h (ix_of (rfl : r58.toInt = r58.toInt) (by omega)) dX0_simplify_73 ?_
          refine lv_ineg hx hb dX0_simplify_74 ?_
          refine lv_aload_n hx hb dX0_simplify_75 rfl (lv_at hl 2 rfl) ?_
          refine L_g17 C h dX0_simplify_76 ?_
          refine lv_iload_n hx hb dX0_simplify_79 rfl (lv_at hl 0 rfl) ?_
          refine L_l117 C h (ix_of (rfl : r64.toInt = r64.toInt) (by omega)) dX0_simplify_80 ?_
          refine va_mmin hx hb (hml.trans hl.1.symm) hown (hts _ q1260) (hts _ q1261) (hts _ q164) (hts _ q1262) (Nat.le_of_ble_eq_true rfl) (Nat.le_of_ble_eq_true rfl) (Nat.le_of_ble_eq_true rfl) (Nat.le_of_ble_eq_true rfl) dX0_simplify_81 ?_
          refine lv_topi (fun v84 ev84 => ?_)
          refine lv_istore_n (lv' := [(3, .int v84), (2, .int r64), (1, .int r58), (0, .ref (g.2.2.1 99))]) hx hb dX0_simplify_84 rfl hl (by decide) rfl (fun ls hl => ?_)
          refine lv_aload_n hx hb dX0_simplify_85 rfl (lv_at hl 3 rfl) ?_
          refine L_g18 C h dX0_simplify_86 ?_
          refine lv_bipush (v := 6) hx hb dX0_simplify_89 (by decide) ?_
          refine lv_iload_n hx hb dX0_simplify_91 rfl (lv_at hl 2 rfl) ?_
          refine lv_imul hx hb dX0_simplify_92 ?_
          refine lv_iload_n hx hb dX0_simplify_93 rfl (lv_at hl 1 rfl) ?_
          refine lv_iadd hx hb dX0_simplify_94 ?_
          refine lv_dup2_11 hx hb dX0_simplify_95 rfl rfl ?_
          refine L_l118 C h (ix_of (i_add (i_mul zl6 (rfl : r58.toInt = r58.toInt) (by omega)) (rfl : r64.toInt = r64.toInt) (by omega)) (by omega)) dX0_simplify_96 ?_
          refine lv_iload_n hx hb dX0_simplify_97 rfl (lv_at hl 0 rfl) ?_
          refine lv_iadd hx hb dX0_simplify_98 ?_
          refine L_s118 C h (ix_of (i_add (i_mul zl6 (rfl : r58.toInt = r58.toInt) (by omega)) (rfl : r64.toInt = r64.toInt) (by omega)) (by omega)) dX0_simplify_99 (fun σ99 H locs eσ99 h => ?_)
          have hNEW : (0 ≤ (gi (ttb σ99) 1).toInt ∧ (gi (ttb σ99) 1).toInt ≤ 6) ∧ (0 ≤ (gi (ttb σ99) 3).toInt ∧ (gi (ttb σ99) 3).toInt ≤ 16 ∧ (gi (ttb σ99) 3).toInt ≤ (g.1.2.1 50 : Int)) ∧ ((gi (ttb σ99) 1).toInt = (gi (ttb σ) 1).toInt) ∧ ((gi (ttb σ99) 3).toInt = (gi (ttb σ) 3).toInt) ∧ (Fr [7, 13, 14, 15, 20] [16, 17, 18] (fun _ => False) (fun _ => False) (own σ) (own σ99)) := ⟨(by rw [eσ99] <;> exact hlp), (by rw [eσ99] <;> exact hld), (by rw [eσ99] <;> exact hlpq), (by rw [eσ99] <;> exact hldq), (by rw [eσ99]; exact (Fr_xa (by decide) (by decide) hBF))⟩
          obtain ⟨hlp, hld, hlpq, hldq, hBF⟩ := hNEW
          have hQQ : (∀ q, lf (own σ99) 17 q = lf (own σL33) 17 q) ∧ ga (own σ99) 17 r58 = ga (own σL33) 17 r58 := (by rw [eσ99]; exact ⟨fun _ => rfl, rfl⟩)
          refine lv_aload_n hx hb dX0_simplify_100 rfl (lv_at hl 3 rfl) ?_
          refine L_g18 C h dX0_simplify_101 ?_
          refine lv_bipush (v := 6) hx hb dX0_simplify_104 (by decide) ?_
          refine lv_iload_n hx hb dX0_simplify_106 rfl (lv_at hl 2 rfl) ?_
          refine lv_imul hx hb dX0_simplify_107 ?_
          refine lv_iload_n hx hb dX0_simplify_108 rfl (lv_at hl 1 rfl) ?_
          refine lv_iadd hx hb dX0_simplify_109 ?_
          refine L_l118 C h (ix_of (i_add (i_mul zl6 (rfl : r58.toInt = r58.toInt) (by omega)) (rfl : r64.toInt = r64.toInt) (by omega)) (by omega)) dX0_simplify_110 ?_
          refine lv_ldcw hx hb hown (hts _ q1295) dX0_simplify_111 ?_
          have j123 : ∀ (σJ123 : (MS × MS)) (H : Heap) (locs : List Loc) (ls : Array Slot) (ej123 : f_X0_simplify_L33 (n + 1) σL33 = (let σ132 := lsa σJ123 17 r58 ((ga (own σJ123) 17 r58) + v84); let σ142 := lsa σ132 17 r64 ((ga (own σ132) 17 r64) - v84); f_X0_simplify_L33 n σ142)) (hlp : 0 ≤ (gi (ttb σJ123) 1).toInt ∧ (gi (ttb σJ123) 1).toInt ≤ 6) (hld : 0 ≤ (gi (ttb σJ123) 3).toInt ∧ (gi (ttb σJ123) 3).toInt ≤ 16 ∧ (gi (ttb σJ123) 3).toInt ≤ (g.1.2.1 50 : Int)) (hlpq : (gi (ttb σJ123) 1).toInt = (gi (ttb σ) 1).toInt) (hldq : (gi (ttb σJ123) 3).toInt = (gi (ttb σ) 3).toInt) (hBF : Fr [7, 13, 14, 15, 20] [16, 17, 18] (fun _ => False) (fun _ => False) (own σ) (own σJ123)) (hQQ : (∀ q, lf (own σJ123) 17 q = lf (own σL33) 17 q) ∧ ga (own σJ123) 17 r58 = ga (own σL33) 17 r58) (h : wH (dL g) σJ123 s H locs) (hl : lv_has ls 4 [(0, .ref (g.2.2.1 99)), (1, .int r58), (2, .int r64), (3, .int v84)]), W p l e ({ frames := 3, cells := 0, slots := 0, locals := 66 } : Room) s m args below meth c H locs 0 0 (MQ below (wQi (dL g) (f_X0_simplify σ).1 (f_X0_simplify σ).2 (fun u r => ((gi (ttb u) 1).toInt = (gi (ttb σ) 1).toInt) ∧ ((gi (ttb u) 3).toInt = (gi (ttb σ) 3).toInt) ∧ (Fr [7, 13, 14, 15, 20] [16, 17, 18] (fun _ => False) (fun _ => False) (own σ) (own u)))) args s 0 0 (dL g).2.2.2.1) (F0 m 123 ls []) := by
            intro σJ123 H locs ls ej123 hlp hld hlpq hldq hBF hQQ h hl
            refine lv_aload_n hx hb dX0_simplify_123 rfl (lv_at hl 0 rfl) ?_
            refine L_g17 C h dX0_simplify_124 ?_
            refine lv_iload_n hx hb dX0_simplify_127 rfl (lv_at hl 1 rfl) ?_
            refine lv_dup2_11 hx hb dX0_simplify_128 rfl rfl ?_
            refine L_l117 C h (ix_of (rfl : r58.toInt = r58.toInt) (by omega)) dX0_simplify_129 ?_
            refine lv_iload_n hx hb dX0_simplify_130 rfl (lv_at hl 3 rfl) ?_
            refine lv_iadd hx hb dX0_simplify_131 ?_
            refine L_s117 C h (ix_of (rfl : r58.toInt = r58.toInt) (by omega)) dX0_simplify_132 (fun σ132 H locs eσ132 h => ?_)
            have hNEW : (0 ≤ (gi (ttb σ132) 1).toInt ∧ (gi (ttb σ132) 1).toInt ≤ 6) ∧ (0 ≤ (gi (ttb σ132) 3).toInt ∧ (gi (ttb σ132) 3).toInt ≤ 16 ∧ (gi (ttb σ132) 3).toInt ≤ (g.1.2.1 50 : Int)) ∧ ((gi (ttb σ132) 1).toInt = (gi (ttb σ) 1).toInt) ∧ ((gi (ttb σ132) 3).toInt = (gi (ttb σ) 3).toInt) ∧ (Fr [7, 13, 14, 15, 20] [16, 17, 18] (fun _ => False) (fun _ => False) (own σ) (own σ132)) := ⟨(by rw [eσ132] <;> exact hlp), (by rw [eσ132] <;> exact hld), (by rw [eσ132] <;> exact hlpq), (by rw [eσ132] <;> exact hldq), (by rw [eσ132]; exact (Fr_xa (by decide) (by decide) hBF))⟩
            obtain ⟨hlp, hld, hlpq, hldq, hBF⟩ := hNEW
            refine lv_aload_n hx hb dX0_simplify_133 rfl (lv_at hl 0 rfl) ?_
            refine L_g17 C h dX0_simplify_134 ?_
            refine lv_iload_n hx hb dX0_simplify_137 rfl (lv_at hl 2 rfl) ?_
            refine lv_dup2_11 hx hb dX0_simplify_138 rfl rfl ?_
            refine L_l117 C h (ix_of (rfl : r64.toInt = r64.toInt) (by omega)) dX0_simplify_139 ?_
            refine lv_iload_n hx hb dX0_simplify_140 rfl (lv_at hl 3 rfl) ?_
            refine lv_isub hx hb dX0_simplify_141 ?_
            refine L_s117 C h (ix_of (rfl : r64.toInt = r64.toInt) (by omega)) dX0_simplify_142 (fun σ142 H locs eσ142 h => ?_)
            have hNEW : (0 ≤ (gi (ttb σ142) 1).toInt ∧ (gi (ttb σ142) 1).toInt ≤ 6) ∧ (0 ≤ (gi (ttb σ142) 3).toInt ∧ (gi (ttb σ142) 3).toInt ≤ 16 ∧ (gi (ttb σ142) 3).toInt ≤ (g.1.2.1 50 : Int)) ∧ ((gi (ttb σ142) 1).toInt = (gi (ttb σ) 1).toInt) ∧ ((gi (ttb σ142) 3).toInt = (gi (ttb σ) 3).toInt) ∧ (Fr [7, 13, 14, 15, 20] [16, 17, 18] (fun _ => False) (fun _ => False) (own σ) (own σ142)) := ⟨(by rw [eσ142] <;> exact hlp), (by rw [eσ142] <;> exact hld), (by rw [eσ142] <;> exact hlpq), (by rw [eσ142] <;> exact hldq), (by rw [eσ142]; exact (Fr_xa (by decide) (by decide) hBF))⟩
            clear hlp hld hlpq hldq hBF
            obtain ⟨hlp, hld, hlpq, hldq, hBF⟩ := hNEW
            have np : ((gi (ttb σ) 1).toInt.toNat : Int) = (gi (ttb σL33) 1).toInt := by omega
            have stp := simp_stepK (σ := own σL33) (σ1 := own σJ123) (σ2 := own σ132) (σ3 := own σ142) (k := 17) (n := (gi (ttb σ) 1).toInt.toNat) (lo := r58) (hi := r64) (by omega) hSBs.1 hSBs.2 (by omega) (by omega) (by rw [e58]; have z := c_nle c53; rw [zl0] at z; exact z) (fun q hq => by have z := x64.2.2 (nI q) (by rw [nI_toInt (by omega)]; omega) (by rw [nI_toInt (by omega)]; omega); rw [if_neg (show ¬ (1 : Int32) = 0 by decide)] at z; exact z) ev84 hQQ.1 hQQ.2 (by rw [eσ132] <;> rfl) (by rw [eσ142] <;> rfl)
            have hSB : (∀ q, q < (gi (ttb σ) 1).toInt.toNat → -20000000 ≤ lf (own σ142) 17 q ∧ lf (own σ142) 17 q ≤ 20000000) ∧ isum (lf (own σ142) 17) (gi (ttb σ) 1).toInt.toNat = 0 := ⟨stp.1, stp.2.1⟩
            refine lv_goto (tgt := 33) hx hb dX0_simplify_143 (by decide) ?_
            exact ih σ142 _ _ _ hlp hld hlpq hldq hBF hSB trivial (by omega) h (lv_sub hl [0] rfl) (fun σL33' H locs ls en hlp hld hlpq hldq hBF hSB hI h hl => kk σL33' H locs ls ((show f_X0_simplify_L33 (n + 1) σL33 = f_X0_simplify_L33 n σ142 from (by have eσ132 := eσ132.symm; subst eσ132; have eσ142 := eσ142.symm; subst eσ142; exact (ej123.trans rfl))).trans en) hlp hld hlpq hldq hBF hSB hI h hl)
          refine lv_icmp_le (tgt := 123) hx hb dX0_simplify_114 (by decide) (fun c114 => ?_) (fun c114 => ?_)
          · have i114 := c_le c114
            exact j123 _ _ _ _ (by have er49 := er49.symm; subst er49; have er58 := er58.symm; subst er58; have er64 := er64.symm; subst er64; have ev84 := ev84.symm; subst ev84; have eσ99 := eσ99.symm; subst eσ99; exact ((if_neg c40).trans ((if_neg c53).trans ((if_pos c114).trans rfl)))) hlp hld hlpq hldq hBF hQQ h (lv_sub hl [3, 2, 1, 0] rfl)
          · have i114 := c_nle c114
            refine lv_aload_n hx hb dX0_simplify_117 rfl (lv_at hl 3 rfl) ?_
            refine lv_bipush (v := 7) hx hb dX0_simplify_118 (by decide) ?_
            refine L_p7 C h dX0_simplify_120 (fun σ120 H locs eσ120 h => ?_)
            have hNEW : (0 ≤ (gi (ttb σ120) 1).toInt ∧ (gi (ttb σ120) 1).toInt ≤ 6) ∧ (0 ≤ (gi (ttb σ120) 3).toInt ∧ (gi (ttb σ120) 3).toInt ≤ 16 ∧ (gi (ttb σ120) 3).toInt ≤ (g.1.2.1 50 : Int)) ∧ ((gi (ttb σ120) 1).toInt = (gi (ttb σ) 1).toInt) ∧ ((gi (ttb σ120) 3).toInt = (gi (ttb σ) 3).toInt) ∧ (Fr [7, 13, 14, 15, 20] [16, 17, 18] (fun _ => False) (fun _ => False) (own σ) (own σ120)) ∧ ((∀ q, lf (own σ120) 17 q = lf (own σL33) 17 q) ∧ ga (own σ120) 17 r58 = ga (own σL33) 17 r58) := ⟨(by rw [eσ120] <;> exact hlp), (by rw [eσ120] <;> exact hld), (by rw [eσ120] <;> exact hlpq), (by rw [eσ120] <;> exact hldq), (by rw [eσ120]; exact (Fr_si (by decide) hBF)), (by rw [eσ120] <;> exact hQQ)⟩
            clear hlp hld hlpq hldq hBF
            obtain ⟨hlp, hld, hlpq, hldq, hBF, hQQ⟩ := hNEW
            exact j123 _ _ _ _ (by have er49 := er49.symm; subst er49; have er58 := er58.symm; subst er58; have er64 := er64.symm; subst er64; have ev84 := ev84.symm; subst ev84; have eσ99 := eσ99.symm; subst eσ99; have eσ120 := eσ120.symm; subst eσ120; exact ((if_neg c40).trans ((if_neg c53).trans ((if_neg c114).trans rfl)))) hlp hld hlpq hldq hBF hQQ h (lv_sub hl [3, 2, 1, 0] rfl)
  refine hL33 (7) σL11e _ _ _ hlp hld hlpq hldq hBF hSB trivial (by have z := nzc_le (lf (own σL11e) 17) (gi (ttb σ) 1).toInt.toNat; omega) h hl (fun σL33e H locs ls eL33 hlp hld hlpq hldq hBF hSB hI33 h hl => ?_)
  have eσL33e : σL33e = (f_X0_simplify_L33 (7) σL11e) := by rw [eL33]
  refine lv_aload_n hx hb dX0_simplify_146 rfl (lv_at hl 0 rfl) ?_
  refine L_g7 C h dX0_simplify_147 ?_
  refine lv_if_le (tgt := 155) hx hb dX0_simplify_150 (by decide) (fun c150 => ?_) (fun c150 => ?_)
  · have i150 := c_le c150
    refine lv_aload_n hx hb dX0_simplify_155 rfl (lv_at hl 0 rfl) ?_
    refine L_g18 C h dX0_simplify_156 ?_
    refine lv_iconst (v := 0) hx hb dX0_simplify_159 (by decide) ?_
    refine lv_aload_n hx hb dX0_simplify_160 rfl (lv_at hl 0 rfl) ?_
    refine L_at (rest := [.int (0 : Int32), .ref (g.2.2.1 18)]) C h ⟨Nat.le_of_ble_eq_true rfl, Nat.le_of_ble_eq_true rfl⟩ hl.1 (Nat.le_of_ble_eq_true rfl) ⟨Nat.le_of_ble_eq_true rfl, Nat.le_of_ble_eq_true rfl⟩ dX0_simplify_161 (fun H locs h => ?_)
    refine L_t12 C h dX0_simplify_164 ?_
    refine lv_iconst (v := 0) hx hb dX0_simplify_167 (by decide) ?_
    refine lv_aload_n hx hb dX0_simplify_168 rfl (lv_at hl 0 rfl) ?_
    refine L_g18 C h dX0_simplify_169 ?_
    refine L_n18 C h dX0_simplify_172 ?_
    refine L_cpy C h hl.1 ⟨Nat.le_of_ble_eq_true rfl, Nat.le_of_ble_eq_true rfl⟩ dX0_simplify_173 (fun σ173 H locs eσ173 h => ?_)
    have hNEW : (0 ≤ (gi (ttb σ173) 1).toInt ∧ (gi (ttb σ173) 1).toInt ≤ 6) ∧ (0 ≤ (gi (ttb σ173) 3).toInt ∧ (gi (ttb σ173) 3).toInt ≤ 16 ∧ (gi (ttb σ173) 3).toInt ≤ (g.1.2.1 50 : Int)) ∧ ((gi (ttb σ173) 1).toInt = (gi (ttb σ) 1).toInt) ∧ ((gi (ttb σ173) 3).toInt = (gi (ttb σ) 3).toInt) ∧ (Fr [7, 13, 14, 15, 20] [16, 17, 18] (fun _ => False) (fun _ => False) (own σ) (own σ173)) := ⟨(by rw [eσ173] <;> exact hlp), (by rw [eσ173] <;> exact hld), (by rw [eσ173] <;> exact hlpq), (by rw [eσ173] <;> exact hldq), (by rw [eσ173]; exact hBF)⟩
    obtain ⟨hlp, hld, hlpq, hldq, hBF⟩ := hNEW
    refine lv_aload_n hx hb dX0_simplify_176 rfl (lv_at hl 0 rfl) ?_
    refine w_calli (ci := 0) (q0 := 6) (As := []) (rest := []) 0 (wXL g) C h (k_X0_tiesOf l g σ173 (by first | assumption | omega) (by first | assumption | omega)) (lw_V q1279 q1281 qs55 q144 q1282) rfl rfl rfl rfl (by decide +kernel) ⟨Nat.le_of_ble_eq_true rfl, Nat.le_of_ble_eq_true rfl⟩ rfl hl.1 rfl (Nat.le_of_ble_eq_true rfl) ⟨Nat.le_of_ble_eq_true rfl, Nat.le_of_ble_eq_true rfl⟩ dX0_simplify_177 (fun r177 σ177 H locs eσ177 er177 hE177 h => ?_)
    rw [eσ177] at h
    clear hE177
    clear eσ177
    have he : f_X0_simplify σ = (σ173, r177) := (by have eσ2 := eσ2.symm; subst eσ2; have eσ6 := eσ6.symm; subst eσ6; have ex1_11e := ex1_11e.symm; subst ex1_11e; have eσL11e := eσL11e.symm; subst eσL11e; have eσL33e := eσL33e.symm; subst eσL33e; have eσ173 := eσ173.symm; subst eσ173; have er177 := er177.symm; subst er177; exact ((if_pos c150).trans rfl))
    exact w_reti (wXL g) C h hr hlocks (congrArg Prod.fst he) (congrArg Prod.snd he) ⟨hlpq, hldq, hBF⟩ dX0_simplify_180
  · have i150 := c_nle c150
    refine lv_iconst (v := -1) hx hb dX0_simplify_153 (by decide) ?_
    have he : f_X0_simplify σ = (σL33e, (-1 : Int32)) := (by have eσ2 := eσ2.symm; subst eσ2; have eσ6 := eσ6.symm; subst eσ6; have ex1_11e := ex1_11e.symm; subst ex1_11e; have eσL11e := eσL11e.symm; subst eσL11e; have eσL33e := eσL33e.symm; subst eσL33e; exact ((if_neg c150).trans rfl))
    exact w_reti (wXL g) C h hr hlocks (congrArg Prod.fst he) (congrArg Prod.snd he) ⟨hlpq, hldq, hBF⟩ dX0_simplify_154
