/-! READER: a year's text as a function; how many steps it tells -/
set_option maxRecDepth 100000
/-- the steps told and the table are as before -/
def K5 (σ0 σ : MS × MS) : Prop := gi (own σ) 5 = gi (own σ0) 5 ∧ ttb σ = ttb σ0
theorem K5.rf {σ : MS × MS} : K5 σ σ := ⟨rfl, rfl⟩
theorem K5.trans {a b c : MS × MS} (h : K5 a b) (h2 : K5 b c) : K5 a c := ⟨h2.1.trans h.1, h2.2.trans h.2⟩
theorem K5.put {σ0 σ : MS × MS} {k : Nat} {v : Int32} (h : K5 σ0 σ) (hk : k ≠ 5) : K5 σ0 (lsi σ k v) := ⟨(show upd (own σ).1 k v 5 = _ from if_neg (fun z => hk z.symm)).trans h.1, h.2⟩
theorem K5.at {σ0 σ : MS × MS} {v w : Int32} (h : K5 σ0 σ) : K5 σ0 (f_X2_at σ v w) := by
  unfold f_X2_at
  exact (h.put (by decide)).put (by decide)
theorem K5.wrong {σ0 σ : MS × MS} (h : K5 σ0 σ) : K5 σ0 (f_X7_wrong σ) := by
  unfold f_X7_wrong
  exact h.at
theorem K5.L8 {σ0 : MS × MS} (n : Nat) : ∀ {σ : MS × MS}, K5 σ0 σ → K5 σ0 (f_X7_next_L8 n σ) := by
  induction n with
  | zero => intro σ h; exact h
  | succ n ih =>
    intro σ h
    unfold f_X7_next_L8
    dsimp only
    repeat' split
    all_goals first | exact h | exact ih (h.put (by decide))
theorem K5.L107 {σ0 : MS × MS} (n : Nat) : ∀ {σ : MS × MS}, K5 σ0 σ → K5 σ0 (f_X7_next_L107 n σ) := by
  induction n with
  | zero => intro σ h; exact h
  | succ n ih =>
    intro σ h
    unfold f_X7_next_L107
    dsimp only
    repeat' split
    all_goals first | exact h | exact ih (h.put (by decide))
theorem K5.L147 {σ0 : MS × MS} (n : Nat) : ∀ {σ : MS × MS}, K5 σ0 σ → K5 σ0 (f_X7_next_L147 n σ) := by
  induction n with
  | zero => intro σ h; exact h
  | succ n ih =>
    intro σ h
    unfold f_X7_next_L147
    dsimp only
    repeat' split
    all_goals first | exact h | exact ih (h.put (by decide)) | exact ih ((h.put (by decide)).put (by decide))
theorem K5.next {σ0 σ : MS × MS} (h : K5 σ0 σ) : K5 σ0 (f_X7_next σ) := by
  have h8 : K5 σ0 (f_X7_next_L8 901 (lsi σ 1 (gi (own σ) 2))) := K5.L8 901 (h.put (by decide))
  unfold f_X7_next
  dsimp only
  generalize f_X7_next_L8 901 (lsi σ 1 (gi (own σ) 2)) = w at h8 ⊢
  have hv : K5 σ0 (lsi (lsi w 2 (gi (own w) 1)) 3 0) := (h8.put (by decide)).put (by decide)
  generalize lsi (lsi w 2 (gi (own w) 1)) 3 0 = v at hv ⊢
  split
  · split
    · split
      · have h3 : ∀ x y : Int32, K5 σ0 (lsi (lsi v 2 x) 3 y) := fun x y => (hv.put (by decide)).put (by decide)
        repeat' split
        all_goals with_reducible exact h3 _ _
      · exact (K5.L147 901 (hv.put (by decide))).put (by decide)
    · exact K5.L107 901 (hv.put (by decide))
  · exact hv
theorem K5.close {σ0 σ : MS × MS} (h : K5 σ0 σ) : K5 σ0 (f_X7_close σ).1 := by
  unfold f_X7_close
  dsimp only
  split
  · exact h.wrong
  · exact h.next
theorem K5.word {σ0 σ : MS × MS} {i : Nat} (h : K5 σ0 σ) : K5 σ0 (f_X7_word σ i).1 := by
  unfold f_X7_word
  dsimp only
  split
  · exact h.wrong
  · exact h.next
theorem K5.number {σ0 σ : MS × MS} {a b : Int32} (h : K5 σ0 σ) : K5 σ0 (f_X7_number σ a b).1.1 := by
  unfold f_X7_number
  dsimp only
  repeat' split
  all_goals first | with_reducible exact h.at | with_reducible exact h.next | with_reducible exact h.wrong
theorem K5.name {σ0 σ : MS × MS} (h : K5 σ0 σ) : K5 σ0 (f_X7_name σ).1.1 := by
  unfold f_X7_name
  dsimp only
  repeat' split
  all_goals first | with_reducible exact h | with_reducible exact h.wrong
theorem K5.known {σ0 σ : MS × MS} (h : K5 σ0 σ) : K5 σ0 (f_X7_known σ).1.1 := by
  unfold f_X7_known
  dsimp only
  repeat' split
  all_goals first | with_reducible exact h.name | with_reducible exact h.name.at
theorem K5.who {σ0 σ : MS × MS} (h : K5 σ0 σ) : K5 σ0 (f_X7_who σ).1.1 := by
  unfold f_X7_who
  dsimp only
  split
  · exact h.known
  · exact h.known.next
theorem K5.other {σ0 σ : MS × MS} {b : Int32} (h : K5 σ0 σ) : K5 σ0 (f_X7_otherThan σ b).1.1 := by
  unfold f_X7_otherThan
  dsimp only
  repeat' split
  all_goals first | with_reducible exact h.known | with_reducible exact h.known.at | with_reducible exact h.known.next
theorem K5.payer {σ0 σ : MS × MS} (h : K5 σ0 σ) : K5 σ0 (f_X7_payer σ).1.1 := by
  unfold f_X7_payer
  dsimp only
  repeat' split
  all_goals first | with_reducible exact h | with_reducible exact h.next.who
/-- a plain step: its four ints, or a fault -/
def plnB (σ : MS × MS) (w a : Int32) : (MS × MS) × Option (Int32 × Int32 × Int32 × Int32) :=
  if (f_X7_otherThan σ a).2 = true then ((f_X7_otherThan σ a).1.1, none)
  else if w = 1 then ((f_X7_otherThan σ a).1.1, some (w, a, (f_X7_otherThan σ a).1.2, 0))
  else if (f_X7_number (f_X7_otherThan σ a).1.1 1 999).2 = true then ((f_X7_number (f_X7_otherThan σ a).1.1 1 999).1.1, none)
  else ((f_X7_number (f_X7_otherThan σ a).1.1 1 999).1.1, some (w, a, (f_X7_otherThan σ a).1.2, (f_X7_number (f_X7_otherThan σ a).1.1 1 999).1.2))
def plnW (σ : MS × MS) (w a : Int32) (i : Nat) : (MS × MS) × Option (Int32 × Int32 × Int32 × Int32) :=
  if (f_X7_word σ i).2 = true then ((f_X7_word σ i).1, none) else plnB (f_X7_word σ i).1 w a
def plnA (σ : MS × MS) (w : Int32) : (MS × MS) × Option (Int32 × Int32 × Int32 × Int32) :=
  if (f_X7_who σ).2 = true then ((f_X7_who σ).1.1, none) else plnW (f_X7_who σ).1.1 w (f_X7_who σ).1.2 (if w = 1 then 24 else 25)
def plnP (σ : MS × MS) (w : Int32) : (MS × MS) × Option (Int32 × Int32 × Int32 × Int32) :=
  if (f_X7_payer σ).2 = true then ((f_X7_payer σ).1.1, none) else ((f_X7_payer σ).1.1, some (w, (f_X7_payer σ).1.2, -1, 0))
def f_X7_plain (σ : MS × MS) : (MS × MS) × Option (Int32 × Int32 × Int32 × Int32) :=
  if f_X7_acts σ = 0 then plnP (f_X7_next σ) (f_X7_acts σ)
  else if f_X7_acts σ = 4 then (f_X7_next σ, some (f_X7_acts σ, -1, -1, 0))
  else if f_X7_acts σ = 5 then (f_X7_next σ, some (f_X7_acts σ, -1, -1, 0))
  else plnA (f_X7_next σ) (f_X7_acts σ)
/-- a test's head -/
def whnN (σ : MS × MS) (w a b c : Int32) : (MS × MS) × Option (Int32 × Int32 × Int32 × Int32 × Int32) :=
  if (f_X7_number σ 0 (if w = 0 then 999 else 9999)).2 = true then ((f_X7_number σ 0 (if w = 0 then 999 else 9999)).1.1, none) else ((f_X7_number σ 0 (if w = 0 then 999 else 9999)).1.1, some (w, a, b, c, (f_X7_number σ 0 (if w = 0 then 999 else 9999)).1.2))
def sgnC (σ : MS × MS) : Int32 := if f_X7_isSign σ 60 = 0 then (if f_X7_isSign σ 62 = 0 then 61 else 62) else 60
def whnS (σ : MS × MS) (w a b : Int32) : (MS × MS) × Option (Int32 × Int32 × Int32 × Int32 × Int32) :=
  if f_X7_isSign σ (sgnC σ) = 0 then (f_X7_wrong σ, none) else whnN (f_X7_next σ) w a b (sgnC σ)
def whnO (σ : MS × MS) (w a : Int32) : (MS × MS) × Option (Int32 × Int32 × Int32 × Int32 × Int32) :=
  if (f_X7_otherThan σ a).2 = true then ((f_X7_otherThan σ a).1.1, none) else whnS (f_X7_otherThan σ a).1.1 w a (f_X7_otherThan σ a).1.2
def whnA (σ : MS × MS) (w : Int32) : (MS × MS) × Option (Int32 × Int32 × Int32 × Int32 × Int32) :=
  if (f_X7_who σ).2 = true then ((f_X7_who σ).1.1, none)
  else if w = 2 then ((f_X7_who σ).1.1, some (w, (f_X7_who σ).1.2, -1, 0, 0))
  else if w = 1 then whnO (f_X7_who σ).1.1 w (f_X7_who σ).1.2
  else whnS (f_X7_who σ).1.1 w (f_X7_who σ).1.2 (-1)
def f_X7_when (σ : MS × MS) : (MS × MS) × Option (Int32 × Int32 × Int32 × Int32 × Int32) :=
  if 0 ≤ f_X7_tests σ then whnA (f_X7_next σ) (f_X7_tests σ) else (f_X7_wrong σ, none)
/-- behind a step -/
def endP {X : Type} (o : Option X) (σ : MS × MS) : (MS × MS) × Option X := match o with
  | none => (σ, none)
  | some x => if (f_X7_close σ).2 = true then ((f_X7_close σ).1, none) else ((f_X7_close σ).1, some x)
/-- what comes behind a block's head -/
def bodP {T X : Type} (L : MS × MS → (MS × MS) × Option T) (h : T → X) (σ : MS × MS) : (MS × MS) × Option X :=
  if (f_X7_close σ).2 = true then ((f_X7_close σ).1, none) else ((L (f_X7_close σ).1).1, (L (f_X7_close σ).1).2.map h)
def lopP {T : Type} (L : MS × MS → (MS × MS) × Option T) (σ : MS × MS) : (MS × MS) × Option (ST T) :=
  if (f_X7_number σ 1 99).2 = true then ((f_X7_number σ 1 99).1.1, none) else bodP L (fun t => .inr (.inl ((f_X7_number σ 1 99).1.2, t))) (f_X7_number σ 1 99).1.1
def whbP {T : Type} (L : MS × MS → (MS × MS) × Option T) (σ : MS × MS) : (MS × MS) × Option (ST T) := match (f_X7_when σ).2 with
  | none => ((f_X7_when σ).1, none)
  | some w => bodP L (fun t => .inr (.inr (w, t))) (f_X7_when σ).1
def blkP {T : Type} (L : MS × MS → (MS × MS) × Option T) (w : Int32) (σ : MS × MS) : (MS × MS) × Option (ST T) := if w = 0 then lopP L (f_X7_next σ) else whbP L (f_X7_next σ)
/-- a step -/
def stpB {T : Type} (deep : Bool) (L : MS × MS → (MS × MS) × Option T) (σ : MS × MS) : (MS × MS) × Option (ST T) :=
  if gi (own σ) 5 = 30 then (f_X2_at σ 6 (gi (own σ) 1), none)
  else if deep = true then (f_X2_at σ 7 (gi (own σ) 1), none)
  else endP (blkP L (f_X7_isWord σ 26) (lsi σ 5 (gi (own σ) 5 + 1))).2 (blkP L (f_X7_isWord σ 26) (lsi σ 5 (gi (own σ) 5 + 1))).1
def stpA {T : Type} (σ : MS × MS) : (MS × MS) × Option (ST T) :=
  if 0 ≤ f_X7_acts σ then
    (if gi (own σ) 5 = 30 then (f_X2_at σ 6 (gi (own σ) 1), none)
    else endP ((f_X7_plain (lsi σ 5 (gi (own σ) 5 + 1))).2.map Sum.inl) (f_X7_plain (lsi σ 5 (gi (own σ) 5 + 1))).1)
  else (f_X7_wrong σ, none)
def stpP {T : Type} (deep : Bool) (L : MS × MS → (MS × MS) × Option T) (σ : MS × MS) : (MS × MS) × Option (ST T) :=
  if f_X7_isWord σ 26 = 0 then (if f_X7_isWord σ 27 = 0 then stpA σ else stpB deep L σ) else stpB deep L σ
/-- steps to the word that ends them -/
def lstP {X : Type} (G : MS × MS → (MS × MS) × Option X) : Nat → MS × MS → (MS × MS) × Option (List X)
  | 0, σ => (σ, none)
  | n + 1, σ => if f_X7_isWord σ 28 = 0 then (match (G σ).2 with
      | none => ((G σ).1, none)
      | some x => ((lstP G n (G σ).1).1, (lstP G n (G σ).1).2.map (fun l => x :: l))) else (f_X7_next σ, some [])
def stP : (d : Nat) → MS × MS → (MS × MS) × Option (ST (TR d))
  | 0 => stpP true (fun σ => (σ, none))
  | d + 1 => stpP false (fun σ => (lstP (stP d) 901 σ : (MS × MS) × Option (List (ST (TR d)))))
def yrP : Nat → MS × MS → (MS × MS) × Option (List (ST (TR 3)))
  | 0, σ => (σ, none)
  | n + 1, σ => if gi (own σ) 3 = 0 then (σ, some []) else (match (stP 3 σ).2 with
      | none => ((stP 3 σ).1, none)
      | some x => ((yrP n (stP 3 σ).1).1, (yrP n (stP 3 σ).1).2.map (fun l => x :: l)))
/-- the steps told -/
def cN (σ : MS × MS) : Nat := (gi (own σ) 5).toNatClampNeg
def C5 (σ : MS × MS) : Prop := ∃ s : Nat, s ≤ 30 ∧ gi (own σ) 5 = nI s
theorem C5.le {σ : MS × MS} (h : C5 σ) : cN σ ≤ 30 := by
  obtain ⟨s, h1, h2⟩ := h
  unfold cN
  rw [h2, nI_clamp (by omega)]
  exact h1
theorem C5.k {σ σ1 : MS × MS} (h : C5 σ) (hk : K5 σ σ1) : C5 σ1 ∧ cN σ1 = cN σ := by
  obtain ⟨s, h1, h2⟩ := h
  exact ⟨⟨s, h1, hk.1.trans h2⟩, by unfold cN; rw [hk.1]⟩
/-- what a reading does to the count -/
def M5 (σ σ1 : MS × MS) : Prop := (C5 σ → C5 σ1 ∧ cN σ ≤ cN σ1) ∧ ttb σ1 = ttb σ
theorem M5.of {σ σ1 : MS × MS} (h : K5 σ σ1) : M5 σ σ1 := ⟨fun h5 => ⟨(h5.k h).1, Nat.le_of_eq (h5.k h).2.symm⟩, h.2⟩
theorem M5.trans {a b c : MS × MS} (h : M5 a b) (h2 : M5 b c) : M5 a c := ⟨fun h5 => ⟨(h2.1 (h.1 h5).1).1, Nat.le_trans (h.1 h5).2 (h2.1 (h.1 h5).1).2⟩, h2.2.trans h.2⟩
theorem C5.inc {σ : MS × MS} (h : C5 σ) (hn : ¬ gi (own σ) 5 = 30) : C5 (lsi σ 5 (gi (own σ) 5 + 1)) ∧ cN (lsi σ 5 (gi (own σ) 5 + 1)) = cN σ + 1 := by
  obtain ⟨s, h1, h2⟩ := h
  have hs : ¬ s = 30 := fun z => hn (by rw [h2, z]; rfl)
  have e : gi (own (lsi σ 5 (gi (own σ) 5 + 1))) 5 = nI (s + 1) := by
    show upd (own σ).1 5 (gi (own σ) 5 + 1) 5 = _
    rw [nI_succ, ← h2]
    exact if_pos rfl
  exact ⟨⟨s + 1, by omega, e⟩, by unfold cN; rw [e, h2, nI_clamp (by omega), nI_clamp (by omega)]⟩
theorem K5.plain {σ0 σ : MS × MS} (h : K5 σ0 σ) : K5 σ0 (f_X7_plain σ).1 := by
  have hB : ∀ {σ : MS × MS} {w a : Int32}, K5 σ0 σ → K5 σ0 (plnB σ w a).1 := by
    intro σ w a h
    unfold plnB
    repeat' split
    all_goals first | with_reducible exact h.other | with_reducible exact h.other.number
  have hW : ∀ {σ : MS × MS} {w a : Int32} {i : Nat}, K5 σ0 σ → K5 σ0 (plnW σ w a i).1 := by
    intro σ w a i h
    unfold plnW
    split
    · exact h.word
    · exact hB h.word
  have hA : ∀ {σ : MS × MS} {w : Int32}, K5 σ0 σ → K5 σ0 (plnA σ w).1 := by
    intro σ w h
    unfold plnA
    split
    · exact h.who
    · exact hW h.who
  unfold f_X7_plain
  repeat' split
  · unfold plnP
    split
    · exact h.next.payer
    · exact h.next.payer
  · exact h.next
  · exact h.next
  · exact hA h.next
theorem K5.when {σ0 σ : MS × MS} (h : K5 σ0 σ) : K5 σ0 (f_X7_when σ).1 := by
  have hN : ∀ {σ : MS × MS} {w a b c : Int32}, K5 σ0 σ → K5 σ0 (whnN σ w a b c).1 := by
    intro σ w a b c h
    unfold whnN
    generalize (if w = 0 then (999 : Int32) else 9999) = t
    split
    · exact h.number
    · exact h.number
  have hS : ∀ {σ : MS × MS} {w a b : Int32}, K5 σ0 σ → K5 σ0 (whnS σ w a b).1 := by
    intro σ w a b h
    unfold whnS
    split
    · exact h.wrong
    · exact hN h.next
  have hO : ∀ {σ : MS × MS} {w a : Int32}, K5 σ0 σ → K5 σ0 (whnO σ w a).1 := by
    intro σ w a h
    unfold whnO
    split
    · exact h.other
    · exact hS h.other
  unfold f_X7_when
  split
  · unfold whnA
    repeat' split
    · exact h.next.who
    · exact h.next.who
    · exact hO h.next.who
    · exact hS h.next.who
  · exact h.wrong
theorem M5.bod {T X : Type} {L : MS × MS → (MS × MS) × Option T} (hL : ∀ σ, M5 σ (L σ).1) {h : T → X} {σ0 σ : MS × MS} (hk : M5 σ0 σ) : M5 σ0 (bodP L h σ).1 := by
  unfold bodP
  split
  · exact hk.trans (M5.of K5.rf.close)
  · exact (hk.trans (M5.of K5.rf.close)).trans (hL _)
theorem M5.blk {T : Type} {L : MS × MS → (MS × MS) × Option T} (hL : ∀ σ, M5 σ (L σ).1) (w : Int32) (σ : MS × MS) : M5 σ (blkP L w σ).1 := by
  unfold blkP
  split
  · unfold lopP
    have hk : M5 σ (f_X7_number (f_X7_next σ) 1 99).1.1 := M5.of (K5.rf (σ := σ)).next.number
    split
    · exact hk
    · exact M5.bod hL hk
  · unfold whbP
    have hk : M5 σ (f_X7_when (f_X7_next σ)).1 := M5.of (K5.rf (σ := σ)).next.when
    generalize f_X7_when (f_X7_next σ) = w at hk ⊢
    obtain ⟨w1, w2⟩ := w
    cases w2 with
    | none => exact hk
    | some h => exact M5.bod hL hk
theorem M5.fin {X : Type} {o : Option X} {σ0 σ : MS × MS} (h : M5 σ0 σ) : M5 σ0 (endP o σ).1 := by
  unfold endP
  split
  · exact h
  · split
    · exact h.trans (M5.of K5.rf.close)
    · exact h.trans (M5.of K5.rf.close)
theorem M5.stp {T : Type} (deep : Bool) {L : MS × MS → (MS × MS) × Option T} (hL : ∀ σ, M5 σ (L σ).1) (σ : MS × MS) : M5 σ (stpP deep L σ).1 := by
  have hi : ∀ {σ : MS × MS}, ¬ gi (own σ) 5 = 30 → M5 σ (lsi σ 5 (gi (own σ) 5 + 1)) := fun hn => ⟨fun h5 => ⟨(h5.inc hn).1, by rw [(h5.inc hn).2]; omega⟩, rfl⟩
  have hB : M5 σ (stpB deep L σ).1 := by
    unfold stpB
    split
    · exact M5.of K5.rf.at
    · rename_i hn
      split
      · exact M5.of K5.rf.at
      · exact M5.fin ((hi hn).trans (M5.blk hL _ _))
  unfold stpP
  split
  · split
    · unfold stpA
      split
      · split
        · exact M5.of K5.rf.at
        · rename_i hn
          exact M5.fin ((hi hn).trans (M5.of K5.rf.plain))
      · exact M5.of K5.rf.wrong
    · exact hB
  · exact hB
theorem M5.lst {X : Type} {G : MS × MS → (MS × MS) × Option X} (hG : ∀ σ, M5 σ (G σ).1) : ∀ (n : Nat) (σ : MS × MS), M5 σ (lstP G n σ).1 := by
  intro n
  induction n with
  | zero => intro σ; exact M5.of K5.rf
  | succ n ih =>
    intro σ
    unfold lstP
    split
    · split
      · exact hG σ
      · exact (hG σ).trans (ih _)
    · exact M5.of K5.rf.next
theorem M5.st : ∀ (d : Nat) (σ : MS × MS), M5 σ (stP d σ).1 := by
  intro d
  induction d with
  | zero => intro σ; exact M5.stp _ (fun σ => M5.of K5.rf) σ
  | succ d ih => intro σ; exact M5.stp _ (fun σ => M5.lst ih 901 σ) σ
theorem M5.yr : ∀ (n : Nat) (σ : MS × MS), M5 σ (yrP n σ).1 := by
  intro n
  induction n with
  | zero => intro σ; exact M5.of K5.rf
  | succ n ih =>
    intro σ
    unfold yrP
    split
    · exact M5.of K5.rf
    · split
      · exact M5.st 3 σ
      · exact (M5.st 3 σ).trans (ih _)
