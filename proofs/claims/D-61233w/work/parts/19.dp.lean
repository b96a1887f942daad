/-! ===== the table of best values ===== -/
abbrev Kv : Type := Option (Nat × Nat)
/-- a is better than b: more worth, or as much and fewer cents -/
def kbet (a b : Nat × Nat) : Bool := decide (b.1 < a.1) || (decide (a.1 = b.1) && decide (a.2 < b.2))
def kmax (a b : Kv) : Kv := match a, b with
  | a, none => a
  | none, some y => some y
  | some x, some y => if kbet y x then some y else some x
def kadd (o : Kv) (w ct : Nat) : Kv := o.map (fun p => (p.1 + w, p.2 + ct))
def okI (c : Cf) (A : Nat → Bool) (s b u i : Nat) : Bool := A i && !u.testBit i && opn c s (c.wd i) && metB c i s && (decide (6 ≤ b) || !c.br b i)
def nbW (c : Cf) (b i : Nat) : Nat := if b < 6 then c.nr b i else 0
def DBi (c : Cf) (A : Nat → Bool) (nx : Nat → Nat → Nat → Kv) (s b u : Nat) : Nat → Kv
  | 0 => none
  | i + 1 => if okI c A s b u i then kmax (DBi c A nx s b u i) (kadd (nx (s + c.wd i) i (u ||| 2 ^ i)) (c.wo i + nbW c b i) (c.ce i)) else DBi c A nx s b u i
def DBf (c : Cf) (nx : Nat → Nat → Nat → Kv) (s b u : Nat) (a : Kv) : Nat → Kv
  | 0 => a
  | j + 1 => if !decide (b = 7) && opn c s (c.le + j) then kmax (DBf c nx s b u a j) (nx (s + (c.le + j)) 7 u) else DBf c nx s b u a j
def DB (c : Cf) (A E : Nat → Bool) (nx : Nat → Nat → Nat → Kv) (s b u : Nat) : Kv :=
  if s = c.st then (if E u then some (0, 0) else none)
  else if c.fr s then nx (c.bf s) 6 u
  else DBf c nx s b u (DBi c A nx s b u c.mn) (c.mo + 1 - c.le)
def Dm (c : Cf) (A E : Nat → Bool) : Nat → Nat → Nat → Nat → Kv
  | 0, _, _, _ => none
  | m + 1, s, b, u => DB c A E (Dm c A E m) s b u
/-- the best from step s on, with b before it and the items u used -/
def Dv (c : Cf) (A E : Nat → Bool) (s b u : Nat) : Kv := Dm c A E (c.st + 1 - s) s b u
theorem DBi_ext {c : Cf} {A : Nat → Bool} {nx nx' : Nat → Nat → Nat → Kv} {s b u : Nat} : ∀ m, (∀ i, i < m → okI c A s b u i = true → nx (s + c.wd i) i (u ||| 2 ^ i) = nx' (s + c.wd i) i (u ||| 2 ^ i)) → DBi c A nx s b u m = DBi c A nx' s b u m
  | 0, _ => rfl
  | m + 1, h => by
    have ih := DBi_ext m (fun i hi => h i (by omega))
    simp only [DBi, ih]
    by_cases hk : okI c A s b u m = true
    · rw [if_pos hk, if_pos hk, h m (by omega) hk]
    · rw [if_neg hk, if_neg hk]
theorem DBf_ext {c : Cf} {nx nx' : Nat → Nat → Nat → Kv} {s b u : Nat} {a : Kv} : ∀ m, (∀ j, j < m → opn c s (c.le + j) = true → nx (s + (c.le + j)) 7 u = nx' (s + (c.le + j)) 7 u) → DBf c nx s b u a m = DBf c nx' s b u a m
  | 0, _ => rfl
  | m + 1, h => by
    have ih := DBf_ext (a := a) (b := b) m (fun i hi => h i (by omega))
    simp only [DBf, ih]
    by_cases hk : opn c s (c.le + m) = true
    · rw [h m (by omega) hk]
    · simp [hk]
theorem opn_le {c : Cf} {s w : Nat} (h : opn c s w = true) : s + w ≤ c.st := by
  simp only [opn, Bool.and_eq_true, decide_eq_true_eq] at h; exact h.1
theorem okI_s {c : Cf} {A : Nat → Bool} {s b u i : Nat} (h : okI c A s b u i = true) : A i = true ∧ u.testBit i = false ∧ opn c s (c.wd i) = true ∧ metB c i s = true ∧ (6 ≤ b ∨ c.br b i = false) := by
  simp only [okI, Bool.and_eq_true, Bool.or_eq_true, decide_eq_true_eq, Bool.not_eq_true'] at h
  exact ⟨h.1.1.1.1, h.1.1.1.2, h.1.1.2, h.1.2, h.2⟩
/-- what DB asks of the values behind: those of later steps -/
theorem DB_ext {c : Cf} (hc : CfOK c) {A E : Nat → Bool} {nx nx' : Nat → Nat → Nat → Kv} {s b u : Nat} (hs : s ≤ c.st) (h : ∀ s' b' u', s < s' → s' ≤ c.st → nx s' b' u' = nx' s' b' u') : DB c A E nx s b u = DB c A E nx' s b u := by
  unfold DB
  by_cases h1 : s = c.st
  · simp [h1]
  · rw [if_neg h1, if_neg h1]
    by_cases h2 : c.fr s = true
    · rw [if_pos h2, if_pos h2]
      exact h _ _ _ (bf_lt hc h2) (bf_le hc hs).2
    · rw [if_neg h2, if_neg h2]
      have e1 : DBi c A nx s b u c.mn = DBi c A nx' s b u c.mn := DBi_ext _ fun i hi hk => by
        have := (hc.2.2.2.2.2.1 i hi).1
        have := opn_le (okI_s hk).2.2.1
        exact h _ _ _ (by omega) this
      rw [e1]
      refine DBf_ext _ fun j hj hk => ?_
      have := opn_le hk
      have := hc.2.2.2.2.2.2.2.2.2.2.1.1
      exact h _ _ _ (by omega) (by omega)
theorem Dm_st {c : Cf} (hc : CfOK c) {A E : Nat → Bool} : ∀ (m m' s b u : Nat), s ≤ c.st → c.st < s + m → c.st < s + m' → Dm c A E m s b u = Dm c A E m' s b u
  | 0, m', s, b, u, h1, h2, h3 => by omega
  | m + 1, 0, s, b, u, h1, h2, h3 => by omega
  | m + 1, m' + 1, s, b, u, h1, h2, h3 => DB_ext hc h1 fun s' b' u' q1 q2 => Dm_st hc m m' s' b' u' q2 (by omega) (by omega)
/-- Bellman's row -/
theorem Dv_eq {c : Cf} (hc : CfOK c) {A E : Nat → Bool} {s b u : Nat} (hs : s ≤ c.st) : Dv c A E s b u = DB c A E (Dv c A E) s b u := by
  unfold Dv
  rw [show c.st + 1 - s = (c.st - s) + 1 by omega]
  show DB c A E (Dm c A E (c.st - s)) s b u = _
  exact DB_ext hc hs fun s' b' u' q1 q2 => Dm_st hc _ _ _ _ _ q2 (by omega) (by omega)
theorem kmax_le {a b : Kv} {B : Nat} (ha : ∀ p, a = some p → p.1 ≤ B) (hb : ∀ p, b = some p → p.1 ≤ B) : ∀ p, kmax a b = some p → p.1 ≤ B := by
  intro p h
  cases a with
  | none => cases b with
    | none => cases h
    | some y => exact hb p h
  | some x => cases b with
    | none => exact ha p h
    | some y =>
      simp only [kmax] at h
      split at h
      · exact hb p (by rw [← h])
      · exact ha p (by rw [← h])
def Bnd (nx : Nat → Nat → Nat → Kv) : Prop := ∀ s b u p, nx s b u = some p → p.1 ≤ 200000 * (40 - s)
theorem DBi_bnd {c : Cf} (hc : CfOK c) {A : Nat → Bool} {nx : Nat → Nat → Nat → Kv} (hn : Bnd nx) {s b u : Nat} : ∀ m, m ≤ c.mn → ∀ p, DBi c A nx s b u m = some p → p.1 ≤ 200000 * (40 - s)
  | 0, _, p, h => by cases h
  | m + 1, hm, p, h => by
    have ih := DBi_bnd hc hn (A := A) (s := s) (b := b) (u := u) m (by omega)
    simp only [DBi] at h
    by_cases hk : okI c A s b u m = true
    · rw [if_pos hk] at h
      refine kmax_le ih ?_ p h
      intro q hq
      cases hx : nx (s + c.wd m) m (u ||| 2 ^ m) with
      | none => rw [hx] at hq; cases hq
      | some z =>
        rw [hx] at hq
        simp only [kadd, Option.map_some, Option.some.injEq] at hq
        subst hq
        have h1 := hn _ _ _ _ hx
        have h2 := hc.2.2.2.2.2.1 m (by omega)
        have h3 := opn_le (okI_s hk).2.2.1
        have h4 : nbW c b m ≤ 100000 := by unfold nbW; split; exact (hc.2.2.2.2.2.2.2.2.1 b m).1; omega
        have h5 := hc.1.2
        show z.1 + (c.wo m + nbW c b m) ≤ _
        have h6 : 200000 * (40 - (s + c.wd m)) + 200000 ≤ 200000 * (40 - s) := by
          rw [← Nat.mul_succ]; exact Nat.mul_le_mul_left _ (by omega)
        omega
    · rw [if_neg hk] at h; exact ih p h
theorem DBf_bnd {c : Cf} {nx : Nat → Nat → Nat → Kv} (hn : Bnd nx) {s b u : Nat} {a : Kv} (ha : ∀ p, a = some p → p.1 ≤ 200000 * (40 - s)) : ∀ m p, DBf c nx s b u a m = some p → p.1 ≤ 200000 * (40 - s)
  | 0, p, h => ha p h
  | m + 1, p, h => by
    have ih := DBf_bnd (c := c) hn (b := b) (u := u) ha m
    simp only [DBf] at h
    split at h
    · refine kmax_le ih (fun q hq => ?_) p h
      have := hn _ _ _ _ hq
      exact Nat.le_trans this (Nat.mul_le_mul_left _ (by omega))
    · exact ih p h
theorem DB_bnd {c : Cf} (hc : CfOK c) {A E : Nat → Bool} {nx : Nat → Nat → Nat → Kv} (hn : Bnd nx) {s b u : Nat} (p : Nat × Nat) (h : DB c A E nx s b u = some p) (hs : s ≤ c.st) : p.1 ≤ 200000 * (40 - s) := by
  unfold DB at h
  split at h
  · split at h
    · cases h; exact Nat.zero_le _
    · cases h
  · split at h
    · have := hn _ _ _ _ h
      have := (bf_le hc hs).1
      exact Nat.le_trans (hn _ _ _ _ h) (Nat.mul_le_mul_left _ (by omega))
    · exact DBf_bnd hn (DBi_bnd hc hn c.mn (Nat.le_refl _)) _ p h
/-- a value as the class's table keeps it -/
def tvk (o : Kv) : Int64 := match o with
  | none => -1
  | some p => lN p.1
theorem tv_le {a b : Kv} (ha : ∀ p, a = some p → p.1 ≤ 8000000) (hb : ∀ p, b = some p → p.1 ≤ 8000000) : (if tvk b ≤ tvk a then tvk a else tvk b) = tvk (kmax a b) := by
  cases a with
  | none => cases b with
    | none => rfl
    | some y =>
      have h1 := hb y rfl
      have : ¬ tvk (some y) ≤ tvk none := by
        show ¬ lN y.1 ≤ -1
        rw [Int64.le_iff_toInt_le, lN_toInt (by omega), show ((-1 : Int64)).toInt = -1 from by decide]; omega
      rw [if_neg this]; rfl
  | some x => cases b with
    | none =>
      have h1 := ha x rfl
      have : tvk none ≤ tvk (some x) := by
        show -1 ≤ lN x.1
        rw [Int64.le_iff_toInt_le, lN_toInt (by omega), show ((-1 : Int64)).toInt = -1 from by decide]; omega
      rw [if_pos this]; rfl
    | some y =>
      have h1 := ha x rfl
      have h2 := hb y rfl
      have hd : tvk (some y) ≤ tvk (some x) ↔ y.1 ≤ x.1 := lN_le (by omega) (by omega)
      have hkk : kbet y x = true ↔ (x.1 < y.1 ∨ (y.1 = x.1 ∧ y.2 < x.2)) := by
        simp only [kbet, Bool.or_eq_true, Bool.and_eq_true, decide_eq_true_eq]
      by_cases h3 : y.1 ≤ x.1
      · rw [if_pos (hd.mpr h3)]
        show _ = tvk (if kbet y x = true then some y else some x)
        by_cases hk : kbet y x = true
        · rw [if_pos hk]
          have := hkk.mp hk
          show lN x.1 = lN y.1
          rw [show x.1 = y.1 by omega]
        · rw [if_neg hk]
      · rw [if_neg (fun q => h3 (hd.mp q))]
        show _ = tvk (if kbet y x = true then some y else some x)
        rw [if_pos (hkk.mpr (by omega))]
theorem tv_none {o : Kv} (h : ∀ p, o = some p → p.1 ≤ 8000000) : tvk o = -1 ↔ o = none := by
  cases o with
  | none => simp [tvk]
  | some p =>
    have := h p rfl
    simp only [tvk]
    constructor
    · intro q
      exfalso
      have q2 := congrArg Int64.toInt q
      rw [lN_toInt (by omega), show ((-1 : Int64)).toInt = -1 from by decide] at q2; omega
    · intro q; cases q
theorem Bnd.le {nx : Nat → Nat → Nat → Kv} (h : Bnd nx) {s b u : Nat} : ∀ p, nx s b u = some p → p.1 ≤ 8000000 := fun p hp => Nat.le_trans (h s b u p hp) (by omega)
/-- where the class's table keeps the value of a state -/
def cX (s b u : Nat) : Nat := ((s * 64 + u) * 7 + (if b < 6 then b else 6)) * 2 + (if b = 7 then 1 else 0)
theorem Dv_bnd {c : Cf} (hc : CfOK c) {A E : Nat → Bool} : ∀ m s b u p, s ≤ c.st → Dm c A E m s b u = some p → p.1 ≤ 200000 * (40 - s)
  | 0, s, b, u, p, _, h => by cases h
  | m + 1, s, b, u, p, hs, h => by
    have ih := Dv_bnd hc (A := A) (E := E) m
    refine DB_bnd hc (nx := fun s b u => if s ≤ c.st then Dm c A E m s b u else none) (fun s' b' u' p' hp' => ?_) (A := A) (E := E) p (b := b) (u := u) ?_ hs
    · dsimp only at hp'
      split at hp'
      · next q => exact ih s' b' u' p' q hp'
      · cases hp'
    · rw [← h]
      exact DB_ext hc hs fun s' b' u' q1 q2 => if_pos q2
