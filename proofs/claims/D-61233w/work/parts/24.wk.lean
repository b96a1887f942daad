/-! ===== plans, plainly ===== -/
def kle (a b : Kv) : Prop := ∀ p, a = some p → ∃ q, b = some q ∧ (p.1 < q.1 ∨ (p.1 = q.1 ∧ q.2 ≤ p.2))
theorem kle_refl (a : Kv) : kle a a := fun p h => ⟨p, h, Or.inr ⟨rfl, Nat.le_refl _⟩⟩
theorem kle_none (a : Kv) : kle none a := fun p h => by cases h
theorem kle_trans {a b d : Kv} (h1 : kle a b) (h2 : kle b d) : kle a d := fun p h => by
  obtain ⟨q, hq, e1⟩ := h1 p h
  obtain ⟨r, hr, e2⟩ := h2 q hq
  exact ⟨r, hr, by omega⟩
theorem kle_anti {a b : Kv} (h1 : kle a b) (h2 : kle b a) : a = b := by
  cases a with
  | none => cases b with
    | none => rfl
    | some y => obtain ⟨q, hq, -⟩ := h2 y rfl; cases hq
  | some x =>
    obtain ⟨y, hy, e1⟩ := h1 x rfl
    subst hy
    obtain ⟨x', hx, e2⟩ := h2 y rfl
    cases hx
    obtain ⟨x1, x2⟩ := x
    obtain ⟨y1, y2⟩ := y
    simp only at e1 e2
    rw [show x1 = y1 by omega, show x2 = y2 by omega]
theorem kbet_iff (y x : Nat × Nat) : kbet y x = true ↔ (x.1 < y.1 ∨ (y.1 = x.1 ∧ y.2 < x.2)) := by
  simp only [kbet, Bool.or_eq_true, Bool.and_eq_true, decide_eq_true_eq]
theorem kmax_l (a b : Kv) : kle a (kmax a b) := by
  cases a with
  | none => exact kle_none _
  | some x => cases b with
    | none => exact kle_refl _
    | some y =>
      intro p h
      cases h
      simp only [kmax]
      by_cases hk : kbet y x = true
      · rw [if_pos hk]; have := (kbet_iff y x).mp hk; exact ⟨y, rfl, by omega⟩
      · rw [if_neg hk]; exact ⟨x, rfl, by omega⟩
theorem kmax_r (a b : Kv) : kle b (kmax a b) := by
  cases b with
  | none => exact kle_none _
  | some y => cases a with
    | none => exact kle_refl _
    | some x =>
      intro p h
      cases h
      simp only [kmax]
      by_cases hk : kbet y x = true
      · rw [if_pos hk]; exact ⟨y, rfl, by omega⟩
      · rw [if_neg hk]; have := mt (kbet_iff y x).mpr hk; exact ⟨x, rfl, by omega⟩
theorem kmax_or (a b : Kv) : kmax a b = a ∨ kmax a b = b := by
  cases a with
  | none => cases b with
    | none => exact Or.inl rfl
    | some y => exact Or.inr rfl
  | some x => cases b with
    | none => exact Or.inl rfl
    | some y =>
      simp only [kmax]
      split
      · exact Or.inr rfl
      · exact Or.inl rfl
theorem kadd_mono {a b : Kv} {w ct : Nat} (h : kle a b) : kle (kadd a w ct) (kadd b w ct) := fun p hp => by
  cases a with
  | none => cases hp
  | some x =>
    cases hp
    obtain ⟨q, hq, e⟩ := h x rfl
    subst hq
    exact ⟨_, rfl, by simp only; omega⟩
theorem kadd_some {a : Kv} {w ct : Nat} {p : Nat × Nat} (h : kadd a w ct = some p) : ∃ x, a = some x ∧ p = (x.1 + w, x.2 + ct) := by
  cases a with
  | none => cases h
  | some x => cases h; exact ⟨x, rfl, rfl⟩
theorem DBi_ge {c : Cf} {A : Nat → Bool} {nx : Nat → Nat → Nat → Kv} {s b u i : Nat} (hk : okI c A s b u i = true) : ∀ m, i < m → kle (kadd (nx (s + c.wd i) i (u ||| 2 ^ i)) (c.wo i + nbW c b i) (c.ce i)) (DBi c A nx s b u m)
  | 0, h => by omega
  | m + 1, h => by
    simp only [DBi]
    by_cases hm : i = m
    · subst hm
      rw [if_pos hk]
      exact kmax_r _ _
    · have ih := DBi_ge (nx := nx) hk m (by omega)
      split
      · exact kle_trans ih (kmax_l _ _)
      · exact ih
theorem DBi_at {c : Cf} {A : Nat → Bool} {nx : Nat → Nat → Nat → Kv} {s b u : Nat} {p : Nat × Nat} : ∀ m, DBi c A nx s b u m = some p → ∃ i, i < m ∧ okI c A s b u i = true ∧ kadd (nx (s + c.wd i) i (u ||| 2 ^ i)) (c.wo i + nbW c b i) (c.ce i) = some p
  | 0, h => by cases h
  | m + 1, h => by
    have ih := DBi_at (c := c) (A := A) (nx := nx) (s := s) (b := b) (u := u) (p := p) m
    simp only [DBi] at h
    by_cases hk : okI c A s b u m = true
    · rw [if_pos hk] at h
      rcases kmax_or (DBi c A nx s b u m) (kadd (nx (s + c.wd m) m (u ||| 2 ^ m)) (c.wo m + nbW c b m) (c.ce m)) with e | e
      · rw [e] at h
        obtain ⟨i, hi, r⟩ := ih h
        exact ⟨i, by omega, r⟩
      · rw [e] at h
        exact ⟨m, by omega, hk, h⟩
    · rw [if_neg hk] at h
      obtain ⟨i, hi, r⟩ := ih h
      exact ⟨i, by omega, r⟩
theorem DBf_ge0 {c : Cf} {nx : Nat → Nat → Nat → Kv} {s b u : Nat} {a : Kv} : ∀ m, kle a (DBf c nx s b u a m)
  | 0 => kle_refl _
  | m + 1 => by
    have ih := DBf_ge0 (c := c) (nx := nx) (s := s) (b := b) (u := u) (a := a) m
    simp only [DBf]
    split
    · exact kle_trans ih (kmax_l _ _)
    · exact ih
theorem DBf_ge {c : Cf} {nx : Nat → Nat → Nat → Kv} {s b u j : Nat} {a : Kv} (hb : b ≠ 7) (ho : opn c s (c.le + j) = true) : ∀ m, j < m → kle (nx (s + (c.le + j)) 7 u) (DBf c nx s b u a m)
  | 0, h => by omega
  | m + 1, h => by
    simp only [DBf]
    by_cases hm : j = m
    · subst hm
      rw [if_pos (by simp [hb, ho])]
      exact kmax_r _ _
    · have ih := DBf_ge (nx := nx) (u := u) (a := a) hb ho m (by omega)
      split
      · exact kle_trans ih (kmax_l _ _)
      · exact ih
theorem DBf_at {c : Cf} {nx : Nat → Nat → Nat → Kv} {s b u : Nat} {a : Kv} {p : Nat × Nat} : ∀ m, DBf c nx s b u a m = some p → a = some p ∨ (b ≠ 7 ∧ ∃ j, j < m ∧ opn c s (c.le + j) = true ∧ nx (s + (c.le + j)) 7 u = some p)
  | 0, h => Or.inl h
  | m + 1, h => by
    have ih := DBf_at (c := c) (nx := nx) (s := s) (b := b) (u := u) (a := a) (p := p) m
    have up : a = some p ∨ (b ≠ 7 ∧ ∃ j, j < m ∧ opn c s (c.le + j) = true ∧ nx (s + (c.le + j)) 7 u = some p) → a = some p ∨ (b ≠ 7 ∧ ∃ j, j < m + 1 ∧ opn c s (c.le + j) = true ∧ nx (s + (c.le + j)) 7 u = some p) := by
      rintro (q | ⟨q, j, hj, r⟩)
      · exact Or.inl q
      · exact Or.inr ⟨q, j, by omega, r⟩
    simp only [DBf] at h
    by_cases hk : (!decide (b = 7) && opn c s (c.le + m)) = true
    · rw [if_pos hk] at h
      simp at hk
      rcases kmax_or (DBf c nx s b u a m) (nx (s + (c.le + m)) 7 u) with e | e
      · rw [e] at h; exact up (ih h)
      · rw [e] at h; exact Or.inr ⟨hk.1, m, by omega, hk.2, h⟩
    · rw [if_neg hk] at h; exact up (ih h)
section DVF
variable {c : Cf} {A E : Nat → Bool} {s b u : Nat}
theorem Dv_end (hc : CfOK c) : Dv c A E c.st b u = if E u then some (0, 0) else none := by
  rw [Dv_eq hc (Nat.le_refl _)]
  simp [DB]
theorem Dv_free (hc : CfOK c) (hf : c.fr s = true) : Dv c A E s b u = Dv c A E (c.bf s) 6 u := by
  have := hc.2.1 s hf
  rw [Dv_eq hc (by omega)]
  unfold DB
  rw [if_neg (by omega), if_pos hf]
theorem Dv_row (hc : CfOK c) (hs : s < c.st) (hf : c.fr s = false) : Dv c A E s b u = DBf c (Dv c A E) s b u (DBi c A (Dv c A E) s b u c.mn) (c.mo + 1 - c.le) := by
  rw [Dv_eq hc (by omega)]
  unfold DB
  rw [if_neg (by omega), if_neg (by rw [hf]; decide)]
theorem Dv_item (hc : CfOK c) (hs : s < c.st) (hf : c.fr s = false) {i : Nat} (hi : i < c.mn) (hk : okI c A s b u i = true) : kle (kadd (Dv c A E (s + c.wd i) i (u ||| 2 ^ i)) (c.wo i + nbW c b i) (c.ce i)) (Dv c A E s b u) := by
  rw [Dv_row (s := s) hc hs hf]
  exact kle_trans (DBi_ge hk _ hi) (DBf_ge0 _)
theorem Dv_fill (hc : CfOK c) (hs : s < c.st) (hf : c.fr s = false) {n : Nat} (hb : b ≠ 7) (h1 : c.le ≤ n) (h2 : n ≤ c.mo) (ho : opn c s n = true) : kle (Dv c A E (s + n) 7 u) (Dv c A E s b u) := by
  rw [Dv_row (s := s) hc hs hf]
  have := DBf_ge (nx := Dv c A E) (u := u) (a := DBi c A (Dv c A E) s b u c.mn) (j := n - c.le) hb (by rw [show c.le + (n - c.le) = n by omega]; exact ho) (c.mo + 1 - c.le) (by omega)
  rwa [show c.le + (n - c.le) = n by omega] at this
theorem Dv_at (hc : CfOK c) (hs : s < c.st) (hf : c.fr s = false) {p : Nat × Nat} (h : Dv c A E s b u = some p) : (∃ i, i < c.mn ∧ okI c A s b u i = true ∧ kadd (Dv c A E (s + c.wd i) i (u ||| 2 ^ i)) (c.wo i + nbW c b i) (c.ce i) = some p) ∨ (b ≠ 7 ∧ ∃ n, c.le ≤ n ∧ n ≤ c.mo ∧ opn c s n = true ∧ Dv c A E (s + n) 7 u = some p) := by
  rw [Dv_row hc hs hf] at h
  rcases DBf_at _ h with q | ⟨hb, j, hj, ho, q⟩
  · exact Or.inl (DBi_at _ q)
  · exact Or.inr ⟨hb, c.le + j, by omega, by omega, ho, q⟩
end DVF
/-- a proof along a best plan -/
theorem Dv_ind {c : Cf} {A E : Nat → Bool} (hc : CfOK c) (P : Nat → Nat → Nat → Nat × Nat → Prop)
    (h0 : ∀ b u, E u = true → P c.st b u (0, 0))
    (h1 : ∀ s b u p, c.fr s = true → Dv c A E (c.bf s) 6 u = some p → P (c.bf s) 6 u p → P s b u p)
    (h2 : ∀ s b u i p, s < c.st → c.fr s = false → i < c.mn → okI c A s b u i = true → Dv c A E (s + c.wd i) i (u ||| 2 ^ i) = some p → P (s + c.wd i) i (u ||| 2 ^ i) p → P s b u (p.1 + (c.wo i + nbW c b i), p.2 + c.ce i))
    (h3 : ∀ s b u n p, s < c.st → c.fr s = false → b ≠ 7 → c.le ≤ n → n ≤ c.mo → opn c s n = true → Dv c A E (s + n) 7 u = some p → P (s + n) 7 u p → P s b u p) :
    ∀ (m s b u : Nat) (p : Nat × Nat), s ≤ c.st → c.st < s + m → Dv c A E s b u = some p → P s b u p
  | 0, s, b, u, p, hs, hm, h => by omega
  | m + 1, s, b, u, p, hs, hm, h => by
    have ih := Dv_ind hc P h0 h1 h2 h3 m
    by_cases he : s = c.st
    · subst he
      rw [Dv_end hc] at h
      by_cases hE : E u = true
      · rw [if_pos hE] at h; cases h; exact h0 b u hE
      · rw [if_neg hE] at h; cases h
    · cases hf : c.fr s with
      | true =>
        rw [Dv_free hc hf] at h
        have := bf_lt hc hf
        exact h1 s b u p hf h (ih _ _ _ _ (bf_le hc hs).2 (by omega) h)
      | false =>
        rcases Dv_at hc (by omega) hf h with ⟨i, hi, hk, q⟩ | ⟨hb, n, hn1, hn2, ho, q⟩
        · obtain ⟨x, hx, e⟩ := kadd_some q
          have a1 := opn_le (okI_s hk).2.2.1
          have a2 := (hc.2.2.2.2.2.1 i hi).1
          rw [e]
          exact h2 s b u i x (by omega) hf hi hk hx (ih _ _ _ _ a1 (by omega) hx)
        · have a1 := opn_le ho
          have a2 := hc.2.2.2.2.2.2.2.2.2.2.1.1
          exact h3 s b u n p (by omega) hf hb hn1 hn2 ho q (ih _ _ _ _ a1 (by omega) q)
/-- what is chosen first -/
def fI (c : Cf) (A : Nat → Bool) (D : Nat → Nat → Nat → Kv) (s b u : Nat) : Option Nat := (List.range c.mn).find? (fun i => okI c A s b u i && decide (kadd (D (s + c.wd i) i (u ||| 2 ^ i)) (c.wo i + nbW c b i) (c.ce i) = D s b u))
def fF (c : Cf) (D : Nat → Nat → Nat → Kv) (s b u : Nat) : Option Nat := (List.range (c.mo + 1 - c.le)).find? (fun j => !decide (b = 7) && opn c s (c.le + j) && decide (D (s + (c.le + j)) 7 u = D s b u))
/-- the walk: pieces by code and begin, and the set at its end -/
def wk (c : Cf) (A E : Nat → Bool) : Nat → Nat → Nat → Nat → List (Nat × Nat) × Nat
  | 0, _, _, u => ([], u)
  | m + 1, s, b, u => if s = c.st then ([], u) else if c.fr s then wk c A E m (c.bf s) 6 u else
    match fI c A (Dv c A E) s b u with
    | some i => ((i, s) :: (wk c A E m (s + c.wd i) i (u ||| 2 ^ i)).1, (wk c A E m (s + c.wd i) i (u ||| 2 ^ i)).2)
    | none => match fF c (Dv c A E) s b u with
      | some j => ((100 + (c.le + j), s) :: (wk c A E m (s + (c.le + j)) 7 u).1, (wk c A E m (s + (c.le + j)) 7 u).2)
      | none => ([], u)
theorem fI_some {c : Cf} {A : Nat → Bool} {D : Nat → Nat → Nat → Kv} {s b u i : Nat} : fI c A D s b u = some i ↔ (i < c.mn ∧ okI c A s b u i = true ∧ kadd (D (s + c.wd i) i (u ||| 2 ^ i)) (c.wo i + nbW c b i) (c.ce i) = D s b u) ∧ ∀ j, j < i → ¬ (okI c A s b u j = true ∧ kadd (D (s + c.wd j) j (u ||| 2 ^ j)) (c.wo j + nbW c b j) (c.ce j) = D s b u) := by
  unfold fI
  rw [List.find?_range_eq_some]
  simp only [Bool.and_eq_true, decide_eq_true_eq, List.mem_range, Bool.not_eq_true', Bool.and_eq_false_iff, decide_eq_false_iff_not]
  constructor
  · rintro ⟨⟨h1, h2⟩, h3, h4⟩
    exact ⟨⟨h3, h1, h2⟩, fun j hj q => (h4 j hj).elim (fun r => by rw [q.1] at r; cases r) (fun r => r q.2)⟩
  · rintro ⟨⟨h3, h1, h2⟩, h4⟩
    refine ⟨⟨h1, h2⟩, h3, fun j hj => ?_⟩
    cases hk : okI c A s b u j with
    | false => exact Or.inl rfl
    | true => exact Or.inr fun q => h4 j hj ⟨hk, q⟩
theorem fI_none {c : Cf} {A : Nat → Bool} {D : Nat → Nat → Nat → Kv} {s b u : Nat} : fI c A D s b u = none ↔ ∀ j, j < c.mn → ¬ (okI c A s b u j = true ∧ kadd (D (s + c.wd j) j (u ||| 2 ^ j)) (c.wo j + nbW c b j) (c.ce j) = D s b u) := by
  unfold fI
  rw [List.find?_eq_none]
  simp only [Bool.and_eq_true, decide_eq_true_eq, List.mem_range]
theorem fF_some {c : Cf} {D : Nat → Nat → Nat → Kv} {s b u j : Nat} : fF c D s b u = some j ↔ (j < c.mo + 1 - c.le ∧ b ≠ 7 ∧ opn c s (c.le + j) = true ∧ D (s + (c.le + j)) 7 u = D s b u) ∧ ∀ j', j' < j → ¬ (b ≠ 7 ∧ opn c s (c.le + j') = true ∧ D (s + (c.le + j')) 7 u = D s b u) := by
  unfold fF
  rw [List.find?_range_eq_some]
  simp only [Bool.and_eq_true, decide_eq_true_eq, List.mem_range, Bool.not_eq_true', Bool.and_eq_false_iff, decide_eq_false_iff_not, Bool.not_eq_false']
  constructor
  · rintro ⟨⟨⟨h0, h1⟩, h2⟩, h3, h4⟩
    refine ⟨⟨h3, h0, h1, h2⟩, fun j' hj q => ?_⟩
    rcases h4 j' hj with (r | r) | r
    · exact q.1 r
    · rw [q.2.1] at r; cases r
    · exact r q.2.2
  · rintro ⟨⟨h3, h0, h1, h2⟩, h4⟩
    refine ⟨⟨⟨h0, h1⟩, h2⟩, h3, fun j' hj => ?_⟩
    cases hk : opn c s (c.le + j') with
    | false => exact Or.inl (Or.inr rfl)
    | true => exact Or.inr fun q => h4 j' hj ⟨h0, hk, q⟩
theorem fF_none {c : Cf} {D : Nat → Nat → Nat → Kv} {s b u : Nat} : fF c D s b u = none ↔ ∀ j, j < c.mo + 1 - c.le → ¬ (b ≠ 7 ∧ opn c s (c.le + j) = true ∧ D (s + (c.le + j)) 7 u = D s b u) := by
  unfold fF
  rw [List.find?_eq_none]
  simp only [Bool.and_eq_true, decide_eq_true_eq, List.mem_range, Bool.not_eq_true', decide_eq_false_iff_not, and_assoc, ne_eq]
/-! the plan of all sets against the plan of one -/
abbrev Tt : Nat → Bool := fun _ => true
abbrev Eq' (S : Nat) : Nat → Bool := fun v => decide (v = S)
theorem okI_top {c : Cf} {A : Nat → Bool} {s b u i : Nat} (h : okI c A s b u i = true) : okI c Tt s b u i = true := by
  simp only [okI, Bool.and_eq_true] at h ⊢
  exact ⟨⟨⟨⟨trivial, h.1.1.1.2⟩, h.1.1.2⟩, h.1.2⟩, h.2⟩
theorem okI_of {c : Cf} {A : Nat → Bool} {s b u i : Nat} (h : okI c Tt s b u i = true) (hA : A i = true) : okI c A s b u i = true := by
  simp only [okI, Bool.and_eq_true] at h ⊢
  exact ⟨⟨⟨⟨hA, h.1.1.1.2⟩, h.1.1.2⟩, h.1.2⟩, h.2⟩
theorem Dv_mono {c : Cf} {A E E' : Nat → Bool} (hc : CfOK c) (hE : ∀ u, E' u = true → E u = true) {s b u : Nat} (hs : s ≤ c.st) : kle (Dv c A E' s b u) (Dv c Tt E s b u) := fun p h => by
  refine Dv_ind (A := A) (E := E') hc (fun s b u p => ∃ q, Dv c Tt E s b u = some q ∧ (p.1 < q.1 ∨ (p.1 = q.1 ∧ q.2 ≤ p.2))) ?_ ?_ ?_ ?_ (c.st + 1) s b u p hs (by omega) h
  · intro b u hu
    exact ⟨(0, 0), by rw [Dv_end hc, if_pos (hE u hu)], by simp⟩
  · intro s b u p hf _ ih
    rw [Dv_free hc hf]; exact ih
  · intro s b u i p h1 h2 h3 h4 _ ⟨q, hq, e⟩
    obtain ⟨r, hr, e2⟩ := Dv_item (E := E) hc h1 h2 h3 (okI_top h4) (q.1 + (c.wo i + nbW c b i), q.2 + c.ce i) (by rw [hq]; rfl)
    exact ⟨r, hr, by simp only at e2 ⊢; omega⟩
  · intro s b u n p h1 h2 h3 h4 h5 h6 _ ⟨q, hq, e⟩
    obtain ⟨r, hr, e2⟩ := Dv_fill (E := E) (A := Tt) hc h1 h2 h3 h4 h5 h6 q hq
    exact ⟨r, hr, by omega⟩
theorem Dv_monoS {c : Cf} {E : Nat → Bool} (hc : CfOK c) {S : Nat} (hE : E S = true) {s b u : Nat} (hs : s ≤ c.st) : kle (DvS c S s b u) (Dv c Tt E s b u) := Dv_mono hc (fun v hv => by rw [of_decide_eq_true hv]; exact hE) hs
theorem or_subL {S u i : Nat} (h : SubS S (u ||| 2 ^ i)) : SubS S u := fun j hj => h j (by rw [Nat.testBit_or, hj]; rfl)
theorem DvS_sub {c : Cf} (hc : CfOK c) {S s b u : Nat} (hs : s ≤ c.st) {p : Nat × Nat} (h : DvS c S s b u = some p) : SubS S u := by
  refine Dv_ind (A := S.testBit) (E := Eq' S) hc (fun s b u p => SubS S u) ?_ ?_ ?_ ?_ (c.st + 1) s b u p hs (by omega) h
  · intro b u hu
    rw [of_decide_eq_true hu]; exact fun j hj => hj
  · intro s b u p _ _ ih; exact ih
  · intro s b u i p _ _ _ _ _ ih; exact or_subL ih
  · intro s b u n p _ _ _ _ _ _ _ ih; exact ih
section OPT
variable {c : Cf} {E : Nat → Bool} {S s b u : Nat} {p : Nat × Nat}
theorem optL (hc : CfOK c) (hE : E S = true) (hs : s < c.st) (hf : c.fr s = false) (h1 : DvS c S s b u = some p) (h2 : Dv c Tt E s b u = some p) {i : Nat} (hi : i < c.mn)
    (h : okI c S.testBit s b u i = true ∧ kadd (DvS c S (s + c.wd i) i (u ||| 2 ^ i)) (c.wo i + nbW c b i) (c.ce i) = DvS c S s b u) : okI c Tt s b u i = true ∧ kadd (Dv c Tt E (s + c.wd i) i (u ||| 2 ^ i)) (c.wo i + nbW c b i) (c.ce i) = Dv c Tt E s b u := by
  have hk := okI_top h.1
  refine ⟨hk, kle_anti (Dv_item hc hs hf hi hk) ?_⟩
  rw [h2, ← h1, ← h.2]
  exact kadd_mono (Dv_monoS hc hE (opn_le (okI_s hk).2.2.1))
theorem optF (hc : CfOK c) (hE : E S = true) (hs : s < c.st) (hf : c.fr s = false) (h1 : DvS c S s b u = some p) (h2 : Dv c Tt E s b u = some p) {n : Nat} (hn1 : c.le ≤ n) (hn2 : n ≤ c.mo)
    (h : b ≠ 7 ∧ opn c s n = true ∧ DvS c S (s + n) 7 u = DvS c S s b u) : b ≠ 7 ∧ opn c s n = true ∧ Dv c Tt E (s + n) 7 u = Dv c Tt E s b u := by
  refine ⟨h.1, h.2.1, kle_anti (Dv_fill hc hs hf h.1 hn1 hn2 h.2.1) ?_⟩
  rw [h2, ← h1, ← h.2.2]
  exact Dv_monoS hc hE (opn_le h.2.1)
end OPT
theorem wk_end {c : Cf} {A E : Nat → Bool} {m b u : Nat} : wk c A E m c.st b u = ([], u) := by
  cases m with
  | zero => rfl
  | succ m => simp [wk]
theorem wk_free {c : Cf} {A E : Nat → Bool} {m s b u : Nat} (hs : s ≠ c.st) (hf : c.fr s = true) : wk c A E (m + 1) s b u = wk c A E m (c.bf s) 6 u := by
  simp only [wk]
  rw [if_neg hs, if_pos hf]
theorem wk_I {c : Cf} {A E : Nat → Bool} {m s b u i : Nat} (hs : s ≠ c.st) (hf : c.fr s = false) (h : fI c A (Dv c A E) s b u = some i) : wk c A E (m + 1) s b u = ((i, s) :: (wk c A E m (s + c.wd i) i (u ||| 2 ^ i)).1, (wk c A E m (s + c.wd i) i (u ||| 2 ^ i)).2) := by
  simp only [wk]
  rw [if_neg hs, if_neg (by rw [hf]; decide), h]
theorem wk_F {c : Cf} {A E : Nat → Bool} {m s b u j : Nat} (hs : s ≠ c.st) (hf : c.fr s = false) (h : fI c A (Dv c A E) s b u = none) (h2 : fF c (Dv c A E) s b u = some j) : wk c A E (m + 1) s b u = ((100 + (c.le + j), s) :: (wk c A E m (s + (c.le + j)) 7 u).1, (wk c A E m (s + (c.le + j)) 7 u).2) := by
  simp only [wk]
  rw [if_neg hs, if_neg (by rw [hf]; decide), h, h2]
/-- one of the two is there -/
theorem pick {c : Cf} {A E : Nat → Bool} (hc : CfOK c) {s b u : Nat} {p : Nat × Nat} (hs : s < c.st) (hf : c.fr s = false) (h : Dv c A E s b u = some p) : (∃ i, fI c A (Dv c A E) s b u = some i) ∨ (fI c A (Dv c A E) s b u = none ∧ ∃ j, fF c (Dv c A E) s b u = some j) := by
  cases h1 : fI c A (Dv c A E) s b u with
  | some i => exact Or.inl ⟨i, rfl⟩
  | none =>
    refine Or.inr ⟨rfl, ?_⟩
    cases h2 : fF c (Dv c A E) s b u with
    | some j => exact ⟨j, rfl⟩
    | none =>
      exfalso
      rcases Dv_at hc hs hf h with ⟨i, hi, hk, q⟩ | ⟨hb, n, q1, q2, ho, q⟩
      · exact fI_none.mp h1 i hi ⟨hk, by rw [q, h]⟩
      · exact fF_none.mp h2 (n - c.le) (by omega) ⟨hb, by rw [show c.le + (n - c.le) = n by omega]; exact ho, by rw [show c.le + (n - c.le) = n by omega, q, h]⟩
theorem opt_b {c : Cf} {E : Nat → Bool} (hc : CfOK c) : ∀ (m s b u : Nat) (p : Nat × Nat), s ≤ c.st → c.st < s + m → Dv c Tt E s b u = some p →
    E (wk c Tt E m s b u).2 = true ∧ SubS (wk c Tt E m s b u).2 u ∧ DvS c (wk c Tt E m s b u).2 s b u = some p ∧ wk c (wk c Tt E m s b u).2.testBit (Eq' (wk c Tt E m s b u).2) m s b u = wk c Tt E m s b u
  | 0, s, b, u, p, hs, hm, h => by omega
  | m + 1, s, b, u, p, hs, hm, h => by
    have ih := opt_b (E := E) hc m
    by_cases he : s = c.st
    · subst he
      rw [Dv_end hc] at h
      simp only [wk_end]
      by_cases hE : E u = true
      · rw [if_pos hE] at h
        refine ⟨hE, fun j hj => hj, ?_, trivial⟩
        rw [← h]
        show Dv c _ _ _ _ _ = _
        rw [Dv_end hc]; simp
      · rw [if_neg hE] at h; cases h
    · have hs' : s < c.st := by omega
      cases hf : c.fr s with
      | true =>
        rw [Dv_free hc hf] at h
        have := bf_lt hc hf
        obtain ⟨h1, h2, h3, h4⟩ := ih _ _ _ _ (bf_le hc hs).2 (by omega) h
        rw [wk_free he hf]
        refine ⟨h1, h2, ?_, ?_⟩
        · show Dv c _ _ _ _ _ = _
          rw [Dv_free hc hf]; exact h3
        · rw [wk_free he hf]; exact h4
      | false =>
        rcases pick hc hs' hf h with ⟨i, hI⟩ | ⟨hI, j, hF⟩
        · obtain ⟨⟨hi, hk, hv⟩, hmin⟩ := fI_some.mp hI
          rw [h] at hv
          obtain ⟨x, hx, e⟩ := kadd_some hv
          have a1 := opn_le (okI_s hk).2.2.1
          have a2 := (hc.2.2.2.2.2.1 i hi).1
          obtain ⟨h1, h2, h3, h4⟩ := ih _ _ _ _ a1 (by omega) hx
          rw [wk_I he hf hI]
          generalize hS : (wk c Tt E m (s + c.wd i) i (u ||| 2 ^ i)).2 = S at h1 h2 h3 h4
          try dsimp only
          have hkS : okI c S.testBit s b u i = true := okI_of hk (h2 i (or_has u i))
          have hD : DvS c S s b u = some p := by
            rw [← h]
            refine kle_anti (Dv_monoS hc h1 hs) ?_
            rw [h]
            have := Dv_item (E := Eq' S) hc hs' hf hi hkS
            rwa [show Dv c S.testBit (Eq' S) (s + c.wd i) i (u ||| 2 ^ i) = some x from h3, show kadd (some x) (c.wo i + nbW c b i) (c.ce i) = some p from by rw [e]; rfl] at this
          have hIS : fI c S.testBit (Dv c S.testBit (Eq' S)) s b u = some i := fI_some.mpr ⟨⟨hi, hkS, by
            rw [show Dv c S.testBit (Eq' S) (s + c.wd i) i (u ||| 2 ^ i) = some x from h3, show Dv c S.testBit (Eq' S) s b u = some p from hD, e]; rfl⟩, fun j hj q => hmin j hj (optL hc h1 hs' hf hD h (by omega) q)⟩
          refine ⟨h1, or_subL h2, hD, ?_⟩
          rw [wk_I he hf hIS, h4, hS]
        · obtain ⟨⟨hj, hb, ho, hv⟩, hmin⟩ := fF_some.mp hF
          rw [h] at hv
          have a1 := opn_le ho
          have a2 := hc.2.2.2.2.2.2.2.2.2.2.1.1
          obtain ⟨h1, h2, h3, h4⟩ := ih _ _ _ _ a1 (by omega) hv
          rw [wk_F he hf hI hF]
          generalize hS : (wk c Tt E m (s + (c.le + j)) 7 u).2 = S at h1 h2 h3 h4
          try dsimp only
          have hD : DvS c S s b u = some p := by
            rw [← h]
            refine kle_anti (Dv_monoS hc h1 hs) ?_
            rw [h, ← h3]
            exact Dv_fill hc hs' hf hb (by omega) (by omega) ho
          have hIS : fI c S.testBit (Dv c S.testBit (Eq' S)) s b u = none := fI_none.mpr fun i hi q => fI_none.mp hI i hi (optL hc h1 hs' hf hD h hi q)
          have hFS : fF c (Dv c S.testBit (Eq' S)) s b u = some j := fF_some.mpr ⟨⟨hj, hb, ho, by
            rw [show Dv c S.testBit (Eq' S) (s + (c.le + j)) 7 u = some p from h3, show Dv c S.testBit (Eq' S) s b u = some p from hD]⟩, fun j' hj' q => hmin j' hj' (optF hc h1 hs' hf hD h (by omega) (by omega) q)⟩
          refine ⟨h1, h2, hD, ?_⟩
          rw [wk_F he hf hIS hFS, h4, hS]
theorem opt_c {c : Cf} {E : Nat → Bool} (hc : CfOK c) {S : Nat} (hE : E S = true) : ∀ (m s b u : Nat) (p : Nat × Nat), s ≤ c.st → c.st < s + m → Dv c Tt E s b u = some p → DvS c S s b u = some p → S ≠ (wk c Tt E m s b u).2 →
    lexB ((wk c Tt E m s b u).1.map Prod.fst) ((wk c S.testBit (Eq' S) m s b u).1.map Prod.fst) = true
  | 0, s, b, u, p, hs, hm, h, h', hne => by omega
  | m + 1, s, b, u, p, hs, hm, h, h', hne => by
    have ih := opt_c hc hE m
    by_cases he : s = c.st
    · subst he
      exfalso
      apply hne
      rw [wk_end]
      rw [show DvS c S c.st b u = Dv c S.testBit (Eq' S) c.st b u from rfl, Dv_end hc] at h'
      split at h'
      · next q => exact (of_decide_eq_true q).symm
      · cases h'
    · have hs' : s < c.st := by omega
      cases hf : c.fr s with
      | true =>
        have := bf_lt hc hf
        rw [wk_free he hf] at hne
        rw [wk_free he hf, wk_free he hf]
        rw [show DvS c S s b u = Dv c S.testBit (Eq' S) s b u from rfl] at h'
        rw [Dv_free hc hf] at h h'
        exact ih _ _ _ _ (bf_le hc hs).2 (by omega) h h' hne
      | false =>
        rcases pick hc hs' hf h' with ⟨i, hI⟩ | ⟨hI, j, hF⟩
        · obtain ⟨⟨hi, hk, hv⟩, hmin⟩ := fI_some.mp hI
          have hT := optL hc hE hs' hf h' h hi ⟨hk, hv⟩
          rcases pick hc hs' hf h with ⟨i', hI'⟩ | ⟨hI', -⟩
          · obtain ⟨⟨hi', hk', hv'⟩, hmin'⟩ := fI_some.mp hI'
            rw [wk_I he hf hI'] at hne
            rw [wk_I he hf hI', wk_I he hf hI]
            have hle : i' ≤ i := Nat.le_of_not_lt fun q => hmin' i q hT
            by_cases hii : i' = i
            · subst hii
              simp only [List.map_cons, lexB, if_true]
              rw [show Dv c S.testBit (fun v => decide (v = S)) s b u = some p from h'] at hv
              rw [h] at hv'
              obtain ⟨x, hx, e⟩ := kadd_some hv
              obtain ⟨y, hy, e'⟩ := kadd_some hv'
              have : x = y := by
                rw [e] at e'
                have e1 := congrArg Prod.fst e'
                have e2 := congrArg Prod.snd e'
                simp only at e1 e2
                exact Prod.ext (by omega) (by omega)
              subst this
              have a1 := opn_le (okI_s hk).2.2.1
              have a2 := (hc.2.2.2.2.2.1 i' hi).1
              exact ih _ _ _ _ a1 (by omega) hy hx hne
            · simp only [List.map_cons, lexB, if_neg hii]
              exact decide_eq_true (by omega)
          · exact absurd hT (fI_none.mp hI' i hi)
        · obtain ⟨⟨hj, hb, ho, hv⟩, hmin⟩ := fF_some.mp hF
          have hT := optF hc hE hs' hf h' h (show c.le ≤ c.le + j by omega) (by omega) ⟨hb, ho, hv⟩
          rcases pick hc hs' hf h with ⟨i', hI'⟩ | ⟨hI', j', hF'⟩
          · have hi' := (fI_some.mp hI').1.1
            have := hc.2.2.2.2.1
            rw [wk_I he hf hI', wk_F he hf hI hF]
            simp only [List.map_cons, lexB]
            rw [if_neg (by omega)]
            exact decide_eq_true (by omega)
          · obtain ⟨⟨hj', hb', ho', hv'⟩, hmin'⟩ := fF_some.mp hF'
            rw [wk_F he hf hI' hF'] at hne
            rw [wk_F he hf hI' hF', wk_F he hf hI hF]
            have hle : j' ≤ j := Nat.le_of_not_lt fun q => hmin' j q hT
            by_cases hjj : j' = j
            · subst hjj
              simp only [List.map_cons, lexB, if_true]
              have a1 := opn_le ho
              have a2 := hc.2.2.2.2.2.2.2.2.2.2.1.1
              exact ih _ _ _ _ a1 (by omega) (hv'.trans h) (hv.trans h') hne
            · simp only [List.map_cons, lexB]
              rw [if_neg (by omega)]
              exact decide_eq_true (by omega)
/-- the set of the best plan beats every other that may be -/
theorem opt_best {c : Cf} {E : Nat → Bool} (hc : CfOK c) {S : Nat} (hE : E S = true) {p q : Nat × Nat} (h : Dv c Tt E 0 6 0 = some q) (h' : DvS c S 0 6 0 = some p) (hne : S ≠ (wk c Tt E (c.st + 1) 0 6 0).2) :
    betB q.1 q.2 ((wk c Tt E (c.st + 1) 0 6 0).1.map Prod.fst) p.1 p.2 ((wk c S.testBit (Eq' S) (c.st + 1) 0 6 0).1.map Prod.fst) = true := by
  obtain ⟨r, hr, e⟩ := Dv_monoS hc hE (Nat.zero_le _) p h'
  rw [h] at hr
  cases hr
  unfold betB
  by_cases h1 : q.1 = p.1
  · rw [if_pos h1]
    by_cases h2 : q.2 = p.2
    · rw [if_pos h2]
      exact opt_c hc hE (c.st + 1) 0 6 0 q (by omega) (by omega) h (by rw [h', Prod.ext h1 h2]) hne
    · rw [if_neg h2]
      exact decide_eq_true (by omega)
  · rw [if_neg h1]
    exact decide_eq_true (by omega)
theorem opt_none {c : Cf} {E : Nat → Bool} (hc : CfOK c) {S : Nat} (hE : E S = true) (h : Dv c Tt E 0 6 0 = none) : DvS c S 0 6 0 = none := by
  cases hp : DvS c S 0 6 0 with
  | none => rfl
  | some p =>
    obtain ⟨r, hr, e⟩ := Dv_monoS hc hE (Nat.zero_le _) p hp
    rw [h] at hr; cases hr
theorem lexB_asym : ∀ l r : List Nat, lexB l r = true → lexB r l = false
  | [], r, h => by cases r <;> simp [lexB] at h
  | x :: l, [], h => by simp [lexB] at h
  | x :: l, y :: r, h => by
    simp only [lexB] at h ⊢
    by_cases e : x = y
    · subst e
      rw [if_pos rfl] at h ⊢
      exact lexB_asym l r h
    · rw [if_neg e] at h
      rw [if_neg (by omega)]
      have := of_decide_eq_true h
      exact decide_eq_false (by omega)
theorem betB_asym {w1 c1 w2 c2 : Nat} {l1 l2 : List Nat} (h : betB w1 c1 l1 w2 c2 l2 = true) : betB w2 c2 l2 w1 c1 l1 = false := by
  unfold betB at h ⊢
  by_cases e1 : w1 = w2
  · subst e1
    rw [if_pos rfl] at h ⊢
    by_cases e2 : c1 = c2
    · subst e2
      rw [if_pos rfl] at h ⊢
      exact lexB_asym _ _ h
    · rw [if_neg e2] at h
      rw [if_neg (by omega)]
      have := of_decide_eq_true h
      exact decide_eq_false (by omega)
  · rw [if_neg e1] at h
    rw [if_neg (by omega)]
    have := of_decide_eq_true h
    exact decide_eq_false (by omega)
theorem betB_w {w1 c1 w2 c2 : Nat} {l1 l2 : List Nat} (h : betB w1 c1 l1 w2 c2 l2 = true) : w2 ≤ w1 := by
  unfold betB at h
  split at h
  · omega
  · exact Nat.le_of_lt (of_decide_eq_true h)
