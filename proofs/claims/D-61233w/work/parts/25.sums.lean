/-! ===== sums over items: cents, an upper bound of the worth, room ===== -/
def sm (f : Nat → Nat) : Nat → Nat
  | 0 => 0
  | i + 1 => sm f i + f i
theorem sm_le {f g : Nat → Nat} : ∀ m, (∀ k, k < m → f k ≤ g k) → sm f m ≤ sm g m
  | 0, _ => Nat.le_refl _
  | m + 1, h => by
    have := sm_le m (fun k hk => h k (by omega))
    have := h m (by omega)
    simp only [sm]; omega
theorem sm_ext {f g : Nat → Nat} (m : Nat) (h : ∀ k, k < m → f k = g k) : sm f m = sm g m :=
  Nat.le_antisymm (sm_le m fun k hk => by rw [h k hk]; exact Nat.le_refl _) (sm_le m fun k hk => by rw [h k hk]; exact Nat.le_refl _)
theorem sm_add (f g : Nat → Nat) : ∀ m, sm (fun k => f k + g k) m = sm f m + sm g m
  | 0 => rfl
  | m + 1 => by simp only [sm]; rw [sm_add f g m]; omega
theorem sm_zero : ∀ m, sm (fun _ => 0) m = 0
  | 0 => rfl
  | m + 1 => by simp only [sm]; rw [sm_zero m]
theorem sm_one (x i : Nat) : ∀ m, sm (fun k => if k = i then x else 0) m = if i < m then x else 0
  | 0 => by rw [if_neg (by omega)]; rfl
  | m + 1 => by
    simp only [sm]
    rw [sm_one x i m]
    by_cases h : m = i
    · subst h; rw [if_neg (by omega), if_pos rfl, if_pos (by omega)]; omega
    · rw [if_neg h]
      by_cases h2 : i < m
      · rw [if_pos h2, if_pos (by omega)]; rfl
      · rw [if_neg h2, if_neg (by omega)]
theorem sm_bnd {f : Nat → Nat} {B : Nat} : ∀ m, (∀ k, k < m → f k ≤ B) → sm f m ≤ B * m
  | 0, _ => Nat.le_refl _
  | m + 1, h => by
    have := sm_bnd m (fun k hk => h k (by omega))
    have := h m (by omega)
    simp only [sm]
    rw [Nat.mul_succ]; omega
/-- the sum over a set's items -/
def ssm (u : Nat) (f : Nat → Nat) (m : Nat) : Nat := sm (fun k => if u.testBit k then f k else 0) m
theorem or_bit (u i k : Nat) : (u ||| 2 ^ i).testBit k = (u.testBit k || decide (i = k)) := by rw [Nat.testBit_or, Nat.testBit_two_pow]
theorem ssm_or {u i m : Nat} {f : Nat → Nat} (hi : i < m) (hu : u.testBit i = false) : ssm (u ||| 2 ^ i) f m = ssm u f m + f i := by
  have h1 := sm_one (f i) i m
  rw [if_pos hi] at h1
  rw [← h1]
  unfold ssm
  rw [← sm_add]
  refine sm_ext m fun k hk => ?_
  rw [or_bit]
  by_cases e : k = i
  · subst e; rw [hu]; simp
  · have : decide (i = k) = false := decide_eq_false (by omega)
    rw [this, Bool.or_false, if_neg e]; omega
theorem ssm_zero (f : Nat → Nat) (m : Nat) : ssm 0 f m = 0 := by
  unfold ssm
  exact (sm_ext m fun k _ => by rw [Nat.zero_testBit]; rfl : _ = sm (fun _ => 0) m).trans (sm_zero m)
theorem ssm_mono {u v m : Nat} {f : Nat → Nat} (h : ∀ k, u.testBit k = true → v.testBit k = true) : ssm u f m ≤ ssm v f m := by
  refine sm_le m fun k _ => ?_
  by_cases hk : u.testBit k = true
  · rw [if_pos hk, if_pos (h k hk)]; exact Nat.le_refl _
  · rw [if_neg hk]; exact Nat.zero_le _
theorem ssm_one {u m b : Nat} {f : Nat → Nat} (hb : b < m) (hu : u.testBit b = true) : f b ≤ ssm u f m := by
  have h1 := sm_one (f b) b m
  rw [if_pos hb] at h1
  rw [← h1]
  refine sm_le m fun k _ => ?_
  by_cases e : k = b
  · subst e; rw [if_pos rfl, if_pos hu]; exact Nat.le_refl _
  · rw [if_neg e]; exact Nat.zero_le _
def amt (c : Cf) (u i : Nat) : Nat := c.wo i + ssm u (c.nr i) i
def am (c : Cf) (u : Nat) : Nat := ssm u (amt c u) c.mn
theorem am_or {c : Cf} (hc : CfOK c) {u i b : Nat} (hi : i < c.mn) (hu : u.testBit i = false) (hb : b < 6 → u.testBit b = true ∧ b < c.mn) : am c u + (c.wo i + nbW c b i) ≤ am c (u ||| 2 ^ i) := by
  have hnr := hc.2.2.2.2.2.2.2.2.1
  have hsub : ∀ k, u.testBit k = true → (u ||| 2 ^ i).testBit k = true := fun k hk => by rw [or_bit, hk]; rfl
  -- what each place gains
  have key : ∀ δ : Nat → Nat, (∀ k, k < c.mn → (if u.testBit k then amt c u k else 0) + δ k ≤ (if (u ||| 2 ^ i).testBit k then amt c (u ||| 2 ^ i) k else 0)) → am c u + sm δ c.mn ≤ am c (u ||| 2 ^ i) := fun δ h => by
    unfold am ssm
    rw [← sm_add]
    exact sm_le _ h
  have amono : ∀ k, amt c u k ≤ amt c (u ||| 2 ^ i) k := fun k => Nat.add_le_add_left (ssm_mono hsub) _
  by_cases hb6 : b < 6
  · obtain ⟨hb1, hb2⟩ := hb hb6
    have hbi : b ≠ i := fun e => by rw [e, hu] at hb1; cases hb1
    rw [show nbW c b i = c.nr b i from if_pos hb6]
    have := key (fun k => (if k = i then c.wo i + (if b < i then c.nr b i else 0) else 0) + (if k = b then (if b < i then 0 else c.nr b i) else 0)) (fun k hk => by
      by_cases e : k = i
      · subst e
        rw [hu, or_bit, hu]
        simp only [if_neg (Ne.symm hbi)]
        simp only [Bool.false_or, decide_true, if_true]
        by_cases hlt : b < k
        · rw [if_pos hlt]
          have := ssm_one (f := c.nr k) hlt (hsub b hb1)
          have e2 := (hnr k b).2
          unfold amt
          simp; omega
        · rw [if_neg hlt]; unfold amt; simp
      · by_cases e2 : k = b
        · subst e2
          rw [if_pos hb1, if_pos (hsub k hb1)]
          simp only [if_neg hbi]
          by_cases hlt : k < i
          · rw [if_pos trivial, if_pos hlt]; have := amono k; omega
          · rw [if_pos trivial, if_neg hlt]
            have e3 := hnr k i
            unfold amt
            rw [ssm_or (by omega) hu]; omega
        · simp only [if_neg e, if_neg e2]
          by_cases hk2 : u.testBit k = true
          · rw [if_pos hk2, if_pos (hsub k hk2)]; exact amono k
          · rw [if_neg hk2]; simp)
    rw [sm_add, sm_one, sm_one, if_pos hi, if_pos hb2] at this
    split at this <;> omega
  · rw [show nbW c b i = 0 from if_neg hb6]
    have := key (fun k => if k = i then c.wo i else 0) (fun k hk => by
      by_cases e : k = i
      · subst e
        rw [hu, or_bit, hu]
        unfold amt
        simp
      · simp only [if_neg e]
        by_cases hk2 : u.testBit k = true
        · rw [if_pos hk2, if_pos (hsub k hk2)]; exact amono k
        · rw [if_neg hk2]; simp)
    rw [sm_one, if_pos hi] at this
    omega
/-- steps from s on that are not free -/
def nf (c : Cf) (s : Nat) : Nat := sm (fun j => if s ≤ j ∧ c.fr j = false then 1 else 0) c.st
theorem nf_anti {c : Cf} {s s' : Nat} (h : s ≤ s') : nf c s' ≤ nf c s := by
  refine sm_le _ fun k _ => ?_
  by_cases q : s' ≤ k ∧ c.fr k = false
  · rw [if_pos q, if_pos ⟨by omega, q.2⟩]; exact Nat.le_refl _
  · rw [if_neg q]; exact Nat.zero_le _
theorem nf_step {c : Cf} {s : Nat} (hs : s < c.st) (hf : c.fr s = false) : nf c (s + 1) + 1 ≤ nf c s := by
  have h1 := sm_one 1 s c.st
  rw [if_pos hs] at h1
  unfold nf
  conv => lhs; rhs; rw [← h1]
  rw [← sm_add]
  refine sm_le _ fun k _ => ?_
  by_cases e : k = s
  · subst e; rw [if_neg (by omega), if_pos rfl, if_pos ⟨Nat.le_refl _, hf⟩]; exact Nat.le_refl _
  · rw [if_neg e]
    by_cases q : s + 1 ≤ k ∧ c.fr k = false
    · rw [if_pos q, if_pos ⟨by omega, q.2⟩]; exact Nat.le_refl _
    · rw [if_neg q]; exact Nat.zero_le _
theorem opn_fr {c : Cf} {s w j : Nat} (h : opn c s w = true) (hj : j < w) : c.fr (s + j) = false := by
  simp only [opn, Bool.and_eq_true, decide_eq_true_eq, List.all_eq_true, List.mem_range, Bool.not_eq_true'] at h
  exact h.2 j hj
theorem nf_opn {c : Cf} {s : Nat} : ∀ w, opn c s w = true → nf c (s + w) + w ≤ nf c s
  | 0, _ => Nat.le_refl _
  | w + 1, h => by
    have h0 := opn_le h
    have h1 := opn_fr h (Nat.lt_succ_self w)
    have h2 : opn c s w = true := by
      simp only [opn, Bool.and_eq_true, decide_eq_true_eq, List.all_eq_true, List.mem_range, Bool.not_eq_true'] at h ⊢
      exact ⟨by omega, fun j hj => h.2 j (by omega)⟩
    have := nf_opn w h2
    have := nf_step (by omega) h1
    rw [show s + (w + 1) = s + w + 1 by omega]
    omega
section BNDS
variable {c : Cf} {S : Nat}
theorem bits_lt {S m b : Nat} (hS : S < 2 ^ m) (h : S.testBit b = true) : b < m := by
  rcases Nat.lt_or_ge b m with q | q
  · exact q
  · rw [Nat.testBit_lt_two_pow (Nat.lt_of_lt_of_le hS (Nat.pow_le_pow_right (by omega) q))] at h; cases h
theorem DvS_cents (hc : CfOK c) {s b u : Nat} {p : Nat × Nat} (hs : s ≤ c.st) (h : DvS c S s b u = some p) : p.2 + ssm u c.ce c.mn = ssm S c.ce c.mn := by
  refine Dv_ind (A := S.testBit) (E := Eq' S) hc (fun s b u p => p.2 + ssm u c.ce c.mn = ssm S c.ce c.mn) ?_ ?_ ?_ ?_ (c.st + 1) s b u p hs (by omega) h
  · intro b u hu
    rw [of_decide_eq_true hu]; simp
  · intro s b u p _ _ ih; exact ih
  · intro s b u i p _ _ hi hk _ ih
    rw [ssm_or hi (okI_s hk).2.1] at ih
    simp only; omega
  · intro s b u n p _ _ _ _ _ _ _ ih; exact ih
theorem DvS_worth (hc : CfOK c) (hS : S < 2 ^ c.mn) {s b u : Nat} {p : Nat × Nat} (hs : s ≤ c.st) (h : DvS c S s b u = some p) : (b < 6 → u.testBit b = true) → p.1 + am c u ≤ am c S := by
  refine Dv_ind (A := S.testBit) (E := Eq' S) hc (fun s b u p => (b < 6 → u.testBit b = true) → p.1 + am c u ≤ am c S) ?_ ?_ ?_ ?_ (c.st + 1) s b u p hs (by omega) h
  · intro b u hu _
    rw [of_decide_eq_true hu]; simp
  · intro s b u p _ _ ih _; exact ih (fun q => by omega)
  · intro s b u i p _ _ hi hk hD ih hb
    have h1 := ih (fun _ => or_has u i)
    have hsub := DvS_sub hc (opn_le (okI_s hk).2.2.1) hD
    have h2 := am_or hc hi (okI_s hk).2.1 (b := b) (fun q => ⟨hb q, bits_lt hS (or_subL hsub b (hb q))⟩)
    simp only; omega
  · intro s b u n p _ _ _ _ _ _ _ ih _; exact ih (fun q => by omega)
theorem DvS_room (hc : CfOK c) {s b u : Nat} {p : Nat × Nat} (hs : s ≤ c.st) (h : DvS c S s b u = some p) : ssm S c.wd c.mn ≤ ssm u c.wd c.mn + nf c s := by
  refine Dv_ind (A := S.testBit) (E := Eq' S) hc (fun s b u p => ssm S c.wd c.mn ≤ ssm u c.wd c.mn + nf c s) ?_ ?_ ?_ ?_ (c.st + 1) s b u p hs (by omega) h
  · intro b u hu
    rw [of_decide_eq_true hu]; omega
  · intro s b u p hf _ ih
    have := nf_anti (c := c) (Nat.le_of_lt (bf_lt hc hf)); omega
  · intro s b u i p _ _ hi hk _ ih
    rw [ssm_or hi (okI_s hk).2.1] at ih
    have := nf_opn _ (okI_s hk).2.2.1
    omega
  · intro s b u n p _ _ _ _ _ _ _ ih
    have := nf_anti (c := c) (Nat.le_add_right s n); omega
/-- the three bounds at the start -/
theorem DvS_start (hc : CfOK c) (hS : S < 2 ^ c.mn) {p : Nat × Nat} (h : DvS c S 0 6 0 = some p) : p.2 = ssm S c.ce c.mn ∧ p.1 ≤ am c S ∧ ssm S c.wd c.mn ≤ nf c 0 := by
  have h1 := DvS_cents hc (Nat.zero_le _) h
  have h2 := DvS_worth hc hS (Nat.zero_le _) h (fun q => by omega)
  have h3 := DvS_room hc (Nat.zero_le _) h
  rw [ssm_zero] at h1 h3
  exact ⟨h1, by omega, by omega⟩
end BNDS
/-- what every walk's pieces have -/
def WkOK (c : Cf) (l : List (Nat × Nat)) (s u : Nat) : Prop := l.length + s ≤ c.st ∧ (∀ x ∈ l, (x.1 < c.mn ∨ (100 < x.1 ∧ x.1 ≤ 140)) ∧ s ≤ x.2 ∧ x.2 < c.st) ∧ (∀ x ∈ l, x.1 < 6 → u.testBit x.1 = false) ∧ l.Pairwise (fun x y => x.1 < 6 → x.1 ≠ y.1)
theorem wk_ok {c : Cf} {A E : Nat → Bool} (hc : CfOK c) : ∀ (m s b u : Nat) (p : Nat × Nat), s ≤ c.st → c.st < s + m → Dv c A E s b u = some p → WkOK c (wk c A E m s b u).1 s u
  | 0, s, b, u, p, hs, hm, h => by omega
  | m + 1, s, b, u, p, hs, hm, h => by
    have ih := wk_ok (A := A) (E := E) hc m
    have hmn := hc.2.2.2.2.1
    by_cases he : s = c.st
    · subst he
      rw [wk_end]
      exact ⟨by simp, (fun x hx => by cases hx), (fun x hx => by cases hx), List.Pairwise.nil⟩
    · have hs' : s < c.st := by omega
      cases hf : c.fr s with
      | true =>
        rw [Dv_free hc hf] at h
        have hb := bf_lt hc hf
        rw [wk_free he hf]
        obtain ⟨h1, h2, h3, h4⟩ := ih _ _ _ _ (bf_le hc hs).2 (by omega) h
        exact ⟨by omega, fun x hx => ⟨(h2 x hx).1, by have := (h2 x hx).2; omega⟩, h3, h4⟩
      | false =>
        rcases pick hc hs' hf h with ⟨i, hI⟩ | ⟨hI, j, hF⟩
        · obtain ⟨⟨hi, hk, hv⟩, hmin⟩ := fI_some.mp hI
          rw [h] at hv
          obtain ⟨x, hx, e⟩ := kadd_some hv
          have a1 := opn_le (okI_s hk).2.2.1
          have a2 := (hc.2.2.2.2.2.1 i hi).1
          obtain ⟨h1, h2, h3, h4⟩ := ih _ _ _ _ a1 (by omega) hx
          rw [wk_I he hf hI]
          refine ⟨by simp only [List.length_cons]; omega, fun x hx => ?_, fun x hx h6 => ?_, List.Pairwise.cons (fun y hy h6 => ?_) h4⟩
          · rcases List.mem_cons.mp hx with rfl | hx
            · exact ⟨Or.inl hi, Nat.le_refl _, hs'⟩
            · exact ⟨(h2 x hx).1, by have := (h2 x hx).2; omega⟩
          · rcases List.mem_cons.mp hx with rfl | hx
            · exact (okI_s hk).2.1
            · have := h3 x hx h6
              rw [or_bit] at this
              simp at this
              exact this.1
          · intro e
            have h6' : i < 6 := h6
            have := h3 y hy (by rw [← e]; exact h6)
            rw [← e, or_has] at this
            cases this
        · obtain ⟨⟨hj, hb, ho, hv⟩, hmin⟩ := fF_some.mp hF
          rw [h] at hv
          have a1 := opn_le ho
          have a2 := hc.2.2.2.2.2.2.2.2.2.2.1
          obtain ⟨h1, h2, h3, h4⟩ := ih _ _ _ _ a1 (by omega) hv
          rw [wk_F he hf hI hF]
          refine ⟨by simp only [List.length_cons]; omega, fun x hx => ?_, fun x hx h6 => ?_, List.Pairwise.cons (fun y hy h6 => ?_) h4⟩
          · rcases List.mem_cons.mp hx with rfl | hx
            · exact ⟨Or.inr ⟨by show 100 < 100 + (c.le + j); omega, by show 100 + (c.le + j) ≤ 140; omega⟩, Nat.le_refl _, hs'⟩
            · exact ⟨(h2 x hx).1, by have := (h2 x hx).2; omega⟩
          · rcases List.mem_cons.mp hx with rfl | hx
            · exact absurd h6 (by show ¬ 100 + (c.le + j) < 6; omega)
            · exact h3 x hx h6
          · exact absurd h6 (by show ¬ 100 + (c.le + j) < 6; omega)
theorem wk_set {c : Cf} {A E : Nat → Bool} : ∀ (m s b u : Nat), u < 2 ^ c.mn → (wk c A E m s b u).2 < 2 ^ c.mn
  | 0, s, b, u, h => h
  | m + 1, s, b, u, h => by
    have ih := wk_set (c := c) (A := A) (E := E) m
    simp only [wk]
    split
    · exact h
    · split
      · exact ih _ _ _ h
      · split
        · next i hi =>
          have := (fI_some.mp hi).1.1
          exact ih _ _ _ (Nat.or_lt_two_pow h (Nat.pow_lt_pow_right (by omega) this))
        · split
          · exact ih _ _ _ h
          · exact h
