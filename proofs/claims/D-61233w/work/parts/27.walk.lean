/-! ===== walk ===== -/
theorem af {G : Gm} {k : Mk} {d rc rs pc : Nat} {ls : List (Option Value)} {stk : List Value} {Q : Oc → Nat → Mem → Prop} {v : Option Value} {Q2 : Nat → Mem → Prop} (h : ∀ n' μ', Q2 n' μ' → Ev G k d rc rs pc ls (v.toList ++ stk) n' μ' Q) : ∀ o n' μ', (o = .inl v ∧ Q2 n' μ') → Aft G k d rc rs pc ls stk Q o n' μ' := by
  rintro o n' μ' ⟨rfl, hq⟩
  exact h n' μ' hq
def tc (b : Nat) : Int32 := if b < 6 then nI b else iI (-1)
def fc7 (b : Nat) : Nat := if b = 7 then 1 else 0
theorem DvS_le {c : Cf} (hc : CfOK c) {S s b u : Nat} (hs : s ≤ c.st) : ∀ p, DvS c S s b u = some p → p.1 ≤ 8000000 := fun p h => Nat.le_trans (Dv_bnd hc _ s b u p hs h) (by omega)
section WK
variable {G : Gm} {d n : Nat} {μ : Mem} {c : Cf} {lx : Nat} {ik : Nat → Nat} {tb : Nat → Int64} {tl : Nat} {ts : Nat → Int32} {lat : Value} {S : Nat}
theorem ct_X_touchingG {b : Nat} : Ct G k_X_touching d 0 0 [.int (tc b)] n μ (Rd (some (.int (nI (if b < 6 then b else 6)))) n μ) := by
  unfold tc
  by_cases h : b < 6
  · rw [if_pos h, if_pos h]; exact ct_X_touching b h
  · rw [if_neg h, if_neg h]; exact ct_X_touchingN
theorem ct_X_mayG {i s u b S : Nat} (hi : i < c.mn) (hs : s ≤ c.st) (hu : u < 64) (hS : S < 64) (hX : XM G n μ c lx ik tb tl ts lat) (hc : CfOK c) : Ct G k_X_may (d + 2) 0 0 [.ref (G.1 + 0), .int (nI i), .int (nI s), .int (nI u), .int (tc b), .int (nI S)] n μ (Rd (some (.int (b2 (okI c S.testBit s b u i)))) n μ) := by
  unfold tc
  by_cases h : b < 6
  · rw [if_pos h]; exact ct_X_mayT hi hs hu hS h hX hc
  · rw [if_neg h]; exact ct_X_mayN hi hs hu hS (by omega) hX hc
theorem ct_X_withItemG {i s u b : Nat} {o : Kv} (ho : ∀ p, o = some p → p.1 ≤ 8000000) (hi : i < c.mn) (hs : s + c.wd i ≤ c.st) (hu : u < 64) (hX : XM G n μ c lx ik tb tl ts lat) (hc : CfOK c) (ht : tb (cX (s + c.wd i) i (u ||| 2 ^ i)) = tvk o) : Ct G k_X_withItem (d + 1) 0 0 [.ref (G.1 + 0), .int (nI i), .int (nI s), .int (nI u), .int (tc b)] n μ (Rd (some (.long (tvk (kadd o (c.wo i + nbW c b i) (c.ce i))))) n μ) := by
  unfold tc
  by_cases h : b < 6
  · rw [if_pos h]; exact ct_X_withItemT ho hi hs hu h hX hc ht
  · rw [if_neg h]; exact ct_X_withItemN ho hi hs hu (by omega) hX hc ht
/-- the class looks at the worth alone: that is enough within one set -/
theorem eqI (hc : CfOK c) {s b u i : Nat} {p : Nat × Nat} (hs : s ≤ c.st) (h : DvS c S s b u = some p) (hi : i < c.mn) (hk : okI c S.testBit s b u i = true) : tvk (kadd (DvS c S (s + c.wd i) i (u ||| 2 ^ i)) (c.wo i + nbW c b i) (c.ce i)) = lN p.1 ↔ kadd (DvS c S (s + c.wd i) i (u ||| 2 ^ i)) (c.wo i + nbW c b i) (c.ce i) = some p := by
  have hp := DvS_le hc hs p h
  have h1 := DvS_cents hc hs h
  have a1 := opn_le (okI_s hk).2.2.1
  cases hx : DvS c S (s + c.wd i) i (u ||| 2 ^ i) with
  | none =>
    constructor
    · intro q
      have q2 := congrArg Int64.toInt q
      rw [lN_toInt (by omega), show (tvk (kadd none (c.wo i + nbW c b i) (c.ce i))).toInt = -1 from rfl] at q2; omega
    · intro q; cases q
  | some x =>
    have h2 := DvS_cents hc a1 hx
    have hx1 := DvS_le hc a1 x hx
    rw [ssm_or hi (okI_s hk).2.1] at h2
    have hw := hc.2.2.2.2.2.1 i hi
    have hnb : nbW c b i ≤ 100000 := by unfold nbW; split; exact (hc.2.2.2.2.2.2.2.2.1 b i).1; omega
    show lN (x.1 + (c.wo i + nbW c b i)) = lN p.1 ↔ some (x.1 + (c.wo i + nbW c b i), x.2 + c.ce i) = some p
    rw [lN_eq (by omega) (by omega), Option.some.injEq]
    constructor
    · intro q; exact Prod.ext q (by show x.2 + c.ce i = p.2; omega)
    · intro q; rw [← q]
theorem eqF (hc : CfOK c) {s b u k : Nat} {p : Nat × Nat} (hs : s ≤ c.st) (h : DvS c S s b u = some p) (hk : s + k ≤ c.st) : tvk (DvS c S (s + k) 7 u) = lN p.1 ↔ DvS c S (s + k) 7 u = some p := by
  have hp := DvS_le hc hs p h
  have h1 := DvS_cents hc hs h
  cases hx : DvS c S (s + k) 7 u with
  | none =>
    constructor
    · intro q
      have q2 := congrArg Int64.toInt q
      rw [lN_toInt (by omega), show (tvk none).toInt = -1 from by decide] at q2; omega
    · intro q; cases q
  | some x =>
    have h2 := DvS_cents hc hk hx
    have hx1 := DvS_le hc hk x hx
    show lN x.1 = lN p.1 ↔ some x = some p
    rw [lN_eq (by omega) (by omega), Option.some.injEq]
    constructor
    · intro q; exact Prod.ext q (by omega)
    · intro q; rw [← q]
theorem lp_X_walkI {ν : Mem} {Q : Oc → Nat → Mem → Prop} (hXv : XM G (n + 3) ν c lx ik tb tl ts lat) (hc : CfOK c) (hS : S < 64) (hF : FinX c S tb 0) {s b u : Nat} {p : Nat × Nat} (hs : s < c.st) (hu : u < 64) (hsub : SubS S u) (hD : DvS c S s b u = some p) (hK : ∀ i, (fI c S.testBit (DvS c S) s b u = some i ∨ (i = c.mn ∧ fI c S.testBit (DvS c S) s b u = none)) → Ev G k_X_walk (d + 3) 0 0 190 [some (.ref (G.1 + 0)), some (.int (nI (S))), some (.ref (G.1 + n)), some (.int (nI (s))), some (.int (nI (u))), some (.int (tc b)), some (.int (nI (fc7 b))), some (.long (lN (p.1))), none, some (.int (nI (i))), none] [] (n + 3) ν Q) : ∀ (m i : Nat), i ≤ c.mn → c.mn < i + m → (∀ j, j < i → ¬ (okI c S.testBit s b u j = true ∧ kadd (DvS c S (s + c.wd j) j (u ||| 2 ^ j)) (c.wo j + nbW c b j) (c.ce j) = DvS c S s b u)) → Ev G k_X_walk (d + 3) 0 0 143 [some (.ref (G.1 + 0)), some (.int (nI (S))), some (.ref (G.1 + n)), some (.int (nI (s))), some (.int (nI (u))), some (.int (tc b)), some (.int (nI (fc7 b))), some (.long (lN (p.1))), none, some (.int (nI (i))), none] [] (n + 3) ν Q := by
  obtain ⟨hn, x0, x1, x2, x3, x4, x5, x11, x12, x18, x19, xi, xj⟩ := id hXv
  obtain ⟨⟨hst1, hst2⟩, hfr, hpn, hpp, hmn, hwd, hnd, hpu, hnr, hbr, hle, hdef⟩ := id hc
  intro m
  induction m with
  | zero =>
    intro i h1 h2
    exact absurd h2 (by omega)
  | succ m ih =>
    intro i hi him hno
    refine ev_iload d_X_walk_143 rfl ?_
    refine ev_aload_n d_X_walk_145 rfl rfl ?_
    refine ev_getf (kf := 5) (T := F_X) (C := R_X) (N := 14) (v := .int (nI (c.mn))) d_X_walk_146 fl_X_81 rfl i_X (by decide) (by omega) x0 rfl ?_
    refine ev_icmp_ge d_X_walk_149 (fun c_149 => ?_) (fun c_149 => ?_)
    ·
      simp (disch := omega) only [nI_ltI, nI_leI, nI_eq, Nat.not_lt, Nat.not_le] at c_149
      exact hK i (Or.inr ⟨by omega, fI_none.mpr fun j hj => hno j (by omega)⟩)
    ·
      simp (disch := omega) only [nI_ltI, nI_leI, nI_eq, Nat.not_lt, Nat.not_le] at c_149
      refine ev_aload_n d_X_walk_152 rfl rfl ?_
      refine ev_iload d_X_walk_153 rfl ?_
      refine ev_iload_n d_X_walk_155 rfl rfl ?_
      refine ev_iload d_X_walk_156 rfl ?_
      refine ev_iload d_X_walk_158 rfl ?_
      refine ev_iload_n d_X_walk_160 rfl rfl ?_
      refine cv (mc' := 0) (ms' := 0) (k' := k_X_may) (As := [.int (nI (i)), .int (nI (s)), .int (nI (u)), .int (tc b), .int (nI (S))]) (stk := []) d_X_walk_161 ml_X_145 kk_X_may rfl rfl (Nat.le_of_ble_eq_true rfl) (by omega) x0 rfl rfl (ct_X_mayG (d := d) c_149 (by omega) hu hS hXv hc) (rd ?_)
      refine ev_if_eq d_X_walk_164 (fun c_164 => ?_) (fun c_164 => ?_)
      ·
        have c_164 := b2_f c_164
        refine ev_iinc (v := (nI (i + 1))) (ls' := [_, _, _, _, _, _, _, _, none, _, none]) d_X_walk_184 rfl (nI_1 _) (by decide) rfl rfl ?_
        refine ev_goto d_X_walk_187 ?_
        refine ih (i + 1) (by omega) (by omega) (fun j hj q => ?_)
        rcases Nat.lt_or_ge j i with h | h
        · exact hno j h q
        · have : j = i := by omega
          subst this
          rw [c_164] at q; exact absurd q.1 (by decide)
      ·
        have c_164 := b2_t c_164
        have hop := opn_le (okI_s c_164).2.2.1
        refine ev_aload_n d_X_walk_167 rfl rfl ?_
        refine ev_iload d_X_walk_168 rfl ?_
        refine ev_iload_n d_X_walk_170 rfl rfl ?_
        refine ev_iload d_X_walk_171 rfl ?_
        refine ev_iload d_X_walk_173 rfl ?_
        refine cv (mc' := 0) (ms' := 0) (k' := k_X_withItem) (As := [.int (nI (i)), .int (nI (s)), .int (nI (u)), .int (tc b)]) (stk := []) d_X_walk_175 ml_X_149 kk_X_withItem rfl rfl (Nat.le_of_ble_eq_true rfl) (by omega) x0 rfl rfl (ct_X_withItemG (d := d + 1) (o := DvS c S (s + c.wd i) i (u ||| 2 ^ i)) (DvS_le hc hop) c_149 hop hu hXv hc (hF (s + c.wd i) i (u ||| 2 ^ i) (by omega) hop (by omega) (or_lt u hu i (by omega)) (or_sub (okI_s c_164).1 hsub) (fun _ => or_has u i))) (rd ?_)
        refine ev_lload d_X_walk_178 rfl ?_
        refine ev_lcmp d_X_walk_180 ?_
        refine ev_if_eq d_X_walk_181 (fun c_181 => ?_) (fun c_181 => ?_)
        ·
          rw [lc_eq, eqI hc (by omega) hD c_149 c_164] at c_181
          exact hK i (Or.inl (fI_some.mpr ⟨⟨c_149, c_164, c_181.trans hD.symm⟩, hno⟩))
        ·
          rw [lc_eq, eqI hc (by omega) hD c_149 c_164] at c_181
          refine ev_iinc (v := (nI (i + 1))) (ls' := [_, _, _, _, _, _, _, _, none, _, none]) d_X_walk_184 rfl (nI_1 _) (by decide) rfl rfl ?_
          refine ev_goto d_X_walk_187 ?_
          refine ih (i + 1) (by omega) (by omega) (fun j hj q => ?_)
          rcases Nat.lt_or_ge j i with h | h
          · exact hno j h q
          · have : j = i := by omega
            subst this
            exact c_181 (q.2.trans hD)
theorem lp_X_walkF {ν : Mem} {Q : Oc → Nat → Mem → Prop} (hXv : XM G (n + 3) ν c lx ik tb tl ts lat) (hc : CfOK c) (hS : S < 64) (hF : FinX c S tb 0) {s b u : Nat} {p : Nat × Nat} (hs : s < c.st) (hu : u < 64) (hsub : SubS S u) (hD : DvS c S s b u = some p) {j : Nat} (hj : fF c (DvS c S) s b u = some j) (hK : Ev G k_X_walk (d + 3) 0 0 283 [some (.ref (G.1 + 0)), some (.int (nI (S))), some (.ref (G.1 + n)), some (.int (nI (s))), some (.int (nI (u))), some (.int (tc b)), some (.int (nI (fc7 b))), some (.long (lN (p.1))), none, none, some (.int (nI (c.le + j)))] [] (n + 3) ν Q) : ∀ (m i : Nat), i ≤ j → j < i + m → Ev G k_X_walk (d + 3) 0 0 244 [some (.ref (G.1 + 0)), some (.int (nI (S))), some (.ref (G.1 + n)), some (.int (nI (s))), some (.int (nI (u))), some (.int (tc b)), some (.int (nI (fc7 b))), some (.long (lN (p.1))), none, none, some (.int (nI (c.le + i)))] [] (n + 3) ν Q := by
  obtain ⟨hn, x0, x1, x2, x3, x4, x5, x11, x12, x18, x19, xi, xj⟩ := id hXv
  obtain ⟨⟨hst1, hst2⟩, hfr, hpn, hpp, hmn, hwd, hnd, hpu, hnr, hbr, hle, hdef⟩ := id hc
  obtain ⟨⟨hj1, hj2, hj3, hj4⟩, hj5⟩ := fF_some.mp hj
  intro m
  induction m with
  | zero =>
    intro i h1 h2
    exact absurd h2 (by omega)
  | succ m ih =>
    intro i hi him
    refine ev_aload_n d_X_walk_244 rfl rfl ?_
    refine ev_iload_n d_X_walk_245 rfl rfl ?_
    refine ev_iload d_X_walk_246 rfl ?_
    refine cv (mc' := 0) (ms' := 0) (k' := k_X_isOpen) (As := [.int (nI (s)), .int (nI (c.le + i))]) (stk := []) d_X_walk_248 ml_X_125 kk_X_isOpen rfl rfl (Nat.le_of_ble_eq_true rfl) (by omega) x0 rfl rfl (ct_X_isOpen (d := d + 2) (f := s) (w := c.le + i) (by omega) (by omega) hXv hc) (rd ?_)
    refine ev_if_eq d_X_walk_251 (fun c_251 => ?_) (fun c_251 => ?_)
    ·
      have c_251 := b2_f c_251
      refine ev_iinc (v := (nI (c.le + (i + 1)))) (ls' := [_, _, _, _, _, _, _, _, none, none, _]) d_X_walk_277 rfl (by rw [show nI (c.le + i) + Int32.ofInt 1 = nI (c.le + i + 1) from nI_1 _, Nat.add_assoc]) (by decide) rfl rfl ?_
      refine ev_goto d_X_walk_280 ?_
      refine ih (i + 1) ?_ (by omega)
      rcases Nat.lt_or_ge i j with h | h
      · exact h
      · have : i = j := by omega
        subst this
        rw [hj3] at c_251; cases c_251
    ·
      have c_251 := b2_t c_251
      have hop := opn_le c_251
      refine ev_aload_n d_X_walk_254 rfl rfl ?_
      refine ev_getf (kf := 10) (T := F_X) (C := R_X) (N := 14) (v := .ref (G.1 + 18)) d_X_walk_255 fl_X_34 rfl i_X (by decide) (by omega) x0 rfl ?_
      refine ev_iload_n d_X_walk_258 rfl rfl ?_
      refine ev_iload d_X_walk_259 rfl ?_
      refine ev_iadd d_X_walk_261 ?_
      refine ev_topi (w := (nI (s + (c.le + i)))) (nI_add _ _) ?_
      refine ev_iload d_X_walk_262 rfl ?_
      refine ev_bipush (v := (nI (6))) d_X_walk_264 (by decide) ?_
      refine ev_iconst (v := (nI (1))) d_X_walk_266 (by decide) ?_
      refine cs (mc' := 0) (ms' := 0) (k' := k_X_cell) (As := [.int (nI (s + (c.le + i))), .int (nI (u)), .int (nI (6)), .int (nI (1))]) (stk := [.ref (G.1 + 18)]) d_X_walk_267 ml_X_133 kk_X_cell rfl rfl (Nat.le_of_ble_eq_true rfl) (ct_X_cell (d := d + 2) (s + (c.le + i)) u 6 1) (rd ?_)
      refine ev_lald (j := (((s + (c.le + i)) * 64 + u) * 7 + 6) * 2 + 1) d_X_walk_270 (by omega) x18 (by omega) (by decide) ?_
      refine ev_topl (w := tvk (DvS c S (s + (c.le + i)) 7 u)) (by rw [← cX_7]; exact hF (s + (c.le + i)) 7 u (by omega) hop (by omega) hu hsub (fun q => by omega)) ?_
      refine ev_lload d_X_walk_271 rfl ?_
      refine ev_lcmp d_X_walk_273 ?_
      refine ev_if_eq d_X_walk_274 (fun c_274 => ?_) (fun c_274 => ?_)
      ·
        rw [lc_eq, eqF hc (by omega) hD hop] at c_274
        have hij : i = j := by
          rcases Nat.lt_or_ge i j with h | h
          · exact absurd ⟨hj2, c_251, c_274.trans hD.symm⟩ (hj5 i h)
          · omega
        subst hij
        exact Ev.fg [true, true, true, true, true, true, true, true, false, false, true] rfl hK
      ·
        rw [lc_eq, eqF hc (by omega) hD hop] at c_274
        refine ev_iinc (v := (nI (c.le + (i + 1)))) (ls' := [_, _, _, _, _, _, _, _, none, none, _]) d_X_walk_277 rfl (by rw [show nI (c.le + i) + Int32.ofInt 1 = nI (c.le + i + 1) from nI_1 _, Nat.add_assoc]) (by decide) rfl rfl ?_
        refine ev_goto d_X_walk_280 ?_
        refine ih (i + 1) ?_ (by omega)
        rcases Nat.lt_or_ge i j with h | h
        · exact h
        · have : i = j := by omega
          subst this
          exact absurd (hj4.trans hD) c_274
theorem lp_X_walk (hX : XM G n μ c lx ik tb tl ts lat) (hc : CfOK c) (hlx : LxOK c lx) (hS : S < 64) (hF : FinX c S tb 0) {L : List (Nat × Nat)} {w ct : Nat} : ∀ (m s b u : Nat) (l : List (Nat × Nat)) (ν : Mem) (p : Nat × Nat), s ≤ c.st → c.st < s + m → b ≤ 7 → u < 64 → (b < 6 → u.testBit b = true) → SubS S u → DvS c S s b u = some p → l ++ (wk c S.testBit (Eq' S) m s b u).1 = L → PM G (n + 3) ν n l S w ct → (∀ t, t < n → ν t = μ t) → l.length ≤ s → Ev G k_X_walk (d + 3) 0 0 88 [some (.ref (G.1 + 0)), some (.int (nI (S))), some (.ref (G.1 + n)), some (.int (nI (s))), some (.int (nI (u))), some (.int (tc b)), some (.int (nI (fc7 b))), none, none, none, none] [] (n + 3) ν (fun (o : Oc) (n' : Nat) (μ' : Mem) => o = .inl (some (.ref (G.1 + n))) ∧ n' = n + 3 ∧ PM G (n + 3) μ' n L S w ct ∧ ∀ t, t < n → μ' t = μ t) := by
  generalize hQ : (fun (o : Oc) (n' : Nat) (μ' : Mem) => o = .inl (some (.ref (G.1 + n))) ∧ n' = n + 3 ∧ PM G (n + 3) μ' n L S w ct ∧ ∀ t, t < n → μ' t = μ t) = Q
  intro m
  induction m with
  | zero =>
    intro s b u l ν p h1 h2
    exact absurd h2 (by omega)
  | succ m ih =>
    intro s b u l ν p hs hm hb hu hbu hsub hD hL hP hff hlen
    have hXv : XM G (n + 3) ν c lx ik tb tl ts lat := hX.frame (by omega) (fun t ht _ => hff t ht)
    obtain ⟨hn, x0, x1, x2, x3, x4, x5, x11, x12, x18, x19, xi, xj⟩ := id hXv
    obtain ⟨⟨hst1, hst2⟩, hfr, hpn, hpp, hmn, hwd, hnd, hpu, hnr, hbr, hle, hdef⟩ := id hc
    obtain ⟨hp1, hp2, hp3, hp4, fc, fb, p0, p1, p2, p3⟩ := id hP
    refine ev_iload_n d_X_walk_88 rfl rfl ?_
    refine ev_aload_n d_X_walk_89 rfl rfl ?_
    refine ev_getf (kf := 0) (T := F_X) (C := R_X) (N := 14) (v := .int (nI (c.st))) d_X_walk_90 fl_X_50 rfl i_X (by decide) (by omega) x0 rfl ?_
    refine ev_icmp_ge d_X_walk_93 (fun c_93 => ?_) (fun c_93 => ?_)
    ·
      simp (disch := omega) only [nI_ltI, nI_leI, nI_eq, Nat.not_lt, Nat.not_le] at c_93
      refine ev_aload_n d_X_walk_307 rfl rfl ?_
      refine ev_areturn d_X_walk_308 rfl (Or.inr ⟨_, rfl⟩) ?_
      subst hQ
      have hse : s = c.st := by omega
      subst hse
      rw [wk_end, List.append_nil] at hL
      subst hL
      exact ⟨rfl, rfl, hP, hff⟩
    ·
      simp (disch := omega) only [nI_ltI, nI_leI, nI_eq, Nat.not_lt, Nat.not_le] at c_93
      refine ev_aload_n d_X_walk_96 rfl rfl ?_
      refine ev_getf (kf := 1) (T := F_X) (C := R_X) (N := 14) (v := .ref (G.1 + 1)) d_X_walk_97 fl_X_7 rfl i_X (by decide) (by omega) x0 rfl ?_
      refine ev_iload_n d_X_walk_100 rfl rfl ?_
      refine ev_zald (j := s) d_X_walk_101 (by omega) x1 (by omega) (by decide) ?_
      refine ev_if_eq d_X_walk_102 (fun c_102 => ?_) (fun c_102 => ?_)
      ·
        have c_102 := b2_f c_102
        refine ev_aload_n d_X_walk_120 rfl rfl ?_
        refine ev_getf (kf := 10) (T := F_X) (C := R_X) (N := 14) (v := .ref (G.1 + 18)) d_X_walk_121 fl_X_34 rfl i_X (by decide) (by omega) x0 rfl ?_
        refine ev_iload_n d_X_walk_124 rfl rfl ?_
        refine ev_iload d_X_walk_125 rfl ?_
        refine ev_iload d_X_walk_127 rfl ?_
        refine cs (mc' := 0) (ms' := 0) (k' := k_X_touching) (As := [.int (tc b)]) (stk := [.int (nI (u)), .int (nI (s)), .ref (G.1 + 18)]) d_X_walk_129 ml_X_156 kk_X_touching rfl rfl (Nat.le_of_ble_eq_true rfl) (ct_X_touchingG (d := d + 2) (b := b)) (rd ?_)
        refine ev_iload d_X_walk_132 rfl ?_
        refine cs (mc' := 0) (ms' := 0) (k' := k_X_cell) (As := [.int (nI (s)), .int (nI (u)), .int (nI (if b < 6 then b else 6)), .int (nI (fc7 b))]) (stk := [.ref (G.1 + 18)]) d_X_walk_134 ml_X_133 kk_X_cell rfl rfl (Nat.le_of_ble_eq_true rfl) (ct_X_cell (d := d + 2) s u (if b < 6 then b else 6) (fc7 b)) (rd ?_)
        refine ev_lald (j := ((s * 64 + u) * 7 + (if b < 6 then b else 6)) * 2 + fc7 b) d_X_walk_137 (by omega) x18 (cX_lt (show s ≤ 40 by omega) hu) (by decide) ?_
        refine ev_topl (w := lN p.1) ((hF s b u (by omega) hs hb hu hsub hbu).trans (by rw [hD]; rfl)) ?_
        refine ev_lstore (ls' := [_, _, _, _, _, _, _, _, none, none, none]) d_X_walk_138 (by decide) rfl rfl ?_
        refine ev_iconst (v := (nI (0))) d_X_walk_140 (by decide) ?_
        refine ev_istore (ls' := [_, _, _, _, _, _, _, _, none, _, none]) d_X_walk_141 (by decide) rfl rfl ?_
        refine lp_X_walkI hXv hc hS hF c_93 hu hsub hD (fun i hcase => ?_) (c.mn + 1) 0 (by omega) (by omega) (fun j hj => by omega)
        have hile : i ≤ c.mn := hcase.elim (fun q => Nat.le_of_lt (fI_some.mp q).1.1) (fun q => Nat.le_of_eq q.1)
        refine ev_iload d_X_walk_190 rfl ?_
        refine ev_aload_n d_X_walk_192 rfl rfl ?_
        refine ev_getf (kf := 5) (T := F_X) (C := R_X) (N := 14) (v := .int (nI (c.mn))) d_X_walk_193 fl_X_81 rfl i_X (by decide) (by omega) x0 rfl ?_
        refine ev_icmp_ge d_X_walk_196 (fun c_196 => ?_) (fun c_196 => ?_)
        ·
          simp (disch := omega) only [nI_ltI, nI_leI, nI_eq, Nat.not_lt, Nat.not_le] at c_196
          have hIn : fI c S.testBit (DvS c S) s b u = none := by
            rcases hcase with q | q
            · have := (fI_some.mp q).1.1; omega
            · exact q.2
          obtain ⟨j, hj⟩ : ∃ j, fF c (DvS c S) s b u = some j := by
            rcases pick hc c_93 c_102 hD with ⟨i', q⟩ | ⟨_, q⟩
            · exact absurd (hIn.symm.trans q) (by intro h; cases h)
            · exact q
          have hpj := (fF_some.mp hj).1
          have hopj := opn_le hpj.2.2.1
          have hlx2 : lx = c.le := by rcases hlx with q | q <;> omega
          refine ev_aload_n d_X_walk_238 rfl rfl ?_
          refine ev_getf (kf := 8) (T := F_X) (C := R_X) (N := 14) (v := .int (nI (lx))) d_X_walk_239 fl_X_116 rfl i_X (by decide) (by omega) x0 rfl ?_
          refine ev_istore (ls' := [_, _, _, _, _, _, _, _, none, _, _]) d_X_walk_242 (by decide) rfl rfl ?_
          rw [hlx2]
          refine Ev.fg [true, true, true, true, true, true, true, true, false, false, true] rfl (lp_X_walkF hXv hc hS hF c_93 hu hsub hD hj ?_ (j + 1) 0 (by omega) (by omega))
          refine ev_aload_n d_X_walk_283 rfl rfl ?_
          refine ev_bipush (v := (nI (100))) d_X_walk_284 (by decide) ?_
          refine ev_iload d_X_walk_286 rfl ?_
          refine ev_iadd d_X_walk_288 ?_
          refine ev_topi (w := (nI (100 + (c.le + j)))) (nI_add _ _) ?_
          refine ev_iload_n d_X_walk_289 rfl rfl ?_
          refine cv (mc' := 0) (ms' := 0) (k' := k_P_add) (As := [.int (nI (100 + (c.le + j))), .int (nI (s))]) (stk := []) d_X_walk_290 ml_X_174 kk_P_add rfl rfl (Nat.le_of_ble_eq_true rfl) (by omega) p0 rfl rfl (ct_P_add (d := d + 2) (x := 100 + (c.le + j)) (y := s) hP (by omega) (by omega) (by omega)) (af fun n1 ν hq => ?_)
          obtain ⟨rfl, hP, hf1⟩ := hq
          have hff : ∀ t, t < n → ν t = μ t := fun t ht => (hf1 t (by omega)).trans (hff t ht)
          have hXv : XM G (n + 3) ν c lx ik tb tl ts lat := hX.frame (by omega) (fun t ht _ => hff t ht)
          obtain ⟨hn, x0, x1, x2, x3, x4, x5, x11, x12, x18, x19, xi, xj⟩ := id hXv
          obtain ⟨⟨hst1, hst2⟩, hfr, hpn, hpp, hmn, hwd, hnd, hpu, hnr, hbr, hle, hdef⟩ := id hc
          obtain ⟨hp1, hp2, hp3, hp4, fc, fb, p0, p1, p2, p3⟩ := id hP
          refine ev_iload_n d_X_walk_293 rfl rfl ?_
          refine ev_iload d_X_walk_294 rfl ?_
          refine ev_iadd d_X_walk_296 ?_
          refine ev_topi (w := (nI (s + (c.le + j)))) (nI_add _ _) ?_
          refine ev_istore_n (ls' := [_, _, _, _, _, _, _, _, none, none, _]) d_X_walk_297 rfl (by decide) rfl rfl ?_
          refine ev_iconst (v := (iI ((-1)))) d_X_walk_298 (by decide) ?_
          refine ev_istore (ls' := [_, _, _, _, _, _, _, _, none, none, _]) d_X_walk_299 (by decide) rfl rfl ?_
          refine ev_iconst (v := (nI (1))) d_X_walk_301 (by decide) ?_
          refine ev_istore (ls' := [_, _, _, _, _, _, _, _, none, none, _]) d_X_walk_302 (by decide) rfl rfl ?_
          refine ev_goto d_X_walk_304 ?_
          subst hQ
          have h := ih (s + (c.le + j)) 7 u (l ++ [(100 + (c.le + j), s)]) ν p hopj (by omega) (by omega) hu (fun q => by omega) hsub (hpj.2.2.2.trans hD) (by rw [← hL, wk_F (by omega) c_102 hIn hj]; simp) hP hff (by simp; omega)
          exact Ev.fg [true, true, true, true, true, true, true, false, false, false, false] rfl h
        ·
          simp (disch := omega) only [nI_ltI, nI_leI, nI_eq, Nat.not_lt, Nat.not_le] at c_196
          have hI : fI c S.testBit (DvS c S) s b u = some i := hcase.resolve_right (fun q => by omega)
          have hpi := (fI_some.mp hI).1
          have hwi := hwd i c_196
          have hopi := opn_le (okI_s hpi.2.1).2.2.1
          obtain ⟨x, hx, hxe⟩ := kadd_some (hpi.2.2.trans hD)
          refine ev_aload_n d_X_walk_199 rfl rfl ?_
          refine ev_iload d_X_walk_200 rfl ?_
          refine ev_iload_n d_X_walk_202 rfl rfl ?_
          refine cv (mc' := 0) (ms' := 0) (k' := k_P_add) (As := [.int (nI (i)), .int (nI (s))]) (stk := []) d_X_walk_203 ml_X_174 kk_P_add rfl rfl (Nat.le_of_ble_eq_true rfl) (by omega) p0 rfl rfl (ct_P_add (d := d + 2) (x := i) (y := s) hP (by omega) (by omega) (by omega)) (af fun n1 ν hq => ?_)
          obtain ⟨rfl, hP, hf1⟩ := hq
          have hff : ∀ t, t < n → ν t = μ t := fun t ht => (hf1 t (by omega)).trans (hff t ht)
          have hXv : XM G (n + 3) ν c lx ik tb tl ts lat := hX.frame (by omega) (fun t ht _ => hff t ht)
          obtain ⟨hn, x0, x1, x2, x3, x4, x5, x11, x12, x18, x19, xi, xj⟩ := id hXv
          obtain ⟨⟨hst1, hst2⟩, hfr, hpn, hpp, hmn, hwd, hnd, hpu, hnr, hbr, hle, hdef⟩ := id hc
          obtain ⟨hp1, hp2, hp3, hp4, fc, fb, p0, p1, p2, p3⟩ := id hP
          refine ev_iload_n d_X_walk_206 rfl rfl ?_
          refine ev_aload_n d_X_walk_207 rfl rfl ?_
          refine ev_getf (kf := 4) (T := F_X) (C := R_X) (N := 14) (v := .ref (G.1 + 3)) d_X_walk_208 fl_X_19 rfl i_X (by decide) (by omega) x0 rfl ?_
          refine ev_iload d_X_walk_211 rfl ?_
          refine ev_aald (j := i) d_X_walk_213 (by omega) x3 (by decide) (by omega) (by decide) ?_
          refine ev_top (w := .ref (G.1 + ik i)) (by rw [if_pos c_196]; rfl) ?_
          refine ev_getN (kf := 0) (T := F_I) (C := R_I) (N := 6) (v := .int (nI (c.wd i))) d_X_walk_214 fl_X_122 rfl i_I (by decide) (xi i c_196).2.1 (xi i c_196).2.2 rfl ?_
          refine ev_iadd d_X_walk_217 ?_
          refine ev_topi (w := (nI (s + (c.wd i)))) (nI_add _ _) ?_
          refine ev_istore_n (ls' := [_, _, _, _, _, _, _, _, none, _, none]) d_X_walk_218 rfl (by decide) rfl rfl ?_
          refine ev_iload d_X_walk_219 rfl ?_
          refine ev_iconst (v := (nI (1))) d_X_walk_221 (by decide) ?_
          refine ev_iload d_X_walk_222 rfl ?_
          refine ev_ishl d_X_walk_224 ?_
          refine ev_ior d_X_walk_225 ?_
          refine ev_topi (w := (nI (u ||| 2 ^ i))) (bit_or u hu i (by omega)) ?_
          refine ev_istore (ls' := [_, _, _, _, _, _, _, _, none, _, none]) d_X_walk_226 (by decide) rfl rfl ?_
          refine ev_iload d_X_walk_228 rfl ?_
          refine ev_istore (ls' := [_, _, _, _, _, _, _, _, none, _, none]) d_X_walk_230 (by decide) rfl rfl ?_
          refine ev_iconst (v := (nI (0))) d_X_walk_232 (by decide) ?_
          refine ev_istore (ls' := [_, _, _, _, _, _, _, _, none, _, none]) d_X_walk_233 (by decide) rfl rfl ?_
          refine ev_goto d_X_walk_235 ?_
          subst hQ
          have e : tc i = nI i := if_pos (by omega)
          have e2 : fc7 i = 0 := if_neg (by omega)
          have h := ih (s + c.wd i) i (u ||| 2 ^ i) (l ++ [(i, s)]) ν x hopi (by omega) (by omega) (or_lt u hu i (by omega)) (fun _ => or_has u i) (or_sub (okI_s hpi.2.1).1 hsub) hx (by rw [← hL, wk_I (by omega) c_102 hI]; simp) hP hff (by simp; omega)
          rw [e, e2] at h
          exact Ev.fg [true, true, true, true, true, true, true, false, false, false, false] rfl h
      ·
        have c_102 := b2_t c_102
        refine ev_aload_n d_X_walk_105 rfl rfl ?_
        refine ev_iload_n d_X_walk_106 rfl rfl ?_
        refine cv (mc' := 0) (ms' := 0) (k' := k_X_behindFree) (As := [.int (nI (s))]) (stk := []) d_X_walk_107 ml_X_141 kk_X_behindFree rfl rfl (Nat.le_of_ble_eq_true rfl) (by omega) x0 rfl rfl (ct_X_behindFree (d := d + 2) hXv hc hs) (rd ?_)
        refine ev_istore_n (ls' := [_, _, _, _, _, _, _, none, none, none, none]) d_X_walk_110 rfl (by decide) rfl rfl ?_
        refine ev_iconst (v := (iI ((-1)))) d_X_walk_111 (by decide) ?_
        refine ev_istore (ls' := [_, _, _, _, _, _, _, none, none, none, none]) d_X_walk_112 (by decide) rfl rfl ?_
        refine ev_iconst (v := (nI (0))) d_X_walk_114 (by decide) ?_
        refine ev_istore (ls' := [_, _, _, _, _, _, _, none, none, none, none]) d_X_walk_115 (by decide) rfl rfl ?_
        refine ev_goto d_X_walk_117 ?_
        subst hQ
        have hbf := bf_lt hc c_102
        refine ih (c.bf s) 6 u l ν p (bf_le hc hs).2 (by omega) (by omega) hu (fun q => by omega) hsub ?_ ?_ hP hff (by omega)
        · rw [← hD]; exact (Dv_free hc c_102).symm
        · rw [← hL, wk_free (by omega) c_102]
/-- the plan's head while its cents are summed -/
def Ph (G : Gm) (n : Nat) (ν μ : Mem) (S w x : Nat) : Prop := ν n = ob 2 [.ref (G.1 + (n + 1)), .ref (G.1 + (n + 2)), .int 0, .int (nI S), .long (lN w), .long (lN x)] ∧ ν (n + 1) = aI 41 (fun _ => 0) ∧ ν (n + 2) = aI 41 (fun _ => 0) ∧ ∀ t, t < n → ν t = μ t
theorem lp_X_walkC {Q : Oc → Nat → Mem → Prop} (hX : XM G n μ c lx ik tb tl ts lat) (hc : CfOK c) (hS : S < 64) {w : Nat} (hK : ∀ ν, Ph G n ν μ S w (ssm S c.ce c.mn) → Ev G k_X_walk (d + 3) 0 0 77 [some (.ref (G.1 + 0)), some (.int (nI (S))), some (.ref (G.1 + n)), none, none, none, none, none, none, none, none] [] (n + 3) ν Q) : ∀ (m i x : Nat) (ν : Mem), i ≤ c.mn → c.mn < i + m → x = ssm S c.ce i → Ph G n ν μ S w x → Ev G k_X_walk (d + 3) 0 0 32 [some (.ref (G.1 + 0)), some (.int (nI (S))), some (.ref (G.1 + n)), some (.int (nI (i))), none, none, none, none, none, none, none] [] (n + 3) ν Q := by
  intro m
  induction m with
  | zero =>
    intro i x ν h1 h2
    exact absurd h2 (by omega)
  | succ m ih =>
    intro i x ν hi him hx hP
    obtain ⟨q0, q1, q2, q3⟩ := id hP
    have hXv : XM G (n + 3) ν c lx ik tb tl ts lat := hX.frame (by omega) (fun t ht _ => q3 t ht)
    obtain ⟨hn, x0, x1, x2, x3, x4, x5, x11, x12, x18, x19, xi, xj⟩ := id hXv
    obtain ⟨⟨hst1, hst2⟩, hfr, hpn, hpp, hmn, hwd, hnd, hpu, hnr, hbr, hle, hdef⟩ := id hc
    refine ev_iload_n d_X_walk_32 rfl rfl ?_
    refine ev_aload_n d_X_walk_33 rfl rfl ?_
    refine ev_getf (kf := 5) (T := F_X) (C := R_X) (N := 14) (v := .int (nI (c.mn))) d_X_walk_34 fl_X_81 rfl i_X (by decide) (by omega) x0 rfl ?_
    refine ev_icmp_ge d_X_walk_37 (fun c_37 => ?_) (fun c_37 => ?_)
    ·
      simp (disch := omega) only [nI_ltI, nI_leI, nI_eq, Nat.not_lt, Nat.not_le] at c_37
      have hi2 : i = c.mn := by omega
      subst hi2
      exact Ev.fg [true, true, true, false, false, false, false, false, false, false, false] rfl (hK ν (hx ▸ hP))
    ·
      simp (disch := omega) only [nI_ltI, nI_leI, nI_eq, Nat.not_lt, Nat.not_le] at c_37
      refine ev_aload_n d_X_walk_40 rfl rfl ?_
      refine ev_dup d_X_walk_41 rfl ?_
      refine ev_getN (kf := 5) (T := F_P) (C := R_P) (N := 6) (v := .long (lN (x))) d_X_walk_42 fl_X_170 rfl i_P (by decide) (by omega) q0 rfl ?_
      have hJ_67 : ∀ y : Nat, (y = if S.testBit i then c.ce i else 0) → Ev G k_X_walk (d + 3) 0 0 67 [some (.ref (G.1 + 0)), some (.int (nI (S))), some (.ref (G.1 + n)), some (.int (nI (i))), none, none, none, none, none, none, none] [.long (lN (y)), .long (lN (x)), .ref (G.1 + n)] (n + 3) ν Q := by
        intro y hJ
        refine ev_ladd d_X_walk_67 ?_
        refine ev_topl (w := (lN (x + y))) (lN_add _ _) ?_
        refine ev_putN (kf := 5) (T := F_P) (C := R_P) (N := 6) (ty0 := t_P) d_X_walk_68 fl_X_170 rfl i_P t_P_ok n_P (by decide) rfl rfl rfl rfl (by omega) q0 (Nat.le_of_ble_eq_true rfl) ?_
        refine ev_iinc (v := (nI (i + 1))) (ls' := [_, _, _, _, none, none, none, none, none, none, none]) d_X_walk_71 rfl (nI_1 _) (by decide) rfl rfl ?_
        refine ev_goto d_X_walk_74 ?_
        refine ih (i + 1) (x + y) _ (by omega) (by omega) (by rw [hx, hJ]; rfl) ⟨mset_eq _ _ _, ?_, ?_, fun t ht => ?_⟩
        · rw [mset_ne _ _ (by omega)]; exact q1
        · rw [mset_ne _ _ (by omega)]; exact q2
        · rw [mset_ne _ _ (by omega)]; exact q3 t ht
      refine ev_iload_n d_X_walk_45 rfl rfl ?_
      refine ev_iload_n d_X_walk_46 rfl rfl ?_
      refine ev_ishr d_X_walk_47 ?_
      refine ev_iconst (v := (nI (1))) d_X_walk_48 (by decide) ?_
      refine ev_iand d_X_walk_49 ?_
      refine ev_topi (w := (b2 (S.testBit i))) (bit_shr S hS i (by omega)) ?_
      refine ev_iconst (v := (nI (1))) d_X_walk_50 (by decide) ?_
      refine ev_icmp_ne d_X_walk_51 (fun c_51 => ?_) (fun c_51 => ?_)
      ·
        have c_51 := b2_not1 c_51
        refine ev_lconst (v := lN 0) d_X_walk_66 (by decide) ?_
        exact hJ_67 (0) (by rw [c_51]; rfl)
      ·
        have c_51 := b2_is1 c_51
        refine ev_aload_n d_X_walk_54 rfl rfl ?_
        refine ev_getf (kf := 4) (T := F_X) (C := R_X) (N := 14) (v := .ref (G.1 + 3)) d_X_walk_55 fl_X_19 rfl i_X (by decide) (by omega) x0 rfl ?_
        refine ev_iload_n d_X_walk_58 rfl rfl ?_
        refine ev_aald (j := i) d_X_walk_59 (by omega) x3 (by decide) (by omega) (by decide) ?_
        refine ev_top (w := .ref (G.1 + ik i)) (by rw [if_pos c_37]; rfl) ?_
        refine ev_getN (kf := 2) (T := F_I) (C := R_I) (N := 6) (v := .long (lN (c.ce i))) d_X_walk_60 fl_X_173 rfl i_I (by decide) (xi i c_37).2.1 (xi i c_37).2.2 rfl ?_
        refine ev_goto d_X_walk_63 ?_
        exact hJ_67 (c.ce i) (by rw [c_51]; rfl)
theorem lp_X_walkB {Q : Oc → Nat → Mem → Prop} {ν : Mem} (h : Ev G k_X_walk (d + 3) 0 0 88 [some (.ref (G.1 + 0)), some (.int (nI (S))), some (.ref (G.1 + n)), some (.int (nI (0))), some (.int (nI (0))), some (.int (tc 6)), some (.int (nI (fc7 6))), none, none, none, none] [] (n + 3) ν Q) : Ev G k_X_walk (d + 3) 0 0 77 [some (.ref (G.1 + 0)), some (.int (nI (S))), some (.ref (G.1 + n)), none, none, none, none, none, none, none, none] [] (n + 3) ν Q := by
  refine ev_iconst (v := (nI (0))) d_X_walk_77 (by decide) ?_
  refine ev_istore_n (ls' := [_, _, _, _, none, none, none, none, none, none, none]) d_X_walk_78 rfl (by decide) rfl rfl ?_
  refine ev_iconst (v := (nI (0))) d_X_walk_79 (by decide) ?_
  refine ev_istore (ls' := [_, _, _, _, _, none, none, none, none, none, none]) d_X_walk_80 (by decide) rfl rfl ?_
  refine ev_iconst (v := (iI ((-1)))) d_X_walk_82 (by decide) ?_
  refine ev_istore (ls' := [_, _, _, _, _, _, none, none, none, none, none]) d_X_walk_83 (by decide) rfl rfl ?_
  refine ev_iconst (v := (nI (0))) d_X_walk_85 (by decide) ?_
  refine ev_istore (ls' := [_, _, _, _, _, _, _, none, none, none, none]) d_X_walk_86 (by decide) rfl rfl ?_
  exact h
theorem ct_X_walk (hX : XM G n μ c lx ik tb tl ts lat) (hc : CfOK c) (hlx : LxOK c lx) (hS : S < 64) (hSm : S < 2 ^ c.mn) (hF : FinX c S tb 0) {p : Nat × Nat} (hD : DvS c S 0 6 0 = some p) : Ct G k_X_walk (d + 3) 3 88 [.ref (G.1 + 0), .int (nI S)] n μ (fun (o : Oc) (n' : Nat) (μ' : Mem) => o = .inl (some (.ref (G.1 + n))) ∧ n' = n + 3 ∧ PM G (n + 3) μ' n (wk c S.testBit (Eq' S) (c.st + 1) 0 6 0).1 S p.1 p.2 ∧ ∀ t, t < n → μ' t = μ t) := by
  generalize hQ : (fun (o : Oc) (n' : Nat) (μ' : Mem) => o = .inl (some (.ref (G.1 + n))) ∧ n' = n + 3 ∧ PM G (n + 3) μ' n (wk c S.testBit (Eq' S) (c.st + 1) 0 6 0).1 S p.1 p.2 ∧ ∀ t, t < n → μ' t = μ t) = Q
  refine Ct.ofp (r := 9) (ls := [some (.ref (G.1 + 0)), some (.int (nI (S))), none, none, none, none, none, none, none, none, none]) rfl (Nat.le_of_ble_eq_true rfl) ?_
  obtain ⟨hn, x0, x1, x2, x3, x4, x5, x11, x12, x18, x19, xi, xj⟩ := id hX
  obtain ⟨⟨hst1, hst2⟩, hfr, hpn, hpp, hmn, hwd, hnd, hpu, hnr, hbr, hle, hdef⟩ := id hc
  refine ev_new (rc := 2) (rs := 82) (ci := 2) (C := R_P) (T := F_P) (N := 6) (fs := [.null, .null, .int 0, .int 0, .long 0, .long 0]) (ty := t_P) d_X_walk_0 cl_X_163 in_P iz_P rfl i_P t_P_ok (by decide) ?_
  refine ev_dup d_X_walk_3 rfl ?_
  refine cin (rc := 0) (rs := 0) (k' := k_P_init) (As := []) (stk := [.ref (G.1 + n)]) d_X_walk_4 ml_X_165 kk_P_init rfl rfl (Nat.le_of_ble_eq_true rfl) (ct_P_init (d := d + 1) (Nat.lt_succ_self n) (mset_eq _ _ _)) (af fun n1 ν hq => ?_)
  obtain ⟨rfl, q0, q1, q2, q3⟩ := hq
  have q3 : ∀ t, t < n → ν t = μ t := fun t ht => (q3 t (by omega) (by omega)).trans (mset_ne _ _ (by omega))
  have hXv : XM G (n + 1 + 2) ν c lx ik tb tl ts lat := hX.frame (by omega) (fun t ht _ => q3 t ht)
  obtain ⟨hn, x0, x1, x2, x3, x4, x5, x11, x12, x18, x19, xi, xj⟩ := id hXv
  obtain ⟨⟨hst1, hst2⟩, hfr, hpn, hpp, hmn, hwd, hnd, hpu, hnr, hbr, hle, hdef⟩ := id hc
  refine ev_astore_n (ls' := [_, _, _, none, none, none, none, none, none, none, none]) d_X_walk_7 rfl (by decide) rfl rfl ?_
  refine ev_aload_n d_X_walk_8 rfl rfl ?_
  refine ev_iload_n d_X_walk_9 rfl rfl ?_
  refine ev_putN (kf := 3) (T := F_P) (C := R_P) (N := 6) (ty0 := t_P) d_X_walk_10 fl_X_166 rfl i_P t_P_ok n_P (by decide) rfl rfl rfl rfl (by omega) q0 (Nat.le_of_ble_eq_true rfl) ?_
  refine ev_aload_n d_X_walk_13 rfl rfl ?_
  have x0 := (mset_ne ν (t := n) (j := 0) (ob 2 [.ref (G.1 + (n + 1)), .ref (G.1 + (n + 1 + 1)), .int 0, .int (nI S), .long 0, .long 0]) (by omega)).trans x0
  refine ev_aload_n d_X_walk_14 rfl rfl ?_
  refine ev_getf (kf := 10) (T := F_X) (C := R_X) (N := 14) (v := .ref (G.1 + 18)) d_X_walk_15 fl_X_34 rfl i_X (by decide) (by omega) x0 rfl ?_
  refine ev_iconst (v := (nI (0))) d_X_walk_18 (by decide) ?_
  refine ev_iconst (v := (nI (0))) d_X_walk_19 (by decide) ?_
  refine ev_bipush (v := (nI (6))) d_X_walk_20 (by decide) ?_
  refine ev_iconst (v := (nI (0))) d_X_walk_22 (by decide) ?_
  refine cs (mc' := 0) (ms' := 0) (k' := k_X_cell) (As := [.int (nI (0)), .int (nI (0)), .int (nI (6)), .int (nI (0))]) (stk := [.ref (G.1 + 18), .ref (G.1 + n)]) d_X_walk_23 ml_X_133 kk_X_cell rfl rfl (Nat.le_of_ble_eq_true rfl) (ct_X_cell (d := d + 2) 0 0 6 0) (rd ?_)
  refine ev_lald (j := ((0 * 64 + 0) * 7 + 6) * 2 + 0) d_X_walk_26 (by omega) ((mset_ne _ _ (by omega)).trans x18) (by decide) (by decide) ?_
  refine ev_topl (w := lN p.1) ((hF 0 6 0 (by omega) (by omega) (by omega) (by omega) (fun j hj => by rw [Nat.zero_testBit] at hj; cases hj) (fun q => by omega)).trans (by rw [hD]; rfl)) ?_
  refine ev_putN (kf := 4) (T := F_P) (C := R_P) (N := 6) (ty0 := t_P) d_X_walk_27 fl_X_169 rfl i_P t_P_ok n_P (by decide) rfl rfl rfl rfl (by omega) (mset_eq _ _ _) (Nat.le_of_ble_eq_true rfl) ?_
  rw [mset_mset]
  refine ev_iconst (v := (nI (0))) d_X_walk_30 (by decide) ?_
  refine ev_istore_n (ls' := [_, _, _, _, none, none, none, none, none, none, none]) d_X_walk_31 rfl (by decide) rfl rfl ?_
  have hst3 := DvS_start hc hSm hD
  refine lp_X_walkC hX hc hS (w := p.1) (fun ν' hP => ?_) (c.mn + 1) 0 0 _ (by omega) (by omega) rfl ⟨mset_eq _ _ _, ?_, ?_, fun t ht => ?_⟩
  · refine lp_X_walkB (h := ?_)
    subst hQ
    obtain ⟨r0, r1, r2, r3⟩ := hP
    refine lp_X_walk (ct := p.2) hX hc hlx hS hF (c.st + 1) 0 6 0 [] ν' p (by omega) (by omega) (by omega) (by omega) (fun q => by omega) (fun j hj => by rw [Nat.zero_testBit] at hj; cases hj) hD rfl ?_ r3 (by simp)
    have hss : ssm S c.ce c.mn ≤ 100000 * c.mn := sm_bnd c.mn (fun k hk => by have := hwd k hk; split <;> omega)
    refine ⟨by omega, by simp, (fun x hx => by cases hx), ⟨DvS_le hc (by omega) p hD, by omega, hS⟩, _, _, ?_, r1, r2, fun k x hx => by simp at hx⟩
    rw [r0, hst3.1]; rfl
  · rw [mset_ne _ _ (by omega)]; exact q1
  · rw [mset_ne _ _ (by omega)]; exact q2
  · rw [mset_ne _ _ (by omega)]; exact q3 t ht
end WK
