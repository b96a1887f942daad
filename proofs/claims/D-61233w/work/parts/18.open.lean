/-! ===== loops: tools; open stretches, needs ===== -/
def msk : List Bool → List (Option Value) → List (Option Value)
  | b :: bs, x :: xs => (if b then x else none) :: msk bs xs
  | _, _ => []
theorem msk_len : ∀ (bs : List Bool) (xs : List (Option Value)), (msk bs xs).length ≤ xs.length
  | [], xs => by simp [msk]
  | b :: bs, [] => by simp [msk]
  | b :: bs, x :: xs => by simp [msk]; exact msk_len bs xs
theorem msk_get : ∀ (bs : List Bool) (xs : List (Option Value)) (i : Nat) (v : Value), (msk bs xs)[i]? = some (some v) → xs[i]? = some (some v)
  | [], xs, i, v, h => by simp [msk] at h
  | b :: bs, [], i, v, h => by simp [msk] at h
  | b :: bs, x :: xs, 0, v, h => by
    simp only [msk, List.getElem?_cons_zero, Option.some.injEq] at h ⊢
    cases b with
    | true => simpa using h
    | false => simp at h
  | b :: bs, x :: xs, i + 1, v, h => by
    simp only [msk, List.getElem?_cons_succ] at h ⊢
    exact msk_get bs xs i v h
theorem Ev.fg {G : Gm} {k : Mk} {d rc rs pc : Nat} {ls ls' : List (Option Value)} {stk : List Value} {n : Nat} {μ : Mem} {Q : Oc → Nat → Mem → Prop} (bs : List Bool) (e : msk bs ls = ls') (h : Ev G k d rc rs pc ls' stk n μ Q) : Ev G k d rc rs pc ls stk n μ Q := by
  subst e
  exact Ev.fgt (msk_len bs ls) (fun i v h => msk_get bs ls i v h) h
theorem any_succ (P : Nat → Bool) (i : Nat) : (List.range (i + 1)).any P = ((List.range i).any P || P i) := by
  rw [List.range_succ, List.any_append]; simp
theorem all_succ (P : Nat → Bool) (i : Nat) : (List.range (i + 1)).all P = ((List.range i).all P && P i) := by
  rw [List.range_succ, List.all_append]; simp
theorem b2_or (a b : Bool) : b2 a ||| b2 b = b2 (a || b) := by cases a <;> cases b <;> decide
theorem b2_and (a b : Bool) : b2 a &&& b2 b = b2 (a && b) := by cases a <;> cases b <;> decide
theorem b2_not1 {b : Bool} (h : ¬ b2 b = nI 1) : b = false := by cases b with | false => rfl | true => exact absurd rfl h
theorem b2_is1 {b : Bool} (h : b2 b = nI 1) : b = true := by cases b with | true => rfl | false => exact absurd h (by decide)
theorem bit_shr : ∀ u, u < 64 → ∀ i, i < 6 → (nI u >>> (nI i &&& 31)) &&& nI 1 = b2 (u.testBit i) := by decide +kernel
theorem bit_or : ∀ u, u < 64 → ∀ i, i < 6 → nI u ||| (nI 1 <<< (nI i &&& 31)) = nI (u ||| 2 ^ i) := by decide +kernel
theorem bit_shl : ∀ i, i < 7 → nI 1 <<< (nI i &&& 31) = nI (2 ^ i) := by decide +kernel
theorem or_lt : ∀ u, u < 64 → ∀ i, i < 6 → u ||| 2 ^ i < 64 := by decide +kernel
theorem max_iI {a b : Int} (h1 : -2147483648 ≤ a) (h2 : a < 2147483648) (h3 : -2147483648 ≤ b) (h4 : b < 2147483648) : (if iI b ≤ iI a then iI a else iI b) = iI (max a b) := by
  by_cases h : b ≤ a
  · rw [if_pos ((iI_leI h3 h4 h1 h2).mpr h), Int.max_eq_left h]
  · rw [if_neg (fun q => h ((iI_leI h3 h4 h1 h2).mp q)), Int.max_eq_right (by omega)]
def opn (c : Cf) (f w : Nat) : Bool := decide (f + w ≤ c.st) && (List.range w).all (fun j => !c.fr (f + j))
def farZ (c : Cf) (k : Nat) (f : Int) (i : Nat) : Int := max 0 (max (f - c.pp i) (c.pp i - (f + c.wd k - 1)))
def metB (c : Cf) (k : Nat) (f : Int) : Bool := decide (c.nd k = -1) || (List.range c.pn).any (fun i => decide (farZ c k f i ≤ c.nd k))
section OP
variable {G : Gm} {d n : Nat} {μ : Mem} {c : Cf} {lx : Nat} {ik : Nat → Nat} {tb : Nat → Int64} {tl : Nat} {ts : Nat → Int32} {lat : Value}
/-- the first step from s on that is not free -/
def Cf.bfA (c : Cf) : Nat → Nat → Nat
  | 0, s => s
  | m + 1, s => if c.fr s then Cf.bfA c m (s + 1) else s
def Cf.bf (c : Cf) (s : Nat) : Nat := c.bfA 41 s
theorem bfA_more {c : Cf} (hc : CfOK c) : ∀ (m s : Nat), c.st ≤ s + m → c.bfA (m + 1) s = c.bfA m s
  | 0, s, h => by
    have : c.fr s = false := by cases hf : c.fr s with | false => rfl | true => have := hc.2.1 s hf; omega
    simp [Cf.bfA, this]
  | m + 1, s, h => by
    have ih := bfA_more hc m (s + 1) (by omega)
    show (if c.fr s = true then c.bfA (m + 1) (s + 1) else s) = (if c.fr s = true then c.bfA m (s + 1) else s)
    rw [ih]
theorem bf_step {c : Cf} (hc : CfOK c) (s : Nat) (h : c.fr s = true) : c.bf s = c.bf (s + 1) := by
  show c.bfA 41 s = c.bfA 41 (s + 1)
  have h2 := hc.1.2
  have := bfA_more hc 40 (s + 1) (by omega)
  rw [this, Cf.bfA, if_pos h]
theorem bf_stop {c : Cf} (s : Nat) (h : c.fr s = false) : c.bf s = s := by
  show c.bfA 41 s = s
  rw [Cf.bfA, h]; rfl
theorem bfA_le {c : Cf} (hc : CfOK c) : ∀ (m s : Nat), s ≤ c.st → s ≤ c.bfA m s ∧ c.bfA m s ≤ c.st
  | 0, s, h => ⟨Nat.le_refl _, h⟩
  | m + 1, s, h => by
    rw [Cf.bfA]
    split
    · next hf =>
      have := hc.2.1 s hf
      have := bfA_le hc m (s + 1) (by omega)
      omega
    · omega
theorem bf_le {c : Cf} (hc : CfOK c) {s : Nat} (h : s ≤ c.st) : s ≤ c.bf s ∧ c.bf s ≤ c.st := bfA_le hc 41 s h
theorem bf_lt {c : Cf} (hc : CfOK c) {s : Nat} (h : c.fr s = true) : s < c.bf s := by
  rw [bf_step hc s h]
  have := hc.2.1 s h
  have := bf_le hc (s := s + 1) (by omega)
  omega
theorem lp_X_behindFree {s0 : Nat} (hX : XM G n μ c lx ik tb tl ts lat) (hc : CfOK c) : ∀ (m : Nat) (s : Nat), s ≤ c.st → c.st < s + m → c.bf s = c.bf s0 → Ev G k_X_behindFree (d) 0 0 2 [some (.ref (G.1 + 0)), some (.int (nI (s0))), some (.int (nI (s)))] [] n μ ((Rd (some (.int (nI (c.bf s0)))) n μ)) := by
  obtain ⟨hn, x0, x1, x2, x3, x4, x5, x11, x12, x18, x19, xi, xj⟩ := id hX
  obtain ⟨⟨hst1, hst2⟩, hfr, hpn, hpp, hmn, hwd, hnd, hpu, hnr, hbr, hle, hdef⟩ := id hc
  generalize hQ : (Rd (some (.int (nI (c.bf s0)))) n μ) = Q
  intro m
  induction m with
  | zero =>
    intro s h1 h2
    exact absurd h2 (by omega)
  | succ m ih =>
    intro s hi him hb
    refine ev_aload_n d_X_behindFree_2 rfl rfl ?_
    refine ev_getf (kf := 1) (T := F_X) (C := R_X) (N := 14) (v := .ref (G.1 + 1)) d_X_behindFree_3 fl_X_7 rfl i_X (by decide) (by omega) x0 rfl ?_
    refine ev_iload_n d_X_behindFree_6 rfl rfl ?_
    refine ev_zald (j := s) d_X_behindFree_7 (by omega) x1 (by omega) (by decide) ?_
    refine ev_if_eq d_X_behindFree_8 (fun c_8 => ?_) (fun c_8 => ?_)
    ·
      have c_8 := b2_f c_8
      refine ev_iload_n d_X_behindFree_17 rfl rfl ?_
      refine ev_ireturn d_X_behindFree_18 rfl rfl ?_
      subst hQ
      rw [← hb, bf_stop s c_8]; exact ⟨rfl, rfl, rfl⟩
    ·
      have c_8 := b2_t c_8
      refine ev_iinc (v := (nI (s + 1))) (ls' := [_, _, _]) d_X_behindFree_11 rfl (nI_1 _) (by decide) rfl rfl ?_
      refine ev_goto d_X_behindFree_14 ?_
      have := hfr s c_8
      exact ih (s + 1) (by omega) (by omega) (by rw [← hb, bf_step hc s c_8])
theorem ct_X_behindFree {s0 : Nat} (hX : XM G n μ c lx ik tb tl ts lat) (hc : CfOK c) (hs : s0 ≤ c.st) : Ct G k_X_behindFree d 0 0 [.ref (G.1 + 0), .int (nI s0)] n μ (Rd (some (.int (nI (c.bf s0)))) n μ) := by
  obtain ⟨hn, x0, x1, x2, x3, x4, x5, x11, x12, x18, x19, xi, xj⟩ := id hX
  obtain ⟨⟨hst1, hst2⟩, hfr, hpn, hpp, hmn, hwd, hnd, hpu, hnr, hbr, hle, hdef⟩ := id hc
  generalize hQ : (Rd (some (.int (nI (c.bf s0)))) n μ) = Q
  refine Ct.ofp (r := 1) (ls := [some (.ref (G.1 + 0)), some (.int (nI (s0))), none]) rfl (Nat.le_of_ble_eq_true rfl) ?_
  refine ev_iload_n d_X_behindFree_0 rfl rfl ?_
  refine ev_istore_n (ls' := [_, _, _]) d_X_behindFree_1 rfl (by decide) rfl rfl ?_
  subst hQ
  exact lp_X_behindFree hX hc (c.st + 1) s0 hs (by omega) rfl
theorem lp_X_isOpen {f w : Nat} (hf : f ≤ 40) (hw : w ≤ 40) (hX : XM G n μ c lx ik tb tl ts lat) (hc : CfOK c) : ∀ (m : Nat) (i : Nat) (op : Bool), i ≤ w → w < i + m → op = (decide (f + w ≤ c.st) && (List.range i).all (fun j => !c.fr (f + j))) → Ev G k_X_isOpen (d) 0 0 19 [some (.ref (G.1 + 0)), some (.int (nI (f))), some (.int (nI (w))), some (.int (b2 (op))), some (.int (nI (f + i)))] [] n μ ((Rd (some (.int (b2 (opn c f w)))) n μ)) := by
  obtain ⟨hn, x0, x1, x2, x3, x4, x5, x11, x12, x18, x19, xi, xj⟩ := id hX
  obtain ⟨⟨hst1, hst2⟩, hfr, hpn, hpp, hmn, hwd, hnd, hpu, hnr, hbr, hle, hdef⟩ := id hc
  generalize hQ : (Rd (some (.int (b2 (opn c f w)))) n μ) = Q
  intro m
  induction m with
  | zero =>
    intro i op h1 h2
    exact absurd h2 (by omega)
  | succ m ih =>
    intro i op hi him hop
    refine ev_iload d_X_isOpen_19 rfl ?_
    refine ev_iload_n d_X_isOpen_21 rfl rfl ?_
    refine ev_iload_n d_X_isOpen_22 rfl rfl ?_
    refine ev_iadd d_X_isOpen_23 ?_
    refine ev_topi (w := (nI (f + w))) (nI_add _ _) ?_
    refine ev_icmp_ge d_X_isOpen_24 (fun c_24 => ?_) (fun c_24 => ?_)
    ·
      simp (disch := omega) only [nI_ltI, nI_leI, nI_eq, Nat.not_lt, Nat.not_le] at c_24
      refine ev_iload_n d_X_isOpen_53 rfl rfl ?_
      refine ev_ireturn d_X_isOpen_54 rfl (b2_nar _) ?_
      subst hQ
      refine retb ?_
      first
      | (have hiw : i = w := by omega
         subst hiw; rw [hop]; rfl)
      | (rw [c_28] at hop
         rw [c_28]
         simp only [opn, Bool.and_eq_false_iff]
         have hop := hop.symm
         simp only [Bool.and_eq_false_iff] at hop
         rcases hop with h | h
         · exact Or.inl h
         · refine Or.inr ?_
           simp only [List.all_eq_false, List.mem_range] at h ⊢
           obtain ⟨x, hx, hx2⟩ := h
           exact ⟨x, by omega, hx2⟩)
    ·
      simp (disch := omega) only [nI_ltI, nI_leI, nI_eq, Nat.not_lt, Nat.not_le] at c_24
      refine ev_iload_n d_X_isOpen_27 rfl rfl ?_
      refine ev_if_eq d_X_isOpen_28 (fun c_28 => ?_) (fun c_28 => ?_)
      ·
        have c_28 := b2_f c_28
        refine ev_iload_n d_X_isOpen_53 rfl rfl ?_
        refine ev_ireturn d_X_isOpen_54 rfl (b2_nar _) ?_
        subst hQ
        refine retb ?_
        first
        | (have hiw : i = w := by omega
           subst hiw; rw [hop]; rfl)
        | (rw [c_28] at hop
           rw [c_28]
           simp only [opn, Bool.and_eq_false_iff]
           have hop := hop.symm
           simp only [Bool.and_eq_false_iff] at hop
           rcases hop with h | h
           · exact Or.inl h
           · refine Or.inr ?_
             simp only [List.all_eq_false, List.mem_range] at h ⊢
             obtain ⟨x, hx, hx2⟩ := h
             exact ⟨x, by omega, hx2⟩)
      ·
        have c_28 := b2_t c_28
        have hop2 := hop.symm.trans c_28
        simp only [Bool.and_eq_true, decide_eq_true_eq] at hop2
        refine ev_aload_n d_X_isOpen_31 rfl rfl ?_
        refine ev_getf (kf := 1) (T := F_X) (C := R_X) (N := 14) (v := .ref (G.1 + 1)) d_X_isOpen_32 fl_X_7 rfl i_X (by decide) (by omega) x0 rfl ?_
        refine ev_iload d_X_isOpen_35 rfl ?_
        refine ev_zald (j := f + i) d_X_isOpen_37 (by omega) x1 (by omega) (by decide) ?_
        have hJ_46 : ∀ b : Bool, b = !c.fr (f + i) → Ev G k_X_isOpen (d) 0 0 46 [some (.ref (G.1 + 0)), some (.int (nI (f))), some (.int (nI (w))), some (.int (b2 (op))), some (.int (nI (f + i)))] [.int (b2 (b))] n μ Q := by
          intro b hJ
          refine ev_istore_n (ls' := [_, _, _, _, _]) d_X_isOpen_46 rfl (by decide) rfl rfl ?_
          refine ev_iinc (v := (nI (f + i + 1))) (ls' := [_, _, _, _, _]) d_X_isOpen_47 rfl (nI_1 _) (by decide) rfl rfl ?_
          refine ev_goto d_X_isOpen_50 ?_
          exact ih (i + 1) b (by omega) (by omega) (by rw [all_succ, ← Bool.and_assoc, ← hop, c_28, hJ]; simp)
        refine ev_if_ne d_X_isOpen_38 (fun c_38 => ?_) (fun c_38 => ?_)
        ·
          have c_38 := b2_t c_38
          refine ev_iconst (v := (nI (0))) d_X_isOpen_45 (by decide) ?_
          exact hJ_46 false (by rw [c_38]; rfl)
        ·
          have c_38 := b2_f c_38
          refine ev_iconst (v := (nI (1))) d_X_isOpen_41 (by decide) ?_
          refine ev_goto d_X_isOpen_42 ?_
          exact hJ_46 true (by rw [c_38]; rfl)
theorem ct_X_isOpen {f w : Nat} (hf : f ≤ 40) (hw : w ≤ 40) (hX : XM G n μ c lx ik tb tl ts lat) (hc : CfOK c) : Ct G k_X_isOpen d 0 0 [.ref (G.1 + 0), .int (nI f), .int (nI w)] n μ (Rd (some (.int (b2 (opn c f w)))) n μ) := by
  obtain ⟨hn, x0, x1, x2, x3, x4, x5, x11, x12, x18, x19, xi, xj⟩ := id hX
  obtain ⟨⟨hst1, hst2⟩, hfr, hpn, hpp, hmn, hwd, hnd, hpu, hnr, hbr, hle, hdef⟩ := id hc
  generalize hQ : (Rd (some (.int (b2 (opn c f w)))) n μ) = Q
  refine Ct.ofp (r := 2) (ls := [some (.ref (G.1 + 0)), some (.int (nI (f))), some (.int (nI (w))), none, none]) rfl (Nat.le_of_ble_eq_true rfl) ?_
  refine ev_iload_n d_X_isOpen_0 rfl rfl ?_
  refine ev_iload_n d_X_isOpen_1 rfl rfl ?_
  refine ev_iadd d_X_isOpen_2 ?_
  refine ev_topi (w := (nI (f + w))) (nI_add _ _) ?_
  refine ev_aload_n d_X_isOpen_3 rfl rfl ?_
  refine ev_getf (kf := 0) (T := F_X) (C := R_X) (N := 14) (v := .int (nI (c.st))) d_X_isOpen_4 fl_X_50 rfl i_X (by decide) (by omega) x0 rfl ?_
  have hJ_15 : ∀ b : Bool, b = decide (f + w ≤ c.st) → Ev G k_X_isOpen (d) 0 0 15 [some (.ref (G.1 + 0)), some (.int (nI (f))), some (.int (nI (w))), none, none] [.int (b2 (b))] n μ Q := by
    intro b hJ
    refine ev_istore_n (ls' := [_, _, _, _, none]) d_X_isOpen_15 rfl (by decide) rfl rfl ?_
    refine ev_iload_n d_X_isOpen_16 rfl rfl ?_
    refine ev_istore (ls' := [_, _, _, _, _]) d_X_isOpen_17 (by decide) rfl rfl ?_
    subst hQ
    exact lp_X_isOpen hf hw hX hc (w + 1) 0 b (by omega) (by omega) (by rw [hJ]; simp)
  refine ev_icmp_gt d_X_isOpen_7 (fun c_7 => ?_) (fun c_7 => ?_)
  ·
    simp (disch := omega) only [nI_ltI, nI_leI, nI_eq, Nat.not_lt, Nat.not_le] at c_7
    refine ev_iconst (v := (nI (0))) d_X_isOpen_14 (by decide) ?_
    exact hJ_15 false (by simp; omega)
  ·
    simp (disch := omega) only [nI_ltI, nI_leI, nI_eq, Nat.not_lt, Nat.not_le] at c_7
    refine ev_iconst (v := (nI (1))) d_X_isOpen_10 (by decide) ?_
    refine ev_goto d_X_isOpen_11 ?_
    exact hJ_15 true (by simp; omega)
theorem lp_X_isMet {k : Nat} {f : Int} (hk : k < c.mn) (hf1 : -200 ≤ f) (hf2 : f ≤ 200) (hX : XM G n μ c lx ik tb tl ts lat) (hc : CfOK c) : ∀ (m : Nat) (i : Nat) (mt : Bool), i ≤ c.pn → c.pn < i + m → mt = (decide (c.nd k = -1) || (List.range i).any (fun i => decide (farZ c k f i ≤ c.nd k))) → Ev G k_X_isMet (d + 1) 0 0 17 [some (.ref (G.1 + 0)), some (.ref (G.1 + ik k)), some (.int (iI (f))), some (.int (b2 (mt))), some (.int (nI (i))), none, none] [] n μ ((Rd (some (.int (b2 (metB c k f)))) n μ)) := by
  obtain ⟨hn, x0, x1, x2, x3, x4, x5, x11, x12, x18, x19, xi, xj⟩ := id hX
  obtain ⟨⟨hst1, hst2⟩, hfr, hpn, hpp, hmn, hwd, hnd, hpu, hnr, hbr, hle, hdef⟩ := id hc
  have hwk := hwd k hk
  have hnk := hnd k
  generalize hQ : (Rd (some (.int (b2 (metB c k f)))) n μ) = Q
  intro m
  induction m with
  | zero =>
    intro i mt h1 h2
    exact absurd h2 (by omega)
  | succ m ih =>
    intro i mt hi him hmt
    refine ev_iload d_X_isMet_17 rfl ?_
    refine ev_aload_n d_X_isMet_19 rfl rfl ?_
    refine ev_getf (kf := 3) (T := F_X) (C := R_X) (N := 14) (v := .int (nI (c.pn))) d_X_isMet_20 fl_X_78 rfl i_X (by decide) (by omega) x0 rfl ?_
    refine ev_icmp_ge d_X_isMet_23 (fun c_23 => ?_) (fun c_23 => ?_)
    ·
      simp (disch := omega) only [nI_ltI, nI_leI, nI_eq, Nat.not_lt, Nat.not_le] at c_23
      refine ev_iload_n d_X_isMet_87 rfl rfl ?_
      refine ev_ireturn d_X_isMet_88 rfl (b2_nar _) ?_
      subst hQ
      refine retb ?_
      have hip : i = c.pn := by omega
      subst hip; rw [hmt]; rfl
    ·
      simp (disch := omega) only [nI_ltI, nI_leI, nI_eq, Nat.not_lt, Nat.not_le] at c_23
      have hpi := hpp i c_23
      refine ev_iload_n d_X_isMet_26 rfl rfl ?_
      refine ev_aload_n d_X_isMet_27 rfl rfl ?_
      refine ev_getf (kf := 2) (T := F_X) (C := R_X) (N := 14) (v := .ref (G.1 + 2)) d_X_isMet_28 fl_X_13 rfl i_X (by decide) (by omega) x0 rfl ?_
      refine ev_iload d_X_isMet_31 rfl ?_
      refine ev_iald (j := i) d_X_isMet_33 (by omega) x2 (by omega) (by decide) ?_
      refine ev_isub d_X_isMet_34 ?_
      refine ev_topi (w := (iI (f - (c.pp i : Int)))) (by (try simp only [nI_iI, iI_add, iI_sub, iI_mul]); (try rfl)) ?_
      refine ev_istore (ls' := [_, _, _, _, _, _, none]) d_X_isMet_35 (by decide) rfl rfl ?_
      refine ev_aload_n d_X_isMet_37 rfl rfl ?_
      refine ev_getf (kf := 2) (T := F_X) (C := R_X) (N := 14) (v := .ref (G.1 + 2)) d_X_isMet_38 fl_X_13 rfl i_X (by decide) (by omega) x0 rfl ?_
      refine ev_iload d_X_isMet_41 rfl ?_
      refine ev_iald (j := i) d_X_isMet_43 (by omega) x2 (by omega) (by decide) ?_
      refine ev_iload_n d_X_isMet_44 rfl rfl ?_
      refine ev_aload_n d_X_isMet_45 rfl rfl ?_
      refine ev_getN (kf := 0) (T := F_I) (C := R_I) (N := 6) (v := .int (nI (c.wd k))) d_X_isMet_46 fl_X_122 rfl i_I (by decide) (xi k hk).2.1 (xi k hk).2.2 rfl ?_
      refine ev_iadd d_X_isMet_49 ?_
      refine ev_topi (w := (iI (f + (c.wd k : Int)))) (by (try simp only [nI_iI, iI_add, iI_sub, iI_mul]); (try rfl)) ?_
      refine ev_iconst (v := (nI (1))) d_X_isMet_50 (by decide) ?_
      refine ev_isub d_X_isMet_51 ?_
      refine ev_topi (w := (iI ((f + (c.wd k : Int)) - (1 : Int)))) (by (try simp only [nI_iI, iI_add, iI_sub, iI_mul]); (try rfl)) ?_
      refine ev_isub d_X_isMet_52 ?_
      refine ev_topi (w := (iI ((c.pp i : Int) - ((f + (c.wd k : Int)) - (1 : Int))))) (by (try simp only [nI_iI, iI_add, iI_sub, iI_mul]); (try rfl)) ?_
      refine ev_istore (ls' := [_, _, _, _, _, _, _]) d_X_isMet_53 (by decide) rfl rfl ?_
      refine ev_iload_n d_X_isMet_55 rfl rfl ?_
      refine ev_iconst (v := (nI (0))) d_X_isMet_56 (by decide) ?_
      refine ev_iload d_X_isMet_57 rfl ?_
      refine ev_iload d_X_isMet_59 rfl ?_
      refine cs (k' := k_J_max) (As := [.int (iI (f - (c.pp i : Int))), .int (iI ((c.pp i : Int) - ((f + (c.wd k : Int)) - (1 : Int))))]) (stk := [.int (nI (0)), .int (b2 (mt))]) d_X_isMet_61 ml_X_47 kk_J_max rfl rfl (Nat.le_of_ble_eq_true rfl) (ct_J_max _ _) (rd ?_)
      refine ev_topi (w := iI (max (f - c.pp i) (c.pp i - (f + c.wd k - 1)))) (max_iI (by omega) (by omega) (by omega) (by omega)) ?_
      refine ev_topi (w := iI (max (f - c.pp i) (c.pp i - (f + c.wd k - 1)))) rfl ?_
      refine cs (k' := k_J_max) (As := [.int (nI (0)), .int (iI (max (f - c.pp i) (c.pp i - (f + c.wd k - 1))))]) (stk := [.int (b2 (mt))]) d_X_isMet_64 ml_X_47 kk_J_max rfl rfl (Nat.le_of_ble_eq_true rfl) (ct_J_max _ _) (rd ?_)
      refine ev_topi (w := iI (farZ c k f i)) (max_iI (a := 0) (by omega) (by omega) (by omega) (by omega)) ?_
      refine ev_aload_n d_X_isMet_67 rfl rfl ?_
      refine ev_getN (kf := 3) (T := F_I) (C := R_I) (N := 6) (v := .int (iI (c.nd k))) d_X_isMet_68 fl_X_105 rfl i_I (by decide) (xi k hk).2.1 (xi k hk).2.2 rfl ?_
      have hJ_79 : ∀ b : Bool, b = decide (farZ c k f i ≤ c.nd k) → Ev G k_X_isMet (d + 1) 0 0 79 [some (.ref (G.1 + 0)), some (.ref (G.1 + ik k)), some (.int (iI (f))), some (.int (b2 (mt))), some (.int (nI (i))), some (.int (iI (f - (c.pp i : Int)))), some (.int (iI ((c.pp i : Int) - ((f + (c.wd k : Int)) - (1 : Int)))))] [.int (b2 (b)), .int (b2 (mt))] n μ Q := by
        intro b hJ
        refine ev_ior d_X_isMet_79 ?_
        refine ev_topi (w := (b2 (mt || b))) (b2_or _ _) ?_
        refine ev_istore_n (ls' := [_, _, _, _, _, _, _]) d_X_isMet_80 rfl (by decide) rfl rfl ?_
        refine ev_iinc (v := (nI (i + 1))) (ls' := [_, _, _, _, _, _, _]) d_X_isMet_81 rfl (nI_1 _) (by decide) rfl rfl ?_
        refine ev_goto d_X_isMet_84 ?_
        subst hQ
        exact Ev.fg [true, true, true, true, true, false, false] rfl (ih (i + 1) (mt || b) (by omega) (by omega) (by rw [hmt, any_succ, Bool.or_assoc, hJ]))
      refine ev_icmp_gt d_X_isMet_71 (fun c_71 => ?_) (fun c_71 => ?_)
      ·
        have hfz : -1000 ≤ farZ c k f i ∧ farZ c k f i ≤ 1000 := by simp only [farZ]; omega
        simp (disch := omega) only [iI_ltI, Int.not_lt] at c_71
        refine ev_iconst (v := (nI (0))) d_X_isMet_78 (by decide) ?_
        exact hJ_79 false (by simp; omega)
      ·
        have hfz : -1000 ≤ farZ c k f i ∧ farZ c k f i ≤ 1000 := by simp only [farZ]; omega
        simp (disch := omega) only [iI_ltI, Int.not_lt] at c_71
        refine ev_iconst (v := (nI (1))) d_X_isMet_74 (by decide) ?_
        refine ev_goto d_X_isMet_75 ?_
        exact hJ_79 true (by simp; omega)
theorem ct_X_isMet {k : Nat} {f : Int} (hk : k < c.mn) (hf1 : -200 ≤ f) (hf2 : f ≤ 200) (hX : XM G n μ c lx ik tb tl ts lat) (hc : CfOK c) : Ct G k_X_isMet (d + 1) 0 0 [.ref (G.1 + 0), .ref (G.1 + ik k), .int (iI f)] n μ (Rd (some (.int (b2 (metB c k f)))) n μ) := by
  obtain ⟨hn, x0, x1, x2, x3, x4, x5, x11, x12, x18, x19, xi, xj⟩ := id hX
  obtain ⟨⟨hst1, hst2⟩, hfr, hpn, hpp, hmn, hwd, hnd, hpu, hnr, hbr, hle, hdef⟩ := id hc
  have hnk := hnd k
  generalize hQ : (Rd (some (.int (b2 (metB c k f)))) n μ) = Q
  refine Ct.ofp (r := 4) (ls := [some (.ref (G.1 + 0)), some (.ref (G.1 + ik k)), some (.int (iI (f))), none, none, none, none]) rfl (Nat.le_of_ble_eq_true rfl) ?_
  refine ev_aload_n d_X_isMet_0 rfl rfl ?_
  refine ev_getN (kf := 3) (T := F_I) (C := R_I) (N := 6) (v := .int (iI (c.nd k))) d_X_isMet_1 fl_X_105 rfl i_I (by decide) (xi k hk).2.1 (xi k hk).2.2 rfl ?_
  refine ev_iconst (v := (iI ((-1)))) d_X_isMet_4 (by decide) ?_
  have hJ_13 : ∀ b : Bool, b = decide (c.nd k = -1) → Ev G k_X_isMet (d + 1) 0 0 13 [some (.ref (G.1 + 0)), some (.ref (G.1 + ik k)), some (.int (iI (f))), none, none, none, none] [.int (b2 (b))] n μ Q := by
    intro b hJ
    refine ev_istore_n (ls' := [_, _, _, _, none, none, none]) d_X_isMet_13 rfl (by decide) rfl rfl ?_
    refine ev_iconst (v := (nI (0))) d_X_isMet_14 (by decide) ?_
    refine ev_istore (ls' := [_, _, _, _, _, none, none]) d_X_isMet_15 (by decide) rfl rfl ?_
    subst hQ
    exact lp_X_isMet hk hf1 hf2 hX hc (c.pn + 1) 0 b (by omega) (by omega) (by rw [hJ]; simp)
  refine ev_icmp_ne d_X_isMet_5 (fun c_5 => ?_) (fun c_5 => ?_)
  ·
    simp (disch := omega) only [nI_iI, iI_ltI, iI_leI, iI_eq, Int.not_lt, Int.not_le] at c_5
    refine ev_iconst (v := (nI (0))) d_X_isMet_12 (by decide) ?_
    exact hJ_13 false (by simp; omega)
  ·
    simp (disch := omega) only [nI_iI, iI_ltI, iI_leI, iI_eq, Int.not_lt, Int.not_le] at c_5
    refine ev_iconst (v := (nI (1))) d_X_isMet_8 (by decide) ?_
    refine ev_goto d_X_isMet_9 ?_
    exact hJ_13 true (by simp; omega)
end OP
