/-! ===== longs by their integers; guards; the class's world moved ===== -/
def LZ (x : Int64) (z : Int) : Prop := x.toInt = z
theorem LZ_n {n : Nat} (h : n < 2 ^ 31) : LZ (lN n) (n : Int) := lN_toInt h
theorem LZ_z {z : Int} (h1 : -2147483648 ≤ z) (h2 : z < 2147483648) : LZ (iI z).toInt64 z := by
  show (iI z).toInt64.toInt = z
  rw [Int32.toInt_toInt64, iI_toInt h1 h2]
theorem LZ_of (x : Int64) : LZ x x.toInt := rfl
theorem Int64.ofI {z : Int} (h1 : -2147483648 * 4 ≤ z) (h2 : z < 2147483648 * 4) : (Int64.ofInt z).toInt = z := Int64.toInt_ofInt_of_le (by show -9223372036854775808 ≤ z; omega) (by show z < 9223372036854775808; omega)
theorem LZ_ofInt {x : Int64} {z : Int} (h : LZ x z) : x = Int64.ofInt z := by rw [← h, Int64.ofInt_toInt]
theorem LZ_sub {x y : Int64} {a b : Int} (h1 : LZ x a) (h2 : LZ y b) (h3 : -2147483648 * 4 ≤ a - b) (h4 : a - b < 2147483648 * 4) : LZ (x - y) (a - b) := by
  rw [LZ_ofInt h1, LZ_ofInt h2]
  show (Int64.ofInt a - Int64.ofInt b).toInt = a - b
  rw [← Int64.ofInt_sub, Int64.ofI h3 h4]
theorem LZ_add {x y : Int64} {a b : Int} (h1 : LZ x a) (h2 : LZ y b) (h3 : -2147483648 * 4 ≤ a + b) (h4 : a + b < 2147483648 * 4) : LZ (x + y) (a + b) := by
  rw [LZ_ofInt h1, LZ_ofInt h2]
  show (Int64.ofInt a + Int64.ofInt b).toInt = a + b
  rw [← Int64.ofInt_add, Int64.ofI h3 h4]
theorem LZ_le {x y : Int64} {a b : Int} (h1 : LZ x a) (h2 : LZ y b) : x ≤ y ↔ a ≤ b := by rw [Int64.le_iff_toInt_le, h1, h2]
theorem LZ_eq {x y : Int64} {a b : Int} (h1 : LZ x a) (h2 : LZ y b) : x = y ↔ a = b := by rw [← Int64.toInt_inj, h1, h2]
theorem lN_of {x : Int64} {n : Nat} (h : x.toInt = (n : Int)) (hn : n < 2 ^ 31) : x = lN n := by
  rw [← Int64.toInt_inj, h, lN_toInt hn]
theorem iI_of (x : Int32) : x = iI x.toInt := (Int32.ofInt_toInt x).symm
theorem in_ct {G : Gm} {k : Mk} {d n : Nat} {μ : Mem} {v a b : Int64} {v' a' b' : Int} (hv : LZ v v') (ha : LZ a a') (hb : LZ b b') (h : Ct G k d 0 0 [.long v, .long a, .long b] n μ (Rd (some (.int (b2 (decide (a ≤ v ∧ v ≤ b))))) n μ)) : Ct G k d 0 0 [.long v, .long a, .long b] n μ (Rd (some (.int (b2 (decide (a' ≤ v' ∧ v' ≤ b'))))) n μ) := by
  have e : decide (a' ≤ v' ∧ v' ≤ b') = decide (a ≤ v ∧ v ≤ b) := by
    rw [decide_eq_decide, LZ_le ha hv, LZ_le hv hb]
  rw [e]; exact h
theorem ct_X_isInV {G : Gm} {d n : Nat} {μ : Mem} {v a b : Int64} {v' a' b' : Int} (hv : LZ v v') (ha : LZ a a') (hb : LZ b b') : Ct G k_X_isIn d 0 0 [.long v, .long a, .long b] n μ (Rd (some (.int (b2 (decide (a' ≤ v' ∧ v' ≤ b'))))) n μ) := in_ct hv ha hb (ct_X_isIn v a b)
theorem ct_M_isInV {G : Gm} {d n : Nat} {μ : Mem} {v a b : Int64} {v' a' b' : Int} (hv : LZ v v') (ha : LZ a a') (hb : LZ b b') : Ct G k_M_isIn d 0 0 [.long v, .long a, .long b] n μ (Rd (some (.int (b2 (decide (a' ≤ v' ∧ v' ≤ b'))))) n μ) := in_ct hv ha hb (ct_M_isIn v a b)
/-- a thrown exception of class e, and nothing else -/
def XT (e n : Nat) (μ : Mem) : Oc → Nat → Mem → Prop := fun o n' μ' => o = .inr n ∧ n' = n + 1 ∧ μ' = mset μ n (ob e [])
section GD
variable {G : Gm} {k : Mk} {d rc rs pc n : Nat} {ls : List (Option Value)} {stk : List Value} {μ : Mem} {Q : Oc → Nat → Mem → Prop} {b : Bool} {e : Nat}
theorem gdT (hb : b = true) (h : Ev G k d rc rs pc ls stk n μ Q) : ∀ o n' μ', (if b then o = .inl none ∧ n' = n ∧ μ' = μ else o = .inr n ∧ n' = n + 1 ∧ μ' = mset μ n (ob e [])) → Aft G k d rc rs pc ls stk Q o n' μ' := by
  intro o n' μ' hq
  rw [if_pos hb] at hq
  obtain ⟨rfl, rfl, rfl⟩ := hq
  exact h
theorem gdF (hb : b = false) (h : Q (.inr n) (n + 1) (mset μ n (ob e []))) : ∀ o n' μ', (if b then o = .inl none ∧ n' = n ∧ μ' = μ else o = .inr n ∧ n' = n + 1 ∧ μ' = mset μ n (ob e [])) → Aft G k d rc rs pc ls stk Q o n' μ' := by
  intro o n' μ' hq
  rw [if_neg (by rw [hb]; decide)] at hq
  obtain ⟨rfl, rfl, rfl⟩ := hq
  exact h
theorem thr (h : Q (.inr n) (n + 1) (mset μ n (ob e []))) : ∀ o n' μ', XT e n μ o n' μ' → Aft G k d rc rs pc ls stk Q o n' μ' := by
  rintro o n' μ' ⟨rfl, rfl, rfl⟩
  exact h
end GD
section XMV
variable {G : Gm} {n : Nat} {μ : Mem} {c : Cf} {lx : Nat} {ik : Nat → Nat} {tb : Nat → Int64} {tl : Nat} {ts : Nat → Int32} {lat : Value}
/-- the object with other numbers in it -/
theorem XM.m0 (h : XM G n μ c lx ik tb tl ts lat) (c' : Cf) (lx' tl' : Nat) (lat' : Value) (e : c'.fr = c.fr ∧ c'.pp = c.pp ∧ c'.mn = c.mn ∧ c'.wd = c.wd ∧ c'.wo = c.wo ∧ c'.ce = c.ce ∧ c'.nd = c.nd ∧ c'.ms = c.ms ∧ c'.pu = c.pu ∧ c'.nr = c.nr ∧ c'.br = c.br) :
    XM G n (mset μ 0 (ob 0 [.int (nI c'.st), .ref (G.1 + 1), .ref (G.1 + 2), .int (nI c'.pn), .ref (G.1 + 3), .int (nI c'.mn), .ref (G.1 + 4), .ref (G.1 + 11), .int (nI lx'), .int (nI c'.mo), .ref (G.1 + 18), .ref (G.1 + 19), .int (nI tl'), lat'])) c' lx' ik tb tl' ts lat' := by
  obtain ⟨hn, x0, x1, x2, x3, x4, x5, x11, x12, x18, x19, xi, xj⟩ := h
  obtain ⟨e1, e2, e3, e4, e5, e6, e7, e8, e9, e10, e11⟩ := e
  refine ⟨hn, mset_eq _ _ _, ?_, ?_, ?_, ?_, fun i hi => ?_, ?_, fun i hi => ?_, ?_, ?_, fun k hk => ?_, ?_⟩
  · rw [mset_ne _ _ (by omega), e1]; exact x1
  · rw [mset_ne _ _ (by omega), e2]; exact x2
  · rw [mset_ne _ _ (by omega), e3]; exact x3
  · rw [mset_ne _ _ (by omega)]; exact x4
  · rw [mset_ne _ _ (by omega), e10]; exact x5 i hi
  · rw [mset_ne _ _ (by omega)]; exact x11
  · rw [mset_ne _ _ (by omega), e11]; exact x12 i hi
  · rw [mset_ne _ _ (by omega)]; exact x18
  · rw [mset_ne _ _ (by omega)]; exact x19
  · rw [e3] at hk
    have := xi k hk
    refine ⟨this.1, this.2.1, ?_⟩
    rw [mset_ne _ _ (by omega), e4, e5, e6, e7, e8, e9]; exact this.2.2
  · rw [e3]; exact xj
theorem XM.m1 (h : XM G n μ c lx ik tb tl ts lat) (g : Nat → Bool) : XM G n (mset μ 1 (aZ 41 (fun j => b2 (g j)))) (c.set_fr g) lx ik tb tl ts lat := by
  obtain ⟨hn, x0, x1, x2, x3, x4, x5, x11, x12, x18, x19, xi, xj⟩ := h
  refine ⟨hn, x0, rfl, x2, x3, x4, fun i hi => ?_, x11, fun i hi => ?_, x18, x19, fun k hk => ⟨(xi k hk).1, (xi k hk).2.1, ?_⟩, xj⟩
  · rw [mset_ne _ _ (by omega)]; exact x5 i hi
  · rw [mset_ne _ _ (by omega)]; exact x12 i hi
  · have := (xi k hk).1
    rw [mset_ne _ _ (by omega)]; exact (xi k hk).2.2
theorem XM.m2 (h : XM G n μ c lx ik tb tl ts lat) (g : Nat → Nat) : XM G n (mset μ 2 (aI 8 (fun j => nI (g j)))) (c.set_pp g) lx ik tb tl ts lat := by
  obtain ⟨hn, x0, x1, x2, x3, x4, x5, x11, x12, x18, x19, xi, xj⟩ := h
  refine ⟨hn, x0, x1, rfl, x3, x4, fun i hi => ?_, x11, fun i hi => ?_, x18, x19, fun k hk => ⟨(xi k hk).1, (xi k hk).2.1, ?_⟩, xj⟩
  · rw [mset_ne _ _ (by omega)]; exact x5 i hi
  · rw [mset_ne _ _ (by omega)]; exact x12 i hi
  · have := (xi k hk).1
    rw [mset_ne _ _ (by omega)]; exact (xi k hk).2.2
theorem XM.m5 (h : XM G n μ c lx ik tb tl ts lat) {i : Nat} (hi6 : i < 6) (g : Nat → Nat) : XM G n (mset μ (5 + i) (aJ 6 (fun j => lN (g j)))) (c.set_nr (fun a b => if a = i then g b else c.nr a b)) lx ik tb tl ts lat := by
  obtain ⟨hn, x0, x1, x2, x3, x4, x5, x11, x12, x18, x19, xi, xj⟩ := h
  refine ⟨hn, ?_, ?_, ?_, ?_, ?_, fun j hj => ?_, ?_, fun j hj => ?_, ?_, ?_, fun k hk => ⟨(xi k hk).1, (xi k hk).2.1, ?_⟩, xj⟩
  · rw [mset_ne _ _ (by omega)]; exact x0
  · rw [mset_ne _ _ (by omega)]; exact x1
  · rw [mset_ne _ _ (by omega)]; exact x2
  · rw [mset_ne _ _ (by omega)]; exact x3
  · rw [mset_ne _ _ (by omega)]; exact x4
  · show _ = aJ 6 (fun b => lN (if j = i then g b else c.nr j b))
    by_cases e : j = i
    · subst e
      rw [mset_eq]; simp
    · rw [mset_ne _ _ (by omega), x5 j hj]; simp [e]
  · rw [mset_ne _ _ (by omega)]; exact x11
  · rw [mset_ne _ _ (by omega)]; exact x12 j hj
  · rw [mset_ne _ _ (by omega)]; exact x18
  · rw [mset_ne _ _ (by omega)]; exact x19
  · have := (xi k hk).1
    rw [mset_ne _ _ (by omega)]; exact (xi k hk).2.2
theorem XM.m12 (h : XM G n μ c lx ik tb tl ts lat) {i : Nat} (hi6 : i < 6) (g : Nat → Bool) : XM G n (mset μ (12 + i) (aZ 6 (fun j => b2 (g j)))) (c.set_br (fun a b => if a = i then g b else c.br a b)) lx ik tb tl ts lat := by
  obtain ⟨hn, x0, x1, x2, x3, x4, x5, x11, x12, x18, x19, xi, xj⟩ := h
  refine ⟨hn, ?_, ?_, ?_, ?_, ?_, fun j hj => ?_, ?_, fun j hj => ?_, ?_, ?_, fun k hk => ⟨(xi k hk).1, (xi k hk).2.1, ?_⟩, xj⟩
  · rw [mset_ne _ _ (by omega)]; exact x0
  · rw [mset_ne _ _ (by omega)]; exact x1
  · rw [mset_ne _ _ (by omega)]; exact x2
  · rw [mset_ne _ _ (by omega)]; exact x3
  · rw [mset_ne _ _ (by omega)]; exact x4
  · rw [mset_ne _ _ (by omega)]; exact x5 j hj
  · rw [mset_ne _ _ (by omega)]; exact x11
  · show _ = aZ 6 (fun b => b2 (if j = i then g b else c.br j b))
    by_cases e : j = i
    · subst e
      rw [mset_eq]; simp
    · rw [mset_ne _ _ (by omega), x12 j hj]; simp [e]
  · rw [mset_ne _ _ (by omega)]; exact x18
  · rw [mset_ne _ _ (by omega)]; exact x19
  · have := (xi k hk).1
    rw [mset_ne _ _ (by omega)]; exact (xi k hk).2.2
theorem XM.m19 (h : XM G n μ c lx ik tb tl ts lat) (ts' : Nat → Int32) : XM G n (mset μ 19 (aI 16 ts')) c lx ik tb tl ts' lat := by
  obtain ⟨hn, x0, x1, x2, x3, x4, x5, x11, x12, x18, x19, xi, xj⟩ := h
  refine ⟨hn, x0, x1, x2, x3, x4, fun i hi => ?_, x11, fun i hi => ?_, x18, rfl, fun k hk => ⟨(xi k hk).1, (xi k hk).2.1, ?_⟩, xj⟩
  · rw [mset_ne _ _ (by omega)]; exact x5 i hi
  · rw [mset_ne _ _ (by omega)]; exact x12 i hi
  · have := (xi k hk).1
    rw [mset_ne _ _ (by omega)]; exact (xi k hk).2.2
/-- an item's numbers -/
theorem XM.mi (h : XM G n μ c lx ik tb tl ts lat) {k : Nat} (hk : k < c.mn) (nd' : Nat → Int) (ms' : Nat → Bool) (pu' : Nat → Int) (e : ∀ j, j ≠ k → nd' j = c.nd j ∧ ms' j = c.ms j ∧ pu' j = c.pu j) :
    XM G n (mset μ (ik k) (ob 1 [.int (nI (c.wd k)), .long (lN (c.wo k)), .long (lN (c.ce k)), .int (iI (nd' k)), .int (b2 (ms' k)), .int (iI (pu' k))])) (((c.set_nd nd').set_ms ms').set_pu pu') lx ik tb tl ts lat := by
  obtain ⟨hn, x0, x1, x2, x3, x4, x5, x11, x12, x18, x19, xi, xj⟩ := h
  have hik := (xi k hk).1
  refine ⟨hn, ?_, ?_, ?_, ?_, ?_, fun i hi => ?_, ?_, fun i hi => ?_, ?_, ?_, fun j hj => ⟨(xi j hj).1, (xi j hj).2.1, ?_⟩, xj⟩
  · rw [mset_ne _ _ (by omega)]; exact x0
  · rw [mset_ne _ _ (by omega)]; exact x1
  · rw [mset_ne _ _ (by omega)]; exact x2
  · rw [mset_ne _ _ (by omega)]; exact x3
  · rw [mset_ne _ _ (by omega)]; exact x4
  · rw [mset_ne _ _ (by omega)]; exact x5 i hi
  · rw [mset_ne _ _ (by omega)]; exact x11
  · rw [mset_ne _ _ (by omega)]; exact x12 i hi
  · rw [mset_ne _ _ (by omega)]; exact x18
  · rw [mset_ne _ _ (by omega)]; exact x19
  · by_cases ej : j = k
    · subst ej; rw [mset_eq]; rfl
    · have hne : ik j ≠ ik k := fun q => ej (xj j k hj hk q)
      rw [mset_ne _ _ hne, (xi j hj).2.2]
      have := e j ej
      show ob 1 [.int (nI (c.wd j)), .long (lN (c.wo j)), .long (lN (c.ce j)), .int (iI (c.nd j)), .int (b2 (c.ms j)), .int (iI (c.pu j))] = ob 1 [.int (nI (c.wd j)), .long (lN (c.wo j)), .long (lN (c.ce j)), .int (iI (nd' j)), .int (b2 (ms' j)), .int (iI (pu' j))]
      rw [this.1, this.2.1, this.2.2]
end XMV
/-! the states of both -/
abbrev Pl : Type := Option (List (Nat × Nat) × Nat × Nat)
abbrev Sg : Type := Cf × Nat × (Nat → Nat) × Pl
def XL (G : Gm) (n : Nat) (μ : Mem) (c : Cf) (lat : Value) (pl : Pl) : Prop := match pl with
  | none => lat = .null
  | some q => ∃ t S : Nat, 41 ≤ t ∧ lat = .ref (G.1 + t) ∧ PM G n μ t q.1 S q.2.1 q.2.2 ∧ WkOK c q.1 0 0
def XW (G : Gm) (n : Nat) (μ : Mem) (σ : Sg) : Prop := CfOK σ.1 ∧ ∃ lx ik tb ts lat, LxOK σ.1 lx ∧ XM G n μ σ.1 lx ik tb σ.2.1 ts lat ∧ TdOK σ.2.1 ts σ.2.2.1 ∧ XL G n μ σ.1 lat σ.2.2.2
theorem XL.lat {G : Gm} {n : Nat} {μ : Mem} {c : Cf} {lat : Value} {pl : Pl} (h : XL G n μ c lat pl) : lat = .null ∨ ∃ t : Nat, lat = .ref (G.1 + t) := by
  cases pl with
  | none => exact Or.inl h
  | some q => obtain ⟨t, S, h1, h2, -⟩ := h; exact Or.inr ⟨t, h2⟩
theorem XL.frame {G : Gm} {n n' : Nat} {μ μ' : Mem} {c c' : Cf} {lat : Value} {pl : Pl} (h : XL G n μ c lat pl) (hn : n ≤ n') (e : c'.st = c.st ∧ c'.mn = c.mn) (hf : ∀ t, 41 ≤ t → t < n → (∀ fs, μ t ≠ ob 1 fs) → μ' t = μ t) : XL G n' μ' c' lat pl := by
  cases pl with
  | none => exact h
  | some q =>
    obtain ⟨t, S, h1, h2, h3, h4⟩ := h
    refine ⟨t, S, h1, h2, h3.frame hn fun j q1 q2 => ?_, ?_⟩
    · obtain ⟨g1, g2, g3, g4, fc, fb, p0, p1, p2, p3⟩ := h3
      refine hf j (by omega) (by omega) (fun fs q => ?_)
      have : j = t ∨ j = t + 1 ∨ j = t + 2 := by omega
      rcases this with rfl | rfl | rfl
      · rw [p0] at q; cases q
      · rw [p1] at q; cases q
      · rw [p2] at q; cases q
    · unfold WkOK at h4 ⊢
      rw [e.1, e.2]; exact h4
theorem XW.frame {G : Gm} {n n' : Nat} {μ μ' : Mem} {σ : Sg} (h : XW G n μ σ) (hn : n ≤ n') (hf : ∀ t, t < n → t < 20 ∨ 41 ≤ t → μ' t = μ t) : XW G n' μ' σ := by
  obtain ⟨h1, lx, ik, tb, ts, lat, h2, h3, h4, h5⟩ := h
  exact ⟨h1, lx, ik, tb, ts, lat, h2, h3.frame hn hf, h4, h5.frame hn ⟨rfl, rfl⟩ (fun t q1 q2 _ => hf t q2 (Or.inr q1))⟩
