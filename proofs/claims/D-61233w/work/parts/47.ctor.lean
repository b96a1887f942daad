/-! ===== the constructors ===== -/
def GL (b : Nat) (μ : Mem) (L : List Cn) : Prop := ∀ j x, L[j]? = some x → μ (b + j) = x
theorem GL.push {b n : Nat} {μ : Mem} {L : List Cn} (h : GL b μ L) (hn : n = b + L.length) (e : Cn) : GL b (mset μ n e) (L ++ [e]) := by
  subst hn
  intro j x hx
  by_cases hj : j < L.length
  · rw [List.getElem?_append_left hj] at hx
    rw [mset_ne _ _ (by omega)]; exact h j x hx
  · rw [List.getElem?_append_right (by omega)] at hx
    have hj2 : j - L.length = 0 := by
      have := (List.getElem?_eq_some_iff.mp hx).1
      simp at this; omega
    rw [hj2] at hx
    cases hx
    rw [show j = L.length by omega, mset_eq]
theorem GL.upd {b : Nat} {μ : Mem} {L : List Cn} (h : GL b μ L) (a : Nat) (e : Cn) : GL b (mset μ (b + a) e) (L.set a e) := by
  intro j x hx
  by_cases hj : j = a
  · subst hj
    rw [mset_eq]
    rw [List.getElem?_set] at hx
    split at hx
    · split at hx
      · exact Option.some.inj hx
      · cases hx
    · next q => exact absurd rfl q
  · rw [mset_ne _ _ (by omega)]
    rw [List.getElem?_set_ne (Ne.symm hj)] at hx
    exact h j x hx
theorem GL.grid {b n B ty : Nat} {μ : Mem} {L : List Cn} (h : GL b μ L) (hn : n = b + L.length) (i : Cn) : GL b (mgrid B μ n ty i) (L ++ [aR ty 6 (fun j => if j < 6 then some (B + n + 1 + j) else none), i, i, i, i, i, i]) := by
  subst hn
  intro j x hx
  by_cases hj : j < L.length
  · rw [List.getElem?_append_left hj] at hx
    unfold mgrid
    rw [if_neg (by omega), if_neg (by omega)]; exact h j x hx
  · rw [List.getElem?_append_right (by omega)] at hx
    obtain ⟨k, rfl⟩ : ∃ k, j = L.length + k := ⟨j - L.length, by omega⟩
    rw [show L.length + k - L.length = k by omega] at hx
    unfold mgrid
    match k, hx with
    | 0, hx => cases hx; rw [if_pos (by omega)]
    | 1, hx => cases hx; rw [if_neg (by omega), if_pos (by omega)]
    | 2, hx => cases hx; rw [if_neg (by omega), if_pos (by omega)]
    | 3, hx => cases hx; rw [if_neg (by omega), if_pos (by omega)]
    | 4, hx => cases hx; rw [if_neg (by omega), if_pos (by omega)]
    | 5, hx => cases hx; rw [if_neg (by omega), if_pos (by omega)]
    | 6, hx => cases hx; rw [if_neg (by omega), if_pos (by omega)]
    | k + 7, hx => simp at hx
section CTR
variable {G : Gm} {k : Mk} {d rc rs pc n : Nat} {ls : List (Option Value)} {stk : List Value} {μ μ' : Mem} {Q : Oc → Nat → Mem → Prop} {b : Nat} {L : List Cn}
theorem gen (h1 : GL b μ' L) (h2 : ∀ t, t < b → μ' t = μ t) (kk : ∀ ν, GL b ν L → (∀ t, t < b → ν t = μ t) → Ev G k d rc rs pc ls stk n ν Q) : Ev G k d rc rs pc ls stk n μ' Q := kk _ h1 h2
/-- an int array is what it is below its length -/
theorem Ev.ext {t N : Nat} {f g : Nat → Int32} (ht : t < n) (hm : μ t = aI N f) (hfg : ∀ j, j < N → f j = g j) (kk : Ev G k d rc rs pc ls stk n (mset μ t (aI N g)) Q) : Ev G k d rc rs pc ls stk n μ Q := by
  intro p l e R s m args below meth c H locs cells slots mc ms Lo h
  refine kk p l e R s m args below meth c H locs cells slots mc ms Lo ⟨h.1, ?_, h.2.2⟩
  have hH := h.2.1
  have h0 := hH.at ht hm
  refine hH.set ht rfl (fun _ _ => rfl) ?_
  show H[G.1 + t]? = some (vp_cell _ _)
  have h1 : H[G.1 + t]? = some (vp_cell (G.2.2.2 1) (N, .inl f)) := h0
  rw [h1]
  congr 1
  show vp_cell (G.2.2.2 1) (N, .inl f) = vp_cell (G.2.2.2 1) (N, .inl g)
  rw [vp_cell_i, vp_cell_i]
  unfold arrV
  congr 1
  congr 1
  funext j
  show Value.int (f j.val) = Value.int (g j.val)
  rw [hfg j.val j.isLt]
end CTR
/-- the first configuration -/
def c0 (st : Nat) : Cf := (st, fun _ => false, 0, fun _ => 0, 0, fun _ => 0, fun _ => 0, fun _ => 0, fun _ => -1, fun _ => false, fun _ => -101, fun _ _ => 0, fun _ _ => false, 1, 0)
theorem c0_ok {st : Nat} (h1 : 1 ≤ st) (h2 : st ≤ 40) : CfOK (c0 st) := ⟨⟨h1, h2⟩, (fun j h => by cases h), by show 0 ≤ 8; omega, fun k hk => absurd hk (Nat.not_lt_zero k), by show 0 ≤ 6; omega, fun k hk => absurd hk (Nat.not_lt_zero k), fun k => ⟨by show (-1 : Int) ≤ -1; omega, by show (-1 : Int) ≤ 40; omega⟩, fun k => ⟨by show (-101 : Int) ≤ -101; omega, by show (-101 : Int) ≤ 100; omega⟩, fun a b => ⟨Nat.zero_le _, rfl⟩, fun a b => rfl, ⟨by show 1 ≤ 1; omega, by show 1 ≤ 40; omega, by show 0 ≤ 40; omega⟩, fun k _ => ⟨rfl, rfl, rfl⟩⟩
def stN (z : Int) : Nat := (max 1 (min 40 z)).toNat
theorem stN_bd (z : Int) : 1 ≤ stN z ∧ stN z ≤ 40 := by unfold stN; omega
theorem min40 {z : Int} (hz1 : -2147483648 ≤ z) (hz2 : z < 2147483648) : (if nI 40 ≤ iI z then nI 40 else iI z) = iI (min 40 z) := by
  rw [show nI 40 = iI 40 from by decide]
  have h := iI_leI (a := 40) (b := z) (by omega) (by omega) hz1 hz2
  by_cases q : (40 : Int) ≤ z
  · rw [if_pos (h.mpr q)]; congr 1; omega
  · rw [if_neg (fun r => q (h.mp r))]; congr 1; omega
theorem max1 {z : Int} (hz1 : -2147483648 ≤ z) (hz2 : z < 2147483648) : (if iI (min 40 z) ≤ nI 1 then nI 1 else iI (min 40 z)) = nI (stN z) := by
  rw [show nI 1 = iI 1 from by decide, nI_iI]
  have h := iI_leI (a := min 40 z) (b := 1) (by omega) (by omega) (by omega) (by omega)
  unfold stN
  by_cases q : min 40 z ≤ 1
  · rw [if_pos (h.mpr q)]; congr 1; omega
  · rw [if_neg (fun r => q (h.mp r))]; congr 1; omega
def xL (G : Gm) (st : Nat) : List Cn := [ob 0 [.int (nI st), .ref (G.1 + 1), .ref (G.1 + 2), .int 0, .ref (G.1 + 3), .int 0, .ref (G.1 + 4), .ref (G.1 + 11), .int 0, .int 0, .ref (G.1 + 18), .ref (G.1 + 19), .int 0, .null], aZ 41 (fun _ => 0), aI 8 (fun _ => 0), aR 3 6 (fun _ => none), aR 4 6 (fun j => if j < 6 then some (G.1 + 4 + 1 + j) else none), aJ 6 (fun _ => 0), aJ 6 (fun _ => 0), aJ 6 (fun _ => 0), aJ 6 (fun _ => 0), aJ 6 (fun _ => 0), aJ 6 (fun _ => 0), aR 5 6 (fun j => if j < 6 then some (G.1 + 11 + 1 + j) else none), aZ 6 (fun _ => 0), aZ 6 (fun _ => 0), aZ 6 (fun _ => 0), aZ 6 (fun _ => 0), aZ 6 (fun _ => 0), aZ 6 (fun _ => 0), aJ 36736 (fun _ => 0), aI 16 (fun _ => 0)]
section CTX
variable {G : Gm} {d : Nat} {μ : Mem}
theorem ct_X_init {z : Int} (hz1 : -2147483648 ≤ z) (hz2 : z < 2147483648) (h0 : μ 0 = ob 0 [.int 0, .null, .null, .int 0, .null, .int 0, .null, .null, .int 0, .int 0, .null, .null, .int 0, .null]) : Ct G k_X_init (d + 1) 19 36891 [.ref (G.1 + 0), .int (iI z)] 1 μ (fun o n' μ' => o = .inl none ∧ n' = 20 ∧ GL 0 μ' (xL G (stN z))) := by
  refine Ct.ofp (r := 0) (ls := [some (.ref (G.1 + 0)), some (.int (iI z))]) rfl (Nat.le_of_ble_eq_true rfl) ?_
  have hG : GL 0 μ [ob 0 [.int 0, .null, .null, .int 0, .null, .int 0, .null, .null, .int 0, .int 0, .null, .null, .int 0, .null]] := fun j x hx => by
    match j, hx with
    | 0, hx => cases hx; exact h0
    | j + 1, hx => simp at hx
  have hF : ∀ t, t < 0 → μ t = μ t := fun t ht => rfl
  refine ev_aload_n d_X_init_0 rfl rfl ?_
  refine ev_objInit d_X_init_1 ml_X_1 (Nat.le_of_ble_eq_true rfl) ?_
  refine ev_aload_n d_X_init_4 rfl rfl ?_
  refine ev_bipush (v := nI 41) d_X_init_5 (by decide) ?_
  refine ev_newZ (rc := 18) (rs := 36850) (N := 41) d_X_init_7 (by decide) ?_
  refine gen (hG.push rfl _) (fun t ht => mset_ne _ _ (by omega)) (fun ν hG hf => ?_)
  have hF : ∀ t, t < 0 → ν t = μ t := fun t ht => (hf t ht).trans (hF t ht)
  clear hf
  refine ev_putF (kf := 1) (T := F_X) (C := R_X) (N := 14) (ty0 := t_X) d_X_init_9 fl_X_7 rfl i_X t_X_ok n_X (by decide) rfl rfl rfl rfl rfl rfl (by decide) (hG 0 _ rfl) (Nat.le_of_ble_eq_true rfl) ?_
  refine gen (hG.upd 0 _) (fun t ht => mset_ne _ _ (by omega)) (fun ν hG hf => ?_)
  have hF : ∀ t, t < 0 → ν t = μ t := fun t ht => (hf t ht).trans (hF t ht)
  clear hf
  refine ev_aload_n d_X_init_12 rfl rfl ?_
  refine ev_bipush (v := nI 8) d_X_init_13 (by decide) ?_
  refine ev_newI (rc := 17) (rs := 36842) (N := 8) d_X_init_15 (by decide) ?_
  refine gen (hG.push rfl _) (fun t ht => mset_ne _ _ (by omega)) (fun ν hG hf => ?_)
  have hF : ∀ t, t < 0 → ν t = μ t := fun t ht => (hf t ht).trans (hF t ht)
  clear hf
  refine ev_putF (kf := 2) (T := F_X) (C := R_X) (N := 14) (ty0 := t_X) d_X_init_17 fl_X_13 rfl i_X t_X_ok n_X (by decide) rfl rfl rfl rfl rfl rfl (by decide) (hG 0 _ rfl) (Nat.le_of_ble_eq_true rfl) ?_
  refine gen (hG.upd 0 _) (fun t ht => mset_ne _ _ (by omega)) (fun ν hG hf => ?_)
  have hF : ∀ t, t < 0 → ν t = μ t := fun t ht => (hf t ht).trans (hF t ht)
  clear hf
  refine ev_aload_n d_X_init_20 rfl rfl ?_
  refine ev_bipush (v := nI 6) d_X_init_21 (by decide) ?_
  refine ev_anewI (rc := 16) (rs := 36836) (N := 6) d_X_init_23 cl_X_17 (by decide) ?_
  refine gen (hG.push rfl _) (fun t ht => mset_ne _ _ (by omega)) (fun ν hG hf => ?_)
  have hF : ∀ t, t < 0 → ν t = μ t := fun t ht => (hf t ht).trans (hF t ht)
  clear hf
  refine ev_putF (kf := 4) (T := F_X) (C := R_X) (N := 14) (ty0 := t_X) d_X_init_26 fl_X_19 rfl i_X t_X_ok n_X (by decide) rfl rfl rfl rfl rfl rfl (by decide) (hG 0 _ rfl) (Nat.le_of_ble_eq_true rfl) ?_
  refine gen (hG.upd 0 _) (fun t ht => mset_ne _ _ (by omega)) (fun ν hG hf => ?_)
  have hF : ∀ t, t < 0 → ν t = μ t := fun t ht => (hf t ht).trans (hF t ht)
  clear hf
  refine ev_aload_n d_X_init_29 rfl rfl ?_
  refine ev_bipush (v := nI 6) d_X_init_30 (by decide) ?_
  refine ev_bipush (v := nI 6) d_X_init_32 (by decide) ?_
  refine ev_topi (w := 6) (by decide) ?_
  refine ev_multi (rc := 9) (rs := 36794) (ty2 := 4) (ty1 := 2) (ft := .long) (inner := aJ 6 (fun _ => 0)) d_X_init_34 cl_X_23 (by decide +kernel) rfl rfl rfl (by decide) (fun s hW => hW.2.2.2.2.2.1.1) (fun c hc => by subst hc; rfl) ?_
  refine gen (hG.grid rfl _) (fun t ht => by unfold mgrid; rw [if_neg (by omega), if_neg (by omega)]) (fun ν hG hf => ?_)
  have hF : ∀ t, t < 0 → ν t = μ t := fun t ht => (hf t ht).trans (hF t ht)
  clear hf
  refine ev_putF (kf := 6) (T := F_X) (C := R_X) (N := 14) (ty0 := t_X) d_X_init_38 fl_X_25 rfl i_X t_X_ok n_X (by decide) rfl rfl rfl rfl rfl rfl (by decide) (hG 0 _ rfl) (Nat.le_of_ble_eq_true rfl) ?_
  refine gen (hG.upd 0 _) (fun t ht => mset_ne _ _ (by omega)) (fun ν hG hf => ?_)
  have hF : ∀ t, t < 0 → ν t = μ t := fun t ht => (hf t ht).trans (hF t ht)
  clear hf
  refine ev_aload_n d_X_init_41 rfl rfl ?_
  refine ev_bipush (v := nI 6) d_X_init_42 (by decide) ?_
  refine ev_bipush (v := nI 6) d_X_init_44 (by decide) ?_
  refine ev_topi (w := 6) (by decide) ?_
  refine ev_multi (rc := 2) (rs := 36752) (ty2 := 5) (ty1 := 0) (ft := .boolean) (inner := aZ 6 (fun _ => 0)) d_X_init_46 cl_X_28 (by decide +kernel) rfl rfl rfl (by decide) (fun s hW => hW.2.2.2.2.2.1.2) (fun c hc => by subst hc; rfl) ?_
  refine gen (hG.grid rfl _) (fun t ht => by unfold mgrid; rw [if_neg (by omega), if_neg (by omega)]) (fun ν hG hf => ?_)
  have hF : ∀ t, t < 0 → ν t = μ t := fun t ht => (hf t ht).trans (hF t ht)
  clear hf
  refine ev_putF (kf := 7) (T := F_X) (C := R_X) (N := 14) (ty0 := t_X) d_X_init_50 fl_X_30 rfl i_X t_X_ok n_X (by decide) rfl rfl rfl rfl rfl rfl (by decide) (hG 0 _ rfl) (Nat.le_of_ble_eq_true rfl) ?_
  refine gen (hG.upd 0 _) (fun t ht => mset_ne _ _ (by omega)) (fun ν hG hf => ?_)
  have hF : ∀ t, t < 0 → ν t = μ t := fun t ht => (hf t ht).trans (hF t ht)
  clear hf
  refine ev_aload_n d_X_init_53 rfl rfl ?_
  refine ev_ldc (v := (36736)) d_X_init_54 ck_X_33 ?_
  refine ev_topi (w := nI 36736) (by decide) ?_
  refine ev_newJ (rc := 1) (rs := 16) (N := 36736) d_X_init_56 (by decide) ?_
  refine gen (hG.push rfl _) (fun t ht => mset_ne _ _ (by omega)) (fun ν hG hf => ?_)
  have hF : ∀ t, t < 0 → ν t = μ t := fun t ht => (hf t ht).trans (hF t ht)
  clear hf
  refine ev_putF (kf := 10) (T := F_X) (C := R_X) (N := 14) (ty0 := t_X) d_X_init_58 fl_X_34 rfl i_X t_X_ok n_X (by decide) rfl rfl rfl rfl rfl rfl (by decide) (hG 0 _ rfl) (Nat.le_of_ble_eq_true rfl) ?_
  refine gen (hG.upd 0 _) (fun t ht => mset_ne _ _ (by omega)) (fun ν hG hf => ?_)
  have hF : ∀ t, t < 0 → ν t = μ t := fun t ht => (hf t ht).trans (hF t ht)
  clear hf
  refine ev_aload_n d_X_init_61 rfl rfl ?_
  refine ev_bipush (v := nI 16) d_X_init_62 (by decide) ?_
  refine ev_newI (rc := 0) (rs := 0) (N := 16) d_X_init_64 (by decide) ?_
  refine gen (hG.push rfl _) (fun t ht => mset_ne _ _ (by omega)) (fun ν hG hf => ?_)
  have hF : ∀ t, t < 0 → ν t = μ t := fun t ht => (hf t ht).trans (hF t ht)
  clear hf
  refine ev_putF (kf := 11) (T := F_X) (C := R_X) (N := 14) (ty0 := t_X) d_X_init_66 fl_X_38 rfl i_X t_X_ok n_X (by decide) rfl rfl rfl rfl rfl rfl (by decide) (hG 0 _ rfl) (Nat.le_of_ble_eq_true rfl) ?_
  refine gen (hG.upd 0 _) (fun t ht => mset_ne _ _ (by omega)) (fun ν hG hf => ?_)
  have hF : ∀ t, t < 0 → ν t = μ t := fun t ht => (hf t ht).trans (hF t ht)
  clear hf
  refine ev_aload_n d_X_init_69 rfl rfl ?_
  refine ev_iconst (v := nI 1) d_X_init_70 (by decide) ?_
  refine ev_bipush (v := nI 40) d_X_init_71 (by decide) ?_
  refine ev_iload_n d_X_init_73 rfl rfl ?_
  refine cs (rc := 0) (rs := 0) (mc' := 0) (ms' := 0) (k' := k_J_min) (As := [.int (nI 40), .int (iI z)]) (stk := [.int (nI 1), .ref (G.1 + 0)]) d_X_init_74 ml_X_41 kk_J_min rfl rfl (Nat.le_of_ble_eq_true rfl) (ct_J_min _ _) (rd ?_)
  refine ev_topi (w := iI (min 40 z)) (min40 hz1 hz2) ?_
  refine cs (rc := 0) (rs := 0) (mc' := 0) (ms' := 0) (k' := k_J_max) (As := [.int (nI 1), .int (iI (min 40 z))]) (stk := [.ref (G.1 + 0)]) d_X_init_77 ml_X_47 kk_J_max rfl rfl (Nat.le_of_ble_eq_true rfl) (ct_J_max _ _) (rd ?_)
  refine ev_topi (w := nI (stN z)) (max1 hz1 hz2) ?_
  refine ev_putF (kf := 0) (T := F_X) (C := R_X) (N := 14) (ty0 := t_X) d_X_init_80 fl_X_50 rfl i_X t_X_ok n_X (by decide) rfl rfl rfl rfl rfl rfl (by decide) (hG 0 _ rfl) (Nat.le_of_ble_eq_true rfl) ?_
  refine gen (hG.upd 0 _) (fun t ht => mset_ne _ _ (by omega)) (fun ν hG hf => ?_)
  have hF : ∀ t, t < 0 → ν t = μ t := fun t ht => (hf t ht).trans (hF t ht)
  clear hf
  refine ev_return d_X_init_83 rfl ?_
  exact ⟨rfl, rfl, hG⟩
def mL (G : Gm) (st le : Int32) (nd pu : Nat → Int32) : List Cn := [ob 3 [.int 0, .int st, .ref (G.1 + 21), .int 0, .ref (G.1 + 22), .int 0, .ref (G.1 + 23), .ref (G.1 + 24), .ref (G.1 + 25), .ref (G.1 + 26), .ref (G.1 + 27), .ref (G.1 + 28), .ref (G.1 + 29), .int le, .int 0, .ref (G.1 + 30), .ref (G.1 + 31), .ref (G.1 + 32), .ref (G.1 + 33), .ref (G.1 + 34), .ref (G.1 + 35), .int 0, .int 0, .ref (G.1 + 36), .int 0, .ref (G.1 + 37), .ref (G.1 + 38), .ref (G.1 + 39), .long 0, .long 0], aZ 41 (fun _ => 0), aI 8 (fun _ => 0), aI 6 (fun _ => 0), aJ 6 (fun _ => 0), aJ 6 (fun _ => 0), aI 6 nd, aZ 6 (fun _ => 0), aJ 36 (fun _ => 0), aZ 36 (fun _ => 0), aI 6 pu, aJ 20992 (fun _ => 0), aJ 20992 (fun _ => 0), aZ 64 (fun _ => 0), aI 42 (fun _ => 0), aZ 246 (fun _ => 0), aI 16 (fun _ => 0), aI 41 (fun _ => 0), aI 41 (fun _ => 0), aI 41 (fun _ => 0)]
theorem lp_M_init {z : Int} : ∀ (m k : Nat) (ν : Mem), k ≤ 6 → 6 < k + m → GL 20 ν (mL G (nI (stN z)) 0 (fun j => if j < k then iI (-1) else 0) (fun j => if j < k then iI (-101) else 0)) → (∀ t, t < 20 → ν t = μ t) → Ev G k_M_init (d + 1) 0 0 186 [some (.ref (G.1 + 20)), some (.int (iI z)), some (.int (nI k))] [] 40 ν (fun (o : Oc) (n' : Nat) (μ' : Mem) => o = .inl none ∧ n' = 40 ∧ GL 20 μ' (mL G (nI (stN z)) (nI 1) (fun _ => iI (-1)) (fun _ => iI (-101))) ∧ ∀ t, t < 20 → μ' t = μ t) := by
  generalize hQ : (fun (o : Oc) (n' : Nat) (μ' : Mem) => o = .inl none ∧ n' = 40 ∧ GL 20 μ' (mL G (nI (stN z)) (nI 1) (fun _ => iI (-1)) (fun _ => iI (-101))) ∧ ∀ t, t < 20 → μ' t = μ t) = Q
  intro m
  induction m with
  | zero =>
    intro k ν h1 h2
    exact absurd h2 (by omega)
  | succ m ih =>
    intro k ν hk hkm hG hF
    refine ev_iload_n d_M_init_186 rfl rfl ?_
    refine ev_bipush (v := nI 6) d_M_init_187 (by decide) ?_
    refine ev_icmp_ge d_M_init_189 (fun c_189 => ?_) (fun c_189 => ?_)
    · simp (disch := omega) only [nI_ltI, nI_leI, nI_eq, Nat.not_lt, Nat.not_le] at c_189
      have hk6 : k = 6 := by omega
      subst hk6
      refine Ev.ext (t := 26) (g := fun _ => iI (-1)) (by decide) (hG 6 _ rfl) (fun j hj => if_pos hj) ?_
      refine gen (hG.upd 6 _) (fun t ht => mset_ne _ _ (by omega)) (fun ν hG hf => ?_)
      have hF : ∀ t, t < 20 → ν t = μ t := fun t ht => (hf t ht).trans (hF t ht)
      clear hf
      refine Ev.ext (t := 30) (g := fun _ => iI (-101)) (by decide) (hG 10 _ rfl) (fun j hj => if_pos hj) ?_
      refine gen (hG.upd 10 _) (fun t ht => mset_ne _ _ (by omega)) (fun ν hG hf => ?_)
      have hF : ∀ t, t < 20 → ν t = μ t := fun t ht => (hf t ht).trans (hF t ht)
      clear hf
      refine ev_aload_n d_M_init_213 rfl rfl ?_
      refine ev_iconst (v := nI 1) d_M_init_214 (by decide) ?_
      refine ev_putf (kf := 13) (T := F_M) (C := R_M) (N := 30) (ty0 := t_M) d_M_init_215 fl_M_73 rfl i_M t_M_ok n_M (by decide) rfl rfl rfl rfl (by decide) (hG 0 _ rfl) (Nat.le_of_ble_eq_true rfl) ?_
      refine gen (hG.upd 0 _) (fun t ht => mset_ne _ _ (by omega)) (fun ν hG hf => ?_)
      have hF : ∀ t, t < 20 → ν t = μ t := fun t ht => (hf t ht).trans (hF t ht)
      clear hf
      refine ev_return d_M_init_218 rfl ?_
      subst hQ
      exact ⟨rfl, rfl, hG, hF⟩
    · simp (disch := omega) only [nI_ltI, nI_leI, nI_eq, Nat.not_lt, Nat.not_le] at c_189
      refine ev_aload_n d_M_init_192 rfl rfl ?_
      refine ev_getf (kf := 9) (T := F_M) (C := R_M) (N := 30) (v := .ref (G.1 + 26)) d_M_init_193 fl_M_27 rfl i_M (by decide) (by decide) (hG 0 _ rfl) rfl ?_
      refine ev_iload_n d_M_init_196 rfl rfl ?_
      refine ev_iconst (v := iI (-1)) d_M_init_197 (by decide) ?_
      refine ev_iast (j := k) d_M_init_198 (by decide) (hG 6 _ rfl) (by omega) (by decide) ?_
      have e1 : upd (fun j => if j < k then iI (-1) else 0) k (iI (-1)) = (fun j => if j < (k + 1) then iI (-1) else 0) := by
        funext j
        unfold upd
        by_cases e : j = k
        · subst e; rw [if_pos rfl, if_pos (by omega)]
        · rw [if_neg e]
          dsimp only
          by_cases e2 : j < k
          · rw [if_pos e2, if_pos (by omega)]
          · rw [if_neg e2, if_neg (by omega)]
      rw [e1]
      refine gen (hG.upd 6 _) (fun t ht => mset_ne _ _ (by omega)) (fun ν hG hf => ?_)
      have hF : ∀ t, t < 20 → ν t = μ t := fun t ht => (hf t ht).trans (hF t ht)
      clear hf
      refine ev_aload_n d_M_init_199 rfl rfl ?_
      refine ev_getf (kf := 15) (T := F_M) (C := R_M) (N := 30) (v := .ref (G.1 + 30)) d_M_init_200 fl_M_39 rfl i_M (by decide) (by decide) (hG 0 _ rfl) rfl ?_
      refine ev_iload_n d_M_init_203 rfl rfl ?_
      refine ev_bipush (v := iI (-101)) d_M_init_204 (by decide) ?_
      refine ev_iast (j := k) d_M_init_206 (by decide) (hG 10 _ rfl) (by omega) (by decide) ?_
      have e101 : upd (fun j => if j < k then iI (-101) else 0) k (iI (-101)) = (fun j => if j < (k + 1) then iI (-101) else 0) := by
        funext j
        unfold upd
        by_cases e : j = k
        · subst e; rw [if_pos rfl, if_pos (by omega)]
        · rw [if_neg e]
          dsimp only
          by_cases e2 : j < k
          · rw [if_pos e2, if_pos (by omega)]
          · rw [if_neg e2, if_neg (by omega)]
      rw [e101]
      refine gen (hG.upd 10 _) (fun t ht => mset_ne _ _ (by omega)) (fun ν hG hf => ?_)
      have hF : ∀ t, t < 20 → ν t = μ t := fun t ht => (hf t ht).trans (hF t ht)
      clear hf
      refine ev_iinc (v := (nI (k + 1))) (ls' := [_, _, _]) d_M_init_207 rfl (nI_1 _) (by decide) rfl rfl ?_
      refine ev_goto d_M_init_210 ?_
      exact ih (k + 1) ν (by omega) (by omega) hG hF
theorem ct_M_init {z : Int} (hz1 : -2147483648 ≤ z) (hz2 : z < 2147483648) (h0 : μ 20 = ob 3 [.int 0, .int 0, .null, .int 0, .null, .int 0, .null, .null, .null, .null, .null, .null, .null, .int 0, .int 0, .null, .null, .null, .null, .null, .null, .int 0, .int 0, .null, .int 0, .null, .null, .null, .long 0, .long 0]) : Ct G k_M_init (d + 1) 19 42632 [.ref (G.1 + 20), .int (iI z)] 21 μ (fun (o : Oc) (n' : Nat) (μ' : Mem) => o = .inl none ∧ n' = 40 ∧ GL 20 μ' (mL G (nI (stN z)) (nI 1) (fun _ => iI (-1)) (fun _ => iI (-101))) ∧ ∀ t, t < 20 → μ' t = μ t) := by
  generalize hQ : (fun (o : Oc) (n' : Nat) (μ' : Mem) => o = .inl none ∧ n' = 40 ∧ GL 20 μ' (mL G (nI (stN z)) (nI 1) (fun _ => iI (-1)) (fun _ => iI (-101))) ∧ ∀ t, t < 20 → μ' t = μ t) = Q
  refine Ct.ofp (r := 1) (ls := [some (.ref (G.1 + 20)), some (.int (iI z)), none]) rfl (Nat.le_of_ble_eq_true rfl) ?_
  have hG : GL 20 μ [ob 3 [.int 0, .int 0, .null, .int 0, .null, .int 0, .null, .null, .null, .null, .null, .null, .null, .int 0, .int 0, .null, .null, .null, .null, .null, .null, .int 0, .int 0, .null, .int 0, .null, .null, .null, .long 0, .long 0]] := fun j x hx => by
    match j, hx with
    | 0, hx => cases hx; exact h0
    | j + 1, hx => simp at hx
  have hF : ∀ t, t < 20 → μ t = μ t := fun t ht => rfl
  refine ev_aload_n d_M_init_0 rfl rfl ?_
  refine ev_objInit d_M_init_1 ml_M_1 (Nat.le_of_ble_eq_true rfl) ?_
  refine ev_aload_n d_M_init_4 rfl rfl ?_
  refine ev_bipush (v := nI 41) d_M_init_5 (by decide) ?_
  refine ev_newZ (rc := 18) (rs := 42591) (N := 41) d_M_init_7 (by decide) ?_
  refine gen (hG.push rfl _) (fun t ht => mset_ne _ _ (by omega)) (fun ν hG hf => ?_)
  have hF : ∀ t, t < 20 → ν t = μ t := fun t ht => (hf t ht).trans (hF t ht)
  clear hf
  refine ev_putF (kf := 2) (T := F_M) (C := R_M) (N := 30) (ty0 := t_M) d_M_init_9 fl_M_7 rfl i_M t_M_ok n_M (by decide) rfl rfl rfl rfl rfl rfl (by decide) (hG 0 _ rfl) (Nat.le_of_ble_eq_true rfl) ?_
  refine gen (hG.upd 0 _) (fun t ht => mset_ne _ _ (by omega)) (fun ν hG hf => ?_)
  have hF : ∀ t, t < 20 → ν t = μ t := fun t ht => (hf t ht).trans (hF t ht)
  clear hf
  refine ev_aload_n d_M_init_12 rfl rfl ?_
  refine ev_bipush (v := nI 8) d_M_init_13 (by decide) ?_
  refine ev_newI (rc := 17) (rs := 42583) (N := 8) d_M_init_15 (by decide) ?_
  refine gen (hG.push rfl _) (fun t ht => mset_ne _ _ (by omega)) (fun ν hG hf => ?_)
  have hF : ∀ t, t < 20 → ν t = μ t := fun t ht => (hf t ht).trans (hF t ht)
  clear hf
  refine ev_putF (kf := 4) (T := F_M) (C := R_M) (N := 30) (ty0 := t_M) d_M_init_17 fl_M_13 rfl i_M t_M_ok n_M (by decide) rfl rfl rfl rfl rfl rfl (by decide) (hG 0 _ rfl) (Nat.le_of_ble_eq_true rfl) ?_
  refine gen (hG.upd 0 _) (fun t ht => mset_ne _ _ (by omega)) (fun ν hG hf => ?_)
  have hF : ∀ t, t < 20 → ν t = μ t := fun t ht => (hf t ht).trans (hF t ht)
  clear hf
  refine ev_aload_n d_M_init_20 rfl rfl ?_
  refine ev_bipush (v := nI 6) d_M_init_21 (by decide) ?_
  refine ev_newI (rc := 16) (rs := 42577) (N := 6) d_M_init_23 (by decide) ?_
  refine gen (hG.push rfl _) (fun t ht => mset_ne _ _ (by omega)) (fun ν hG hf => ?_)
  have hF : ∀ t, t < 20 → ν t = μ t := fun t ht => (hf t ht).trans (hF t ht)
  clear hf
  refine ev_putF (kf := 6) (T := F_M) (C := R_M) (N := 30) (ty0 := t_M) d_M_init_25 fl_M_17 rfl i_M t_M_ok n_M (by decide) rfl rfl rfl rfl rfl rfl (by decide) (hG 0 _ rfl) (Nat.le_of_ble_eq_true rfl) ?_
  refine gen (hG.upd 0 _) (fun t ht => mset_ne _ _ (by omega)) (fun ν hG hf => ?_)
  have hF : ∀ t, t < 20 → ν t = μ t := fun t ht => (hf t ht).trans (hF t ht)
  clear hf
  refine ev_aload_n d_M_init_28 rfl rfl ?_
  refine ev_bipush (v := nI 6) d_M_init_29 (by decide) ?_
  refine ev_newJ (rc := 15) (rs := 42571) (N := 6) d_M_init_31 (by decide) ?_
  refine gen (hG.push rfl _) (fun t ht => mset_ne _ _ (by omega)) (fun ν hG hf => ?_)
  have hF : ∀ t, t < 20 → ν t = μ t := fun t ht => (hf t ht).trans (hF t ht)
  clear hf
  refine ev_putF (kf := 7) (T := F_M) (C := R_M) (N := 30) (ty0 := t_M) d_M_init_33 fl_M_20 rfl i_M t_M_ok n_M (by decide) rfl rfl rfl rfl rfl rfl (by decide) (hG 0 _ rfl) (Nat.le_of_ble_eq_true rfl) ?_
  refine gen (hG.upd 0 _) (fun t ht => mset_ne _ _ (by omega)) (fun ν hG hf => ?_)
  have hF : ∀ t, t < 20 → ν t = μ t := fun t ht => (hf t ht).trans (hF t ht)
  clear hf
  refine ev_aload_n d_M_init_36 rfl rfl ?_
  refine ev_bipush (v := nI 6) d_M_init_37 (by decide) ?_
  refine ev_newJ (rc := 14) (rs := 42565) (N := 6) d_M_init_39 (by decide) ?_
  refine gen (hG.push rfl _) (fun t ht => mset_ne _ _ (by omega)) (fun ν hG hf => ?_)
  have hF : ∀ t, t < 20 → ν t = μ t := fun t ht => (hf t ht).trans (hF t ht)
  clear hf
  refine ev_putF (kf := 8) (T := F_M) (C := R_M) (N := 30) (ty0 := t_M) d_M_init_41 fl_M_24 rfl i_M t_M_ok n_M (by decide) rfl rfl rfl rfl rfl rfl (by decide) (hG 0 _ rfl) (Nat.le_of_ble_eq_true rfl) ?_
  refine gen (hG.upd 0 _) (fun t ht => mset_ne _ _ (by omega)) (fun ν hG hf => ?_)
  have hF : ∀ t, t < 20 → ν t = μ t := fun t ht => (hf t ht).trans (hF t ht)
  clear hf
  refine ev_aload_n d_M_init_44 rfl rfl ?_
  refine ev_bipush (v := nI 6) d_M_init_45 (by decide) ?_
  refine ev_newI (rc := 13) (rs := 42559) (N := 6) d_M_init_47 (by decide) ?_
  refine gen (hG.push rfl _) (fun t ht => mset_ne _ _ (by omega)) (fun ν hG hf => ?_)
  have hF : ∀ t, t < 20 → ν t = μ t := fun t ht => (hf t ht).trans (hF t ht)
  clear hf
  refine ev_putF (kf := 9) (T := F_M) (C := R_M) (N := 30) (ty0 := t_M) d_M_init_49 fl_M_27 rfl i_M t_M_ok n_M (by decide) rfl rfl rfl rfl rfl rfl (by decide) (hG 0 _ rfl) (Nat.le_of_ble_eq_true rfl) ?_
  refine gen (hG.upd 0 _) (fun t ht => mset_ne _ _ (by omega)) (fun ν hG hf => ?_)
  have hF : ∀ t, t < 20 → ν t = μ t := fun t ht => (hf t ht).trans (hF t ht)
  clear hf
  refine ev_aload_n d_M_init_52 rfl rfl ?_
  refine ev_bipush (v := nI 6) d_M_init_53 (by decide) ?_
  refine ev_newZ (rc := 12) (rs := 42553) (N := 6) d_M_init_55 (by decide) ?_
  refine gen (hG.push rfl _) (fun t ht => mset_ne _ _ (by omega)) (fun ν hG hf => ?_)
  have hF : ∀ t, t < 20 → ν t = μ t := fun t ht => (hf t ht).trans (hF t ht)
  clear hf
  refine ev_putF (kf := 10) (T := F_M) (C := R_M) (N := 30) (ty0 := t_M) d_M_init_57 fl_M_30 rfl i_M t_M_ok n_M (by decide) rfl rfl rfl rfl rfl rfl (by decide) (hG 0 _ rfl) (Nat.le_of_ble_eq_true rfl) ?_
  refine gen (hG.upd 0 _) (fun t ht => mset_ne _ _ (by omega)) (fun ν hG hf => ?_)
  have hF : ∀ t, t < 20 → ν t = μ t := fun t ht => (hf t ht).trans (hF t ht)
  clear hf
  refine ev_aload_n d_M_init_60 rfl rfl ?_
  refine ev_bipush (v := nI 36) d_M_init_61 (by decide) ?_
  refine ev_newJ (rc := 11) (rs := 42517) (N := 36) d_M_init_63 (by decide) ?_
  refine gen (hG.push rfl _) (fun t ht => mset_ne _ _ (by omega)) (fun ν hG hf => ?_)
  have hF : ∀ t, t < 20 → ν t = μ t := fun t ht => (hf t ht).trans (hF t ht)
  clear hf
  refine ev_putF (kf := 11) (T := F_M) (C := R_M) (N := 30) (ty0 := t_M) d_M_init_65 fl_M_33 rfl i_M t_M_ok n_M (by decide) rfl rfl rfl rfl rfl rfl (by decide) (hG 0 _ rfl) (Nat.le_of_ble_eq_true rfl) ?_
  refine gen (hG.upd 0 _) (fun t ht => mset_ne _ _ (by omega)) (fun ν hG hf => ?_)
  have hF : ∀ t, t < 20 → ν t = μ t := fun t ht => (hf t ht).trans (hF t ht)
  clear hf
  refine ev_aload_n d_M_init_68 rfl rfl ?_
  refine ev_bipush (v := nI 36) d_M_init_69 (by decide) ?_
  refine ev_newZ (rc := 10) (rs := 42481) (N := 36) d_M_init_71 (by decide) ?_
  refine gen (hG.push rfl _) (fun t ht => mset_ne _ _ (by omega)) (fun ν hG hf => ?_)
  have hF : ∀ t, t < 20 → ν t = μ t := fun t ht => (hf t ht).trans (hF t ht)
  clear hf
  refine ev_putF (kf := 12) (T := F_M) (C := R_M) (N := 30) (ty0 := t_M) d_M_init_73 fl_M_36 rfl i_M t_M_ok n_M (by decide) rfl rfl rfl rfl rfl rfl (by decide) (hG 0 _ rfl) (Nat.le_of_ble_eq_true rfl) ?_
  refine gen (hG.upd 0 _) (fun t ht => mset_ne _ _ (by omega)) (fun ν hG hf => ?_)
  have hF : ∀ t, t < 20 → ν t = μ t := fun t ht => (hf t ht).trans (hF t ht)
  clear hf
  refine ev_aload_n d_M_init_76 rfl rfl ?_
  refine ev_bipush (v := nI 6) d_M_init_77 (by decide) ?_
  refine ev_newI (rc := 9) (rs := 42475) (N := 6) d_M_init_79 (by decide) ?_
  refine gen (hG.push rfl _) (fun t ht => mset_ne _ _ (by omega)) (fun ν hG hf => ?_)
  have hF : ∀ t, t < 20 → ν t = μ t := fun t ht => (hf t ht).trans (hF t ht)
  clear hf
  refine ev_putF (kf := 15) (T := F_M) (C := R_M) (N := 30) (ty0 := t_M) d_M_init_81 fl_M_39 rfl i_M t_M_ok n_M (by decide) rfl rfl rfl rfl rfl rfl (by decide) (hG 0 _ rfl) (Nat.le_of_ble_eq_true rfl) ?_
  refine gen (hG.upd 0 _) (fun t ht => mset_ne _ _ (by omega)) (fun ν hG hf => ?_)
  have hF : ∀ t, t < 20 → ν t = μ t := fun t ht => (hf t ht).trans (hF t ht)
  clear hf
  refine ev_aload_n d_M_init_84 rfl rfl ?_
  refine ev_sipush (v := nI 20992) d_M_init_85 (by decide) ?_
  refine ev_newJ (rc := 8) (rs := 21483) (N := 20992) d_M_init_88 (by decide) ?_
  refine gen (hG.push rfl _) (fun t ht => mset_ne _ _ (by omega)) (fun ν hG hf => ?_)
  have hF : ∀ t, t < 20 → ν t = μ t := fun t ht => (hf t ht).trans (hF t ht)
  clear hf
  refine ev_putF (kf := 16) (T := F_M) (C := R_M) (N := 30) (ty0 := t_M) d_M_init_90 fl_M_42 rfl i_M t_M_ok n_M (by decide) rfl rfl rfl rfl rfl rfl (by decide) (hG 0 _ rfl) (Nat.le_of_ble_eq_true rfl) ?_
  refine gen (hG.upd 0 _) (fun t ht => mset_ne _ _ (by omega)) (fun ν hG hf => ?_)
  have hF : ∀ t, t < 20 → ν t = μ t := fun t ht => (hf t ht).trans (hF t ht)
  clear hf
  refine ev_aload_n d_M_init_93 rfl rfl ?_
  refine ev_sipush (v := nI 20992) d_M_init_94 (by decide) ?_
  refine ev_newJ (rc := 7) (rs := 491) (N := 20992) d_M_init_97 (by decide) ?_
  refine gen (hG.push rfl _) (fun t ht => mset_ne _ _ (by omega)) (fun ν hG hf => ?_)
  have hF : ∀ t, t < 20 → ν t = μ t := fun t ht => (hf t ht).trans (hF t ht)
  clear hf
  refine ev_putF (kf := 17) (T := F_M) (C := R_M) (N := 30) (ty0 := t_M) d_M_init_99 fl_M_45 rfl i_M t_M_ok n_M (by decide) rfl rfl rfl rfl rfl rfl (by decide) (hG 0 _ rfl) (Nat.le_of_ble_eq_true rfl) ?_
  refine gen (hG.upd 0 _) (fun t ht => mset_ne _ _ (by omega)) (fun ν hG hf => ?_)
  have hF : ∀ t, t < 20 → ν t = μ t := fun t ht => (hf t ht).trans (hF t ht)
  clear hf
  refine ev_aload_n d_M_init_102 rfl rfl ?_
  refine ev_bipush (v := nI 64) d_M_init_103 (by decide) ?_
  refine ev_newZ (rc := 6) (rs := 427) (N := 64) d_M_init_105 (by decide) ?_
  refine gen (hG.push rfl _) (fun t ht => mset_ne _ _ (by omega)) (fun ν hG hf => ?_)
  have hF : ∀ t, t < 20 → ν t = μ t := fun t ht => (hf t ht).trans (hF t ht)
  clear hf
  refine ev_putF (kf := 18) (T := F_M) (C := R_M) (N := 30) (ty0 := t_M) d_M_init_107 fl_M_48 rfl i_M t_M_ok n_M (by decide) rfl rfl rfl rfl rfl rfl (by decide) (hG 0 _ rfl) (Nat.le_of_ble_eq_true rfl) ?_
  refine gen (hG.upd 0 _) (fun t ht => mset_ne _ _ (by omega)) (fun ν hG hf => ?_)
  have hF : ∀ t, t < 20 → ν t = μ t := fun t ht => (hf t ht).trans (hF t ht)
  clear hf
  refine ev_aload_n d_M_init_110 rfl rfl ?_
  refine ev_bipush (v := nI 42) d_M_init_111 (by decide) ?_
  refine ev_newI (rc := 5) (rs := 385) (N := 42) d_M_init_113 (by decide) ?_
  refine gen (hG.push rfl _) (fun t ht => mset_ne _ _ (by omega)) (fun ν hG hf => ?_)
  have hF : ∀ t, t < 20 → ν t = μ t := fun t ht => (hf t ht).trans (hF t ht)
  clear hf
  refine ev_putF (kf := 19) (T := F_M) (C := R_M) (N := 30) (ty0 := t_M) d_M_init_115 fl_M_51 rfl i_M t_M_ok n_M (by decide) rfl rfl rfl rfl rfl rfl (by decide) (hG 0 _ rfl) (Nat.le_of_ble_eq_true rfl) ?_
  refine gen (hG.upd 0 _) (fun t ht => mset_ne _ _ (by omega)) (fun ν hG hf => ?_)
  have hF : ∀ t, t < 20 → ν t = μ t := fun t ht => (hf t ht).trans (hF t ht)
  clear hf
  refine ev_aload_n d_M_init_118 rfl rfl ?_
  refine ev_sipush (v := nI 246) d_M_init_119 (by decide) ?_
  refine ev_newZ (rc := 4) (rs := 139) (N := 246) d_M_init_122 (by decide) ?_
  refine gen (hG.push rfl _) (fun t ht => mset_ne _ _ (by omega)) (fun ν hG hf => ?_)
  have hF : ∀ t, t < 20 → ν t = μ t := fun t ht => (hf t ht).trans (hF t ht)
  clear hf
  refine ev_putF (kf := 20) (T := F_M) (C := R_M) (N := 30) (ty0 := t_M) d_M_init_124 fl_M_54 rfl i_M t_M_ok n_M (by decide) rfl rfl rfl rfl rfl rfl (by decide) (hG 0 _ rfl) (Nat.le_of_ble_eq_true rfl) ?_
  refine gen (hG.upd 0 _) (fun t ht => mset_ne _ _ (by omega)) (fun ν hG hf => ?_)
  have hF : ∀ t, t < 20 → ν t = μ t := fun t ht => (hf t ht).trans (hF t ht)
  clear hf
  refine ev_aload_n d_M_init_127 rfl rfl ?_
  refine ev_bipush (v := nI 16) d_M_init_128 (by decide) ?_
  refine ev_newI (rc := 3) (rs := 123) (N := 16) d_M_init_130 (by decide) ?_
  refine gen (hG.push rfl _) (fun t ht => mset_ne _ _ (by omega)) (fun ν hG hf => ?_)
  have hF : ∀ t, t < 20 → ν t = μ t := fun t ht => (hf t ht).trans (hF t ht)
  clear hf
  refine ev_putF (kf := 23) (T := F_M) (C := R_M) (N := 30) (ty0 := t_M) d_M_init_132 fl_M_57 rfl i_M t_M_ok n_M (by decide) rfl rfl rfl rfl rfl rfl (by decide) (hG 0 _ rfl) (Nat.le_of_ble_eq_true rfl) ?_
  refine gen (hG.upd 0 _) (fun t ht => mset_ne _ _ (by omega)) (fun ν hG hf => ?_)
  have hF : ∀ t, t < 20 → ν t = μ t := fun t ht => (hf t ht).trans (hF t ht)
  clear hf
  refine ev_aload_n d_M_init_135 rfl rfl ?_
  refine ev_bipush (v := nI 41) d_M_init_136 (by decide) ?_
  refine ev_newI (rc := 2) (rs := 82) (N := 41) d_M_init_138 (by decide) ?_
  refine gen (hG.push rfl _) (fun t ht => mset_ne _ _ (by omega)) (fun ν hG hf => ?_)
  have hF : ∀ t, t < 20 → ν t = μ t := fun t ht => (hf t ht).trans (hF t ht)
  clear hf
  refine ev_putF (kf := 25) (T := F_M) (C := R_M) (N := 30) (ty0 := t_M) d_M_init_140 fl_M_60 rfl i_M t_M_ok n_M (by decide) rfl rfl rfl rfl rfl rfl (by decide) (hG 0 _ rfl) (Nat.le_of_ble_eq_true rfl) ?_
  refine gen (hG.upd 0 _) (fun t ht => mset_ne _ _ (by omega)) (fun ν hG hf => ?_)
  have hF : ∀ t, t < 20 → ν t = μ t := fun t ht => (hf t ht).trans (hF t ht)
  clear hf
  refine ev_aload_n d_M_init_143 rfl rfl ?_
  refine ev_bipush (v := nI 41) d_M_init_144 (by decide) ?_
  refine ev_newI (rc := 1) (rs := 41) (N := 41) d_M_init_146 (by decide) ?_
  refine gen (hG.push rfl _) (fun t ht => mset_ne _ _ (by omega)) (fun ν hG hf => ?_)
  have hF : ∀ t, t < 20 → ν t = μ t := fun t ht => (hf t ht).trans (hF t ht)
  clear hf
  refine ev_putF (kf := 26) (T := F_M) (C := R_M) (N := 30) (ty0 := t_M) d_M_init_148 fl_M_63 rfl i_M t_M_ok n_M (by decide) rfl rfl rfl rfl rfl rfl (by decide) (hG 0 _ rfl) (Nat.le_of_ble_eq_true rfl) ?_
  refine gen (hG.upd 0 _) (fun t ht => mset_ne _ _ (by omega)) (fun ν hG hf => ?_)
  have hF : ∀ t, t < 20 → ν t = μ t := fun t ht => (hf t ht).trans (hF t ht)
  clear hf
  refine ev_aload_n d_M_init_151 rfl rfl ?_
  refine ev_bipush (v := nI 41) d_M_init_152 (by decide) ?_
  refine ev_newI (rc := 0) (rs := 0) (N := 41) d_M_init_154 (by decide) ?_
  refine gen (hG.push rfl _) (fun t ht => mset_ne _ _ (by omega)) (fun ν hG hf => ?_)
  have hF : ∀ t, t < 20 → ν t = μ t := fun t ht => (hf t ht).trans (hF t ht)
  clear hf
  refine ev_putF (kf := 27) (T := F_M) (C := R_M) (N := 30) (ty0 := t_M) d_M_init_156 fl_M_66 rfl i_M t_M_ok n_M (by decide) rfl rfl rfl rfl rfl rfl (by decide) (hG 0 _ rfl) (Nat.le_of_ble_eq_true rfl) ?_
  refine gen (hG.upd 0 _) (fun t ht => mset_ne _ _ (by omega)) (fun ν hG hf => ?_)
  have hF : ∀ t, t < 20 → ν t = μ t := fun t ht => (hf t ht).trans (hF t ht)
  clear hf
  have hJ : ∀ s : Nat, s = stN z → Ev G k_M_init (d + 1) 0 0 181 [some (.ref (G.1 + 20)), some (.int (iI z)), none] [.int (nI s), .ref (G.1 + 20)] 40 ν Q := by
    intro s hs
    subst hs
    refine ev_putF (kf := 1) (T := F_M) (C := R_M) (N := 30) (ty0 := t_M) d_M_init_181 fl_M_69 rfl i_M t_M_ok n_M (by decide) rfl rfl rfl rfl rfl rfl (by decide) (hG 0 _ rfl) (Nat.le_of_ble_eq_true rfl) ?_
    refine gen (hG.upd 0 _) (fun t ht => mset_ne _ _ (by omega)) (fun ν hG hf => ?_)
    have hF : ∀ t, t < 20 → ν t = μ t := fun t ht => (hf t ht).trans (hF t ht)
    clear hf
    refine ev_iconst (v := nI 0) d_M_init_184 (by decide) ?_
    refine ev_istore_n (ls' := [_, _, _]) d_M_init_185 rfl (by decide) rfl rfl ?_
    subst hQ
    refine lp_M_init 7 0 ν (by omega) (by omega) ?_ hF
    have e1 : (fun j => if j < 0 then iI (-1) else 0 : Nat → Int32) = fun _ => 0 := by funext j; rw [if_neg (by omega)]
    have e2 : (fun j => if j < 0 then iI (-101) else 0 : Nat → Int32) = fun _ => 0 := by funext j; rw [if_neg (by omega)]
    rw [e1, e2]
    exact hG
  refine ev_aload_n d_M_init_159 rfl rfl ?_
  refine ev_iload_n d_M_init_160 rfl rfl ?_
  refine ev_iconst (v := nI 1) d_M_init_161 (by decide) ?_
  refine ev_icmp_ge d_M_init_162 (fun c_162 => ?_) (fun c_162 => ?_)
  · simp (disch := omega) only [nI_iI, iI_ltI, iI_leI, iI_eq, Int.not_lt, Int.not_le] at c_162
    refine ev_iload_n d_M_init_169 rfl rfl ?_
    refine ev_bipush (v := nI 40) d_M_init_170 (by decide) ?_
    refine ev_icmp_le d_M_init_172 (fun c_172 => ?_) (fun c_172 => ?_)
    · simp (disch := omega) only [nI_iI, iI_ltI, iI_leI, iI_eq, Int.not_lt, Int.not_le] at c_172
      refine ev_iload_n d_M_init_180 rfl rfl ?_
      refine ev_topi (w := nI (stN z)) (by rw [nI_iI]; congr 1; unfold stN; omega) ?_
      exact hJ _ rfl
    · simp (disch := omega) only [nI_iI, iI_ltI, iI_leI, iI_eq, Int.not_lt, Int.not_le] at c_172
      refine ev_bipush (v := nI 40) d_M_init_175 (by decide) ?_
      refine ev_goto d_M_init_177 ?_
      exact hJ 40 (by unfold stN; omega)
  · simp (disch := omega) only [nI_iI, iI_ltI, iI_leI, iI_eq, Int.not_lt, Int.not_le] at c_162
    refine ev_iconst (v := nI 1) d_M_init_165 (by decide) ?_
    refine ev_goto d_M_init_166 ?_
    exact hJ 1 (by unfold stN; omega)
end CTX
