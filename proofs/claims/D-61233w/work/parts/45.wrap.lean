/-! ===== both sides of a call ===== -/
/-- what a wrapper leaves -/
def LR (G : Gm) (n : Nat) (μ : Mem) (code : Nat) (v : Int64) (σ' : Sg) : Oc → Nat → Mem → Prop := fun o n' μ' => o = .inl (some (.int (nI code))) ∧ n ≤ n' ∧ XW G n' μ' σ' ∧ (∀ t, 20 ≤ t → t < 40 → μ' t = μ t) ∧ ∃ f, μ' 40 = aJ 1 f ∧ (code = 0 → f 0 = v)
section AFC
variable {G : Gm} {k : Mk} {d rc rs pc pc' n : Nat} {ls : List (Option Value)} {stk : List Value} {μ : Mem} {Q : Oc → Nat → Mem → Prop}
theorem afC {v : Option Value} {Q2 : Nat → Mem → Prop} (h : ∀ n' μ', Q2 n' μ' → Ev G k d rc rs pc' ls (v.toList ++ stk) n' μ' Q) : ∀ o n' μ', (o = .inl v ∧ Q2 n' μ') → AftC G k d rc rs pc pc' ls stk Q o n' μ' := by
  rintro o n' μ' ⟨rfl, hq⟩
  exact h n' μ' hq
theorem thC {e h : Nat} (h4 : 4 ≤ e) (h7 : e < 7) (hh : hfind k.2.2.2.2 pc e = some h) (kk : Ev G k d rc rs h ls [.ref (G.1 + n)] (n + 1) (mset μ n (ob e [])) Q) : ∀ o n' μ', XT e n μ o n' μ' → AftC G k d rc rs pc pc' ls stk Q o n' μ' := by
  rintro o n' μ' ⟨rfl, rfl, rfl⟩
  exact ⟨e, h, h4, h7, Nat.lt_succ_self n, mset_eq _ _ _, hh, kk⟩
end AFC
theorem i32z (x : Int32) : ∃ z : Int, x = iI z ∧ -2147483648 ≤ z ∧ z < 2147483648 := ⟨x.toInt, iI_of x, Int32.le_toInt x, Int32.toInt_lt x⟩
theorem natz {z : Int} (h : 0 ≤ z) : ∃ k : Nat, z = k := ⟨z.toNat, by omega⟩
section WR
variable {G : Gm} {d n : Nat} {μ : Mem} {σ σ' : Sg}
theorem wr_door_ok {a b : Int32} {x : Bool} {f : Nat → Int64} {fs : List Value} (hn : 41 ≤ n) (ho : μ 40 = aJ 1 f) (h0 : μ 0 = ob 0 fs) (hct : Ct G k_X_door (d + 8) 200 6000 [.ref (G.1 + 0), .int (a), .int (b)] n μ (XR G n μ (.int (b2 (x))) σ')) : Ct G k_L_door (d + 9) 200 6000 [.ref (G.1 + 0), .int (a), .int (b), .ref (G.1 + 40)] n μ (LR G n μ 0 (lN (if x then 1 else 0)) σ') := by
  refine Ct.ofp (r := 1) (ls := [some (.ref (G.1 + 0)), some (.int (a)), some (.int (b)), some (.ref (G.1 + 40)), none]) rfl (Nat.le_of_ble_eq_true rfl) ?_
  refine ev_aload_n d_L_door_0 rfl rfl ?_
  refine ev_iconst (v := (nI (0))) d_L_door_1 (by decide) ?_
  refine ev_aload_n d_L_door_2 rfl rfl ?_
  refine ev_iload_n d_L_door_3 rfl rfl ?_
  refine ev_iload_n d_L_door_4 rfl rfl ?_
  refine cvc (mc' := 200) (ms' := 6000) (k' := k_X_door) (As := [.int (a), .int (b)]) (stk := [.int (nI (0)), .ref (G.1 + 40)]) d_L_door_5 ml_L_7 kk_X_door rfl rfl (Nat.le_of_ble_eq_true rfl) (by omega) h0 rfl rfl (hct) (afC fun n1 ν hq => ?_)
  obtain ⟨hq1, hq2, hq3⟩ := hq
  have ho1 : ν 40 = aJ 1 f := (hq3 40 (by omega) (by omega)).trans ho
  refine ev_if_eq d_L_door_8 (fun c_8 => ?_) (fun c_8 => ?_)
  ·
    have c_8 := b2_f c_8
    refine ev_lconst (v := lN 0) d_L_door_15 (by decide) ?_
    refine ev_last (j := 0) d_L_door_16 (by omega) ho1 (by omega) (by decide) ?_
    refine ev_goto d_L_door_17 ?_
    refine ev_iconst (v := (nI (0))) d_L_door_24 (by decide) ?_
    refine ev_ireturn d_L_door_25 rfl rfl ?_
    refine ⟨rfl, hq1, hq2.frame (Nat.le_refl _) (fun t ht h => mset_ne _ _ (by omega)), fun t h1 h2 => (mset_ne _ _ (by omega)).trans (hq3 t h1 (by omega)), _, mset_eq _ _ _, fun _ => (upL_at _ _ _).trans ?_⟩
    rw [c_8]; rfl
  ·
    have c_8 := b2_t c_8
    refine ev_lconst (v := lN 1) d_L_door_11 (by decide) ?_
    refine ev_goto d_L_door_12 ?_
    refine ev_last (j := 0) d_L_door_16 (by omega) ho1 (by omega) (by decide) ?_
    refine ev_goto d_L_door_17 ?_
    refine ev_iconst (v := (nI (0))) d_L_door_24 (by decide) ?_
    refine ev_ireturn d_L_door_25 rfl rfl ?_
    refine ⟨rfl, hq1, hq2.frame (Nat.le_refl _) (fun t ht h => mset_ne _ _ (by omega)), fun t h1 h2 => (mset_ne _ _ (by omega)).trans (hq3 t h1 (by omega)), _, mset_eq _ _ _, fun _ => (upL_at _ _ _).trans ?_⟩
    rw [c_8]; rfl
theorem wr_door_e4 {a b : Int32} {f : Nat → Int64} {fs : List Value} (hn : 41 ≤ n) (ho : μ 40 = aJ 1 f) (h0 : μ 0 = ob 0 fs) (hW : XW G n μ σ) {y : Int64} (hct : Ct G k_X_door (d + 8) 200 6000 [.ref (G.1 + 0), .int (a), .int (b)] n μ (XT 4 n μ)) : Ct G k_L_door (d + 9) 200 6000 [.ref (G.1 + 0), .int (a), .int (b), .ref (G.1 + 40)] n μ (LR G n μ 1 y σ) := by
  refine Ct.ofp (r := 1) (ls := [some (.ref (G.1 + 0)), some (.int (a)), some (.int (b)), some (.ref (G.1 + 40)), none]) rfl (Nat.le_of_ble_eq_true rfl) ?_
  refine ev_aload_n d_L_door_0 rfl rfl ?_
  refine ev_iconst (v := (nI (0))) d_L_door_1 (by decide) ?_
  refine ev_aload_n d_L_door_2 rfl rfl ?_
  refine ev_iload_n d_L_door_3 rfl rfl ?_
  refine ev_iload_n d_L_door_4 rfl rfl ?_
  refine cvc (mc' := 200) (ms' := 6000) (k' := k_X_door) (As := [.int (a), .int (b)]) (stk := [.int (nI (0)), .ref (G.1 + 40)]) d_L_door_5 ml_L_7 kk_X_door rfl rfl (Nat.le_of_ble_eq_true rfl) (by omega) h0 rfl rfl (hct) (thC (h := 20) (by decide) (by decide) rfl ?_)
  refine ev_astore (ls' := [_, _, _, _, _]) d_L_door_20 (by decide) rfl rfl ?_
  refine ev_iconst (v := (nI (1))) d_L_door_22 (by decide) ?_
  refine ev_ireturn d_L_door_23 rfl rfl ?_
  exact ⟨rfl, by omega, hW.frame (by omega) (fun t ht h => mset_ne _ _ (by omega)), fun t h1 h2 => mset_ne _ _ (by omega), f, (mset_ne _ _ (by omega)).trans ho, fun q => by omega⟩
theorem wr_pipe_ok {a : Int32} {x : Bool} {f : Nat → Int64} {fs : List Value} (hn : 41 ≤ n) (ho : μ 40 = aJ 1 f) (h0 : μ 0 = ob 0 fs) (hct : Ct G k_X_pipe (d + 8) 200 6000 [.ref (G.1 + 0), .int (a)] n μ (XR G n μ (.int (b2 (x))) σ')) : Ct G k_L_pipe (d + 9) 200 6000 [.ref (G.1 + 0), .int (a), .ref (G.1 + 40)] n μ (LR G n μ 0 (lN (if x then 1 else 0)) σ') := by
  refine Ct.ofp (r := 1) (ls := [some (.ref (G.1 + 0)), some (.int (a)), some (.ref (G.1 + 40)), none]) rfl (Nat.le_of_ble_eq_true rfl) ?_
  refine ev_aload_n d_L_pipe_0 rfl rfl ?_
  refine ev_iconst (v := (nI (0))) d_L_pipe_1 (by decide) ?_
  refine ev_aload_n d_L_pipe_2 rfl rfl ?_
  refine ev_iload_n d_L_pipe_3 rfl rfl ?_
  refine cvc (mc' := 200) (ms' := 6000) (k' := k_X_pipe) (As := [.int (a)]) (stk := [.int (nI (0)), .ref (G.1 + 40)]) d_L_pipe_4 ml_L_15 kk_X_pipe rfl rfl (Nat.le_of_ble_eq_true rfl) (by omega) h0 rfl rfl (hct) (afC fun n1 ν hq => ?_)
  obtain ⟨hq1, hq2, hq3⟩ := hq
  have ho1 : ν 40 = aJ 1 f := (hq3 40 (by omega) (by omega)).trans ho
  refine ev_if_eq d_L_pipe_7 (fun c_7 => ?_) (fun c_7 => ?_)
  ·
    have c_7 := b2_f c_7
    refine ev_lconst (v := lN 0) d_L_pipe_14 (by decide) ?_
    refine ev_last (j := 0) d_L_pipe_15 (by omega) ho1 (by omega) (by decide) ?_
    refine ev_goto d_L_pipe_16 ?_
    refine ev_iconst (v := (nI (0))) d_L_pipe_22 (by decide) ?_
    refine ev_ireturn d_L_pipe_23 rfl rfl ?_
    refine ⟨rfl, hq1, hq2.frame (Nat.le_refl _) (fun t ht h => mset_ne _ _ (by omega)), fun t h1 h2 => (mset_ne _ _ (by omega)).trans (hq3 t h1 (by omega)), _, mset_eq _ _ _, fun _ => (upL_at _ _ _).trans ?_⟩
    rw [c_7]; rfl
  ·
    have c_7 := b2_t c_7
    refine ev_lconst (v := lN 1) d_L_pipe_10 (by decide) ?_
    refine ev_goto d_L_pipe_11 ?_
    refine ev_last (j := 0) d_L_pipe_15 (by omega) ho1 (by omega) (by decide) ?_
    refine ev_goto d_L_pipe_16 ?_
    refine ev_iconst (v := (nI (0))) d_L_pipe_22 (by decide) ?_
    refine ev_ireturn d_L_pipe_23 rfl rfl ?_
    refine ⟨rfl, hq1, hq2.frame (Nat.le_refl _) (fun t ht h => mset_ne _ _ (by omega)), fun t h1 h2 => (mset_ne _ _ (by omega)).trans (hq3 t h1 (by omega)), _, mset_eq _ _ _, fun _ => (upL_at _ _ _).trans ?_⟩
    rw [c_7]; rfl
theorem wr_pipe_e4 {a : Int32} {f : Nat → Int64} {fs : List Value} (hn : 41 ≤ n) (ho : μ 40 = aJ 1 f) (h0 : μ 0 = ob 0 fs) (hW : XW G n μ σ) {y : Int64} (hct : Ct G k_X_pipe (d + 8) 200 6000 [.ref (G.1 + 0), .int (a)] n μ (XT 4 n μ)) : Ct G k_L_pipe (d + 9) 200 6000 [.ref (G.1 + 0), .int (a), .ref (G.1 + 40)] n μ (LR G n μ 1 y σ) := by
  refine Ct.ofp (r := 1) (ls := [some (.ref (G.1 + 0)), some (.int (a)), some (.ref (G.1 + 40)), none]) rfl (Nat.le_of_ble_eq_true rfl) ?_
  refine ev_aload_n d_L_pipe_0 rfl rfl ?_
  refine ev_iconst (v := (nI (0))) d_L_pipe_1 (by decide) ?_
  refine ev_aload_n d_L_pipe_2 rfl rfl ?_
  refine ev_iload_n d_L_pipe_3 rfl rfl ?_
  refine cvc (mc' := 200) (ms' := 6000) (k' := k_X_pipe) (As := [.int (a)]) (stk := [.int (nI (0)), .ref (G.1 + 40)]) d_L_pipe_4 ml_L_15 kk_X_pipe rfl rfl (Nat.le_of_ble_eq_true rfl) (by omega) h0 rfl rfl (hct) (thC (h := 19) (by decide) (by decide) rfl ?_)
  refine ev_astore_n (ls' := [_, _, _, _]) d_L_pipe_19 rfl (by decide) rfl rfl ?_
  refine ev_iconst (v := (nI (1))) d_L_pipe_20 (by decide) ?_
  refine ev_ireturn d_L_pipe_21 rfl rfl ?_
  exact ⟨rfl, by omega, hW.frame (by omega) (fun t ht h => mset_ne _ _ (by omega)), fun t h1 h2 => mset_ne _ _ (by omega), f, (mset_ne _ _ (by omega)).trans ho, fun q => by omega⟩
theorem wr_item_ok {a : Int32} {w1 w2 : Int64} {z : Int} (hz1 : -2147483648 ≤ z) (hz2 : z < 2147483648) {f : Nat → Int64} {fs : List Value} (hn : 41 ≤ n) (ho : μ 40 = aJ 1 f) (h0 : μ 0 = ob 0 fs) (hct : Ct G k_X_item (d + 8) 200 6000 [.ref (G.1 + 0), .int (a), .long (w1), .long (w2)] n μ (XR G n μ (.int (iI (z))) σ')) : Ct G k_L_item (d + 9) 200 6000 [.ref (G.1 + 0), .int (a), .long (w1), .long (w2), .ref (G.1 + 40)] n μ (LR G n μ 0 ((iI z).toInt64) σ') := by
  refine Ct.ofp (r := 1) (ls := [some (.ref (G.1 + 0)), some (.int (a)), some (.long (w1)), none, some (.long (w2)), none, some (.ref (G.1 + 40)), none]) rfl (Nat.le_of_ble_eq_true rfl) ?_
  refine ev_aload d_L_item_0 rfl ?_
  refine ev_iconst (v := (nI (0))) d_L_item_2 (by decide) ?_
  refine ev_aload_n d_L_item_3 rfl rfl ?_
  refine ev_iload_n d_L_item_4 rfl rfl ?_
  refine ev_lload_n d_L_item_5 rfl rfl ?_
  refine ev_lload d_L_item_6 rfl ?_
  refine cvc (mc' := 200) (ms' := 6000) (k' := k_X_item) (As := [.int (a), .long (w1), .long (w2)]) (stk := [.int (nI (0)), .ref (G.1 + 40)]) d_L_item_8 ml_L_19 kk_X_item rfl rfl (Nat.le_of_ble_eq_true rfl) (by omega) h0 rfl rfl (hct) (afC fun n1 ν hq => ?_)
  obtain ⟨hq1, hq2, hq3⟩ := hq
  have ho1 : ν 40 = aJ 1 f := (hq3 40 (by omega) (by omega)).trans ho
  refine ev_i2l d_L_item_11 ?_
  refine ev_last (j := 0) d_L_item_12 (by omega) ho1 (by omega) (by decide) ?_
  refine ev_goto d_L_item_13 ?_
  refine ev_iconst (v := (nI (0))) d_L_item_24 (by decide) ?_
  refine ev_ireturn d_L_item_25 rfl rfl ?_
  refine ⟨rfl, hq1, hq2.frame (Nat.le_refl _) (fun t ht h => mset_ne _ _ (by omega)), fun t h1 h2 => (mset_ne _ _ (by omega)).trans (hq3 t h1 (by omega)), _, mset_eq _ _ _, fun _ => (upL_at _ _ _).trans ?_⟩
  rfl
theorem wr_item_e5 {a : Int32} {w1 w2 : Int64} {f : Nat → Int64} {fs : List Value} (hn : 41 ≤ n) (ho : μ 40 = aJ 1 f) (h0 : μ 0 = ob 0 fs) (hW : XW G n μ σ) {y : Int64} (hct : Ct G k_X_item (d + 8) 200 6000 [.ref (G.1 + 0), .int (a), .long (w1), .long (w2)] n μ (XT 5 n μ)) : Ct G k_L_item (d + 9) 200 6000 [.ref (G.1 + 0), .int (a), .long (w1), .long (w2), .ref (G.1 + 40)] n μ (LR G n μ 1 y σ) := by
  refine Ct.ofp (r := 1) (ls := [some (.ref (G.1 + 0)), some (.int (a)), some (.long (w1)), none, some (.long (w2)), none, some (.ref (G.1 + 40)), none]) rfl (Nat.le_of_ble_eq_true rfl) ?_
  refine ev_aload d_L_item_0 rfl ?_
  refine ev_iconst (v := (nI (0))) d_L_item_2 (by decide) ?_
  refine ev_aload_n d_L_item_3 rfl rfl ?_
  refine ev_iload_n d_L_item_4 rfl rfl ?_
  refine ev_lload_n d_L_item_5 rfl rfl ?_
  refine ev_lload d_L_item_6 rfl ?_
  refine cvc (mc' := 200) (ms' := 6000) (k' := k_X_item) (As := [.int (a), .long (w1), .long (w2)]) (stk := [.int (nI (0)), .ref (G.1 + 40)]) d_L_item_8 ml_L_19 kk_X_item rfl rfl (Nat.le_of_ble_eq_true rfl) (by omega) h0 rfl rfl (hct) (thC (h := 16) (by decide) (by decide) rfl ?_)
  refine ev_astore (ls' := [_, _, _, none, _, none, _, _]) d_L_item_16 (by decide) rfl rfl ?_
  refine ev_iconst (v := (nI (1))) d_L_item_18 (by decide) ?_
  refine ev_ireturn d_L_item_19 rfl rfl ?_
  exact ⟨rfl, by omega, hW.frame (by omega) (fun t ht h => mset_ne _ _ (by omega)), fun t h1 h2 => mset_ne _ _ (by omega), f, (mset_ne _ _ (by omega)).trans ho, fun q => by omega⟩
theorem wr_item_e4 {a : Int32} {w1 w2 : Int64} {f : Nat → Int64} {fs : List Value} (hn : 41 ≤ n) (ho : μ 40 = aJ 1 f) (h0 : μ 0 = ob 0 fs) (hW : XW G n μ σ) {y : Int64} (hct : Ct G k_X_item (d + 8) 200 6000 [.ref (G.1 + 0), .int (a), .long (w1), .long (w2)] n μ (XT 4 n μ)) : Ct G k_L_item (d + 9) 200 6000 [.ref (G.1 + 0), .int (a), .long (w1), .long (w2), .ref (G.1 + 40)] n μ (LR G n μ 2 y σ) := by
  refine Ct.ofp (r := 1) (ls := [some (.ref (G.1 + 0)), some (.int (a)), some (.long (w1)), none, some (.long (w2)), none, some (.ref (G.1 + 40)), none]) rfl (Nat.le_of_ble_eq_true rfl) ?_
  refine ev_aload d_L_item_0 rfl ?_
  refine ev_iconst (v := (nI (0))) d_L_item_2 (by decide) ?_
  refine ev_aload_n d_L_item_3 rfl rfl ?_
  refine ev_iload_n d_L_item_4 rfl rfl ?_
  refine ev_lload_n d_L_item_5 rfl rfl ?_
  refine ev_lload d_L_item_6 rfl ?_
  refine cvc (mc' := 200) (ms' := 6000) (k' := k_X_item) (As := [.int (a), .long (w1), .long (w2)]) (stk := [.int (nI (0)), .ref (G.1 + 40)]) d_L_item_8 ml_L_19 kk_X_item rfl rfl (Nat.le_of_ble_eq_true rfl) (by omega) h0 rfl rfl (hct) (thC (h := 20) (by decide) (by decide) rfl ?_)
  refine ev_astore (ls' := [_, _, _, none, _, none, _, _]) d_L_item_20 (by decide) rfl rfl ?_
  refine ev_iconst (v := (nI (2))) d_L_item_22 (by decide) ?_
  refine ev_ireturn d_L_item_23 rfl rfl ?_
  exact ⟨rfl, by omega, hW.frame (by omega) (fun t ht h => mset_ne _ _ (by omega)), fun t h1 h2 => mset_ne _ _ (by omega), f, (mset_ne _ _ (by omega)).trans ho, fun q => by omega⟩
theorem wr_need_ok {a b : Int32} {x : Bool} {f : Nat → Int64} {fs : List Value} (hn : 41 ≤ n) (ho : μ 40 = aJ 1 f) (h0 : μ 0 = ob 0 fs) (hct : Ct G k_X_need (d + 8) 200 6000 [.ref (G.1 + 0), .int (a), .int (b)] n μ (XR G n μ (.int (b2 (x))) σ')) : Ct G k_L_need (d + 9) 200 6000 [.ref (G.1 + 0), .int (a), .int (b), .ref (G.1 + 40)] n μ (LR G n μ 0 (lN (if x then 1 else 0)) σ') := by
  refine Ct.ofp (r := 1) (ls := [some (.ref (G.1 + 0)), some (.int (a)), some (.int (b)), some (.ref (G.1 + 40)), none]) rfl (Nat.le_of_ble_eq_true rfl) ?_
  refine ev_aload_n d_L_need_0 rfl rfl ?_
  refine ev_iconst (v := (nI (0))) d_L_need_1 (by decide) ?_
  refine ev_aload_n d_L_need_2 rfl rfl ?_
  refine ev_iload_n d_L_need_3 rfl rfl ?_
  refine ev_iload_n d_L_need_4 rfl rfl ?_
  refine cvc (mc' := 200) (ms' := 6000) (k' := k_X_need) (As := [.int (a), .int (b)]) (stk := [.int (nI (0)), .ref (G.1 + 40)]) d_L_need_5 ml_L_25 kk_X_need rfl rfl (Nat.le_of_ble_eq_true rfl) (by omega) h0 rfl rfl (hct) (afC fun n1 ν hq => ?_)
  obtain ⟨hq1, hq2, hq3⟩ := hq
  have ho1 : ν 40 = aJ 1 f := (hq3 40 (by omega) (by omega)).trans ho
  refine ev_if_eq d_L_need_8 (fun c_8 => ?_) (fun c_8 => ?_)
  ·
    have c_8 := b2_f c_8
    refine ev_lconst (v := lN 0) d_L_need_15 (by decide) ?_
    refine ev_last (j := 0) d_L_need_16 (by omega) ho1 (by omega) (by decide) ?_
    refine ev_goto d_L_need_17 ?_
    refine ev_iconst (v := (nI (0))) d_L_need_28 (by decide) ?_
    refine ev_ireturn d_L_need_29 rfl rfl ?_
    refine ⟨rfl, hq1, hq2.frame (Nat.le_refl _) (fun t ht h => mset_ne _ _ (by omega)), fun t h1 h2 => (mset_ne _ _ (by omega)).trans (hq3 t h1 (by omega)), _, mset_eq _ _ _, fun _ => (upL_at _ _ _).trans ?_⟩
    rw [c_8]; rfl
  ·
    have c_8 := b2_t c_8
    refine ev_lconst (v := lN 1) d_L_need_11 (by decide) ?_
    refine ev_goto d_L_need_12 ?_
    refine ev_last (j := 0) d_L_need_16 (by omega) ho1 (by omega) (by decide) ?_
    refine ev_goto d_L_need_17 ?_
    refine ev_iconst (v := (nI (0))) d_L_need_28 (by decide) ?_
    refine ev_ireturn d_L_need_29 rfl rfl ?_
    refine ⟨rfl, hq1, hq2.frame (Nat.le_refl _) (fun t ht h => mset_ne _ _ (by omega)), fun t h1 h2 => (mset_ne _ _ (by omega)).trans (hq3 t h1 (by omega)), _, mset_eq _ _ _, fun _ => (upL_at _ _ _).trans ?_⟩
    rw [c_8]; rfl
theorem wr_need_e6 {a b : Int32} {f : Nat → Int64} {fs : List Value} (hn : 41 ≤ n) (ho : μ 40 = aJ 1 f) (h0 : μ 0 = ob 0 fs) (hW : XW G n μ σ) {y : Int64} (hct : Ct G k_X_need (d + 8) 200 6000 [.ref (G.1 + 0), .int (a), .int (b)] n μ (XT 6 n μ)) : Ct G k_L_need (d + 9) 200 6000 [.ref (G.1 + 0), .int (a), .int (b), .ref (G.1 + 40)] n μ (LR G n μ 1 y σ) := by
  refine Ct.ofp (r := 1) (ls := [some (.ref (G.1 + 0)), some (.int (a)), some (.int (b)), some (.ref (G.1 + 40)), none]) rfl (Nat.le_of_ble_eq_true rfl) ?_
  refine ev_aload_n d_L_need_0 rfl rfl ?_
  refine ev_iconst (v := (nI (0))) d_L_need_1 (by decide) ?_
  refine ev_aload_n d_L_need_2 rfl rfl ?_
  refine ev_iload_n d_L_need_3 rfl rfl ?_
  refine ev_iload_n d_L_need_4 rfl rfl ?_
  refine cvc (mc' := 200) (ms' := 6000) (k' := k_X_need) (As := [.int (a), .int (b)]) (stk := [.int (nI (0)), .ref (G.1 + 40)]) d_L_need_5 ml_L_25 kk_X_need rfl rfl (Nat.le_of_ble_eq_true rfl) (by omega) h0 rfl rfl (hct) (thC (h := 20) (by decide) (by decide) rfl ?_)
  refine ev_astore (ls' := [_, _, _, _, _]) d_L_need_20 (by decide) rfl rfl ?_
  refine ev_iconst (v := (nI (1))) d_L_need_22 (by decide) ?_
  refine ev_ireturn d_L_need_23 rfl rfl ?_
  exact ⟨rfl, by omega, hW.frame (by omega) (fun t ht h => mset_ne _ _ (by omega)), fun t h1 h2 => mset_ne _ _ (by omega), f, (mset_ne _ _ (by omega)).trans ho, fun q => by omega⟩
theorem wr_need_e4 {a b : Int32} {f : Nat → Int64} {fs : List Value} (hn : 41 ≤ n) (ho : μ 40 = aJ 1 f) (h0 : μ 0 = ob 0 fs) (hW : XW G n μ σ) {y : Int64} (hct : Ct G k_X_need (d + 8) 200 6000 [.ref (G.1 + 0), .int (a), .int (b)] n μ (XT 4 n μ)) : Ct G k_L_need (d + 9) 200 6000 [.ref (G.1 + 0), .int (a), .int (b), .ref (G.1 + 40)] n μ (LR G n μ 2 y σ) := by
  refine Ct.ofp (r := 1) (ls := [some (.ref (G.1 + 0)), some (.int (a)), some (.int (b)), some (.ref (G.1 + 40)), none]) rfl (Nat.le_of_ble_eq_true rfl) ?_
  refine ev_aload_n d_L_need_0 rfl rfl ?_
  refine ev_iconst (v := (nI (0))) d_L_need_1 (by decide) ?_
  refine ev_aload_n d_L_need_2 rfl rfl ?_
  refine ev_iload_n d_L_need_3 rfl rfl ?_
  refine ev_iload_n d_L_need_4 rfl rfl ?_
  refine cvc (mc' := 200) (ms' := 6000) (k' := k_X_need) (As := [.int (a), .int (b)]) (stk := [.int (nI (0)), .ref (G.1 + 40)]) d_L_need_5 ml_L_25 kk_X_need rfl rfl (Nat.le_of_ble_eq_true rfl) (by omega) h0 rfl rfl (hct) (thC (h := 24) (by decide) (by decide) rfl ?_)
  refine ev_astore (ls' := [_, _, _, _, _]) d_L_need_24 (by decide) rfl rfl ?_
  refine ev_iconst (v := (nI (2))) d_L_need_26 (by decide) ?_
  refine ev_ireturn d_L_need_27 rfl rfl ?_
  exact ⟨rfl, by omega, hW.frame (by omega) (fun t ht h => mset_ne _ _ (by omega)), fun t h1 h2 => mset_ne _ _ (by omega), f, (mset_ne _ _ (by omega)).trans ho, fun q => by omega⟩
theorem wr_near_ok {a b : Int32} {w1 : Int64} {x : Bool} {f : Nat → Int64} {fs : List Value} (hn : 41 ≤ n) (ho : μ 40 = aJ 1 f) (h0 : μ 0 = ob 0 fs) (hct : Ct G k_X_near (d + 8) 200 6000 [.ref (G.1 + 0), .int (a), .int (b), .long (w1)] n μ (XR G n μ (.int (b2 (x))) σ')) : Ct G k_L_near (d + 9) 200 6000 [.ref (G.1 + 0), .int (a), .int (b), .long (w1), .ref (G.1 + 40)] n μ (LR G n μ 0 (lN (if x then 1 else 0)) σ') := by
  refine Ct.ofp (r := 1) (ls := [some (.ref (G.1 + 0)), some (.int (a)), some (.int (b)), some (.long (w1)), none, some (.ref (G.1 + 40)), none]) rfl (Nat.le_of_ble_eq_true rfl) ?_
  refine ev_aload d_L_near_0 rfl ?_
  refine ev_iconst (v := (nI (0))) d_L_near_2 (by decide) ?_
  refine ev_aload_n d_L_near_3 rfl rfl ?_
  refine ev_iload_n d_L_near_4 rfl rfl ?_
  refine ev_iload_n d_L_near_5 rfl rfl ?_
  refine ev_lload_n d_L_near_6 rfl rfl ?_
  refine cvc (mc' := 200) (ms' := 6000) (k' := k_X_near) (As := [.int (a), .int (b), .long (w1)]) (stk := [.int (nI (0)), .ref (G.1 + 40)]) d_L_near_7 ml_L_30 kk_X_near rfl rfl (Nat.le_of_ble_eq_true rfl) (by omega) h0 rfl rfl (hct) (afC fun n1 ν hq => ?_)
  obtain ⟨hq1, hq2, hq3⟩ := hq
  have ho1 : ν 40 = aJ 1 f := (hq3 40 (by omega) (by omega)).trans ho
  refine ev_if_eq d_L_near_10 (fun c_10 => ?_) (fun c_10 => ?_)
  ·
    have c_10 := b2_f c_10
    refine ev_lconst (v := lN 0) d_L_near_17 (by decide) ?_
    refine ev_last (j := 0) d_L_near_18 (by omega) ho1 (by omega) (by decide) ?_
    refine ev_goto d_L_near_19 ?_
    refine ev_iconst (v := (nI (0))) d_L_near_30 (by decide) ?_
    refine ev_ireturn d_L_near_31 rfl rfl ?_
    refine ⟨rfl, hq1, hq2.frame (Nat.le_refl _) (fun t ht h => mset_ne _ _ (by omega)), fun t h1 h2 => (mset_ne _ _ (by omega)).trans (hq3 t h1 (by omega)), _, mset_eq _ _ _, fun _ => (upL_at _ _ _).trans ?_⟩
    rw [c_10]; rfl
  ·
    have c_10 := b2_t c_10
    refine ev_lconst (v := lN 1) d_L_near_13 (by decide) ?_
    refine ev_goto d_L_near_14 ?_
    refine ev_last (j := 0) d_L_near_18 (by omega) ho1 (by omega) (by decide) ?_
    refine ev_goto d_L_near_19 ?_
    refine ev_iconst (v := (nI (0))) d_L_near_30 (by decide) ?_
    refine ev_ireturn d_L_near_31 rfl rfl ?_
    refine ⟨rfl, hq1, hq2.frame (Nat.le_refl _) (fun t ht h => mset_ne _ _ (by omega)), fun t h1 h2 => (mset_ne _ _ (by omega)).trans (hq3 t h1 (by omega)), _, mset_eq _ _ _, fun _ => (upL_at _ _ _).trans ?_⟩
    rw [c_10]; rfl
theorem wr_near_e6 {a b : Int32} {w1 : Int64} {f : Nat → Int64} {fs : List Value} (hn : 41 ≤ n) (ho : μ 40 = aJ 1 f) (h0 : μ 0 = ob 0 fs) (hW : XW G n μ σ) {y : Int64} (hct : Ct G k_X_near (d + 8) 200 6000 [.ref (G.1 + 0), .int (a), .int (b), .long (w1)] n μ (XT 6 n μ)) : Ct G k_L_near (d + 9) 200 6000 [.ref (G.1 + 0), .int (a), .int (b), .long (w1), .ref (G.1 + 40)] n μ (LR G n μ 1 y σ) := by
  refine Ct.ofp (r := 1) (ls := [some (.ref (G.1 + 0)), some (.int (a)), some (.int (b)), some (.long (w1)), none, some (.ref (G.1 + 40)), none]) rfl (Nat.le_of_ble_eq_true rfl) ?_
  refine ev_aload d_L_near_0 rfl ?_
  refine ev_iconst (v := (nI (0))) d_L_near_2 (by decide) ?_
  refine ev_aload_n d_L_near_3 rfl rfl ?_
  refine ev_iload_n d_L_near_4 rfl rfl ?_
  refine ev_iload_n d_L_near_5 rfl rfl ?_
  refine ev_lload_n d_L_near_6 rfl rfl ?_
  refine cvc (mc' := 200) (ms' := 6000) (k' := k_X_near) (As := [.int (a), .int (b), .long (w1)]) (stk := [.int (nI (0)), .ref (G.1 + 40)]) d_L_near_7 ml_L_30 kk_X_near rfl rfl (Nat.le_of_ble_eq_true rfl) (by omega) h0 rfl rfl (hct) (thC (h := 22) (by decide) (by decide) rfl ?_)
  refine ev_astore (ls' := [_, _, _, _, none, _, _]) d_L_near_22 (by decide) rfl rfl ?_
  refine ev_iconst (v := (nI (1))) d_L_near_24 (by decide) ?_
  refine ev_ireturn d_L_near_25 rfl rfl ?_
  exact ⟨rfl, by omega, hW.frame (by omega) (fun t ht h => mset_ne _ _ (by omega)), fun t h1 h2 => mset_ne _ _ (by omega), f, (mset_ne _ _ (by omega)).trans ho, fun q => by omega⟩
theorem wr_near_e4 {a b : Int32} {w1 : Int64} {f : Nat → Int64} {fs : List Value} (hn : 41 ≤ n) (ho : μ 40 = aJ 1 f) (h0 : μ 0 = ob 0 fs) (hW : XW G n μ σ) {y : Int64} (hct : Ct G k_X_near (d + 8) 200 6000 [.ref (G.1 + 0), .int (a), .int (b), .long (w1)] n μ (XT 4 n μ)) : Ct G k_L_near (d + 9) 200 6000 [.ref (G.1 + 0), .int (a), .int (b), .long (w1), .ref (G.1 + 40)] n μ (LR G n μ 2 y σ) := by
  refine Ct.ofp (r := 1) (ls := [some (.ref (G.1 + 0)), some (.int (a)), some (.int (b)), some (.long (w1)), none, some (.ref (G.1 + 40)), none]) rfl (Nat.le_of_ble_eq_true rfl) ?_
  refine ev_aload d_L_near_0 rfl ?_
  refine ev_iconst (v := (nI (0))) d_L_near_2 (by decide) ?_
  refine ev_aload_n d_L_near_3 rfl rfl ?_
  refine ev_iload_n d_L_near_4 rfl rfl ?_
  refine ev_iload_n d_L_near_5 rfl rfl ?_
  refine ev_lload_n d_L_near_6 rfl rfl ?_
  refine cvc (mc' := 200) (ms' := 6000) (k' := k_X_near) (As := [.int (a), .int (b), .long (w1)]) (stk := [.int (nI (0)), .ref (G.1 + 40)]) d_L_near_7 ml_L_30 kk_X_near rfl rfl (Nat.le_of_ble_eq_true rfl) (by omega) h0 rfl rfl (hct) (thC (h := 26) (by decide) (by decide) rfl ?_)
  refine ev_astore (ls' := [_, _, _, _, none, _, _]) d_L_near_26 (by decide) rfl rfl ?_
  refine ev_iconst (v := (nI (2))) d_L_near_28 (by decide) ?_
  refine ev_ireturn d_L_near_29 rfl rfl ?_
  exact ⟨rfl, by omega, hW.frame (by omega) (fun t ht h => mset_ne _ _ (by omega)), fun t h1 h2 => mset_ne _ _ (by omega), f, (mset_ne _ _ (by omega)).trans ho, fun q => by omega⟩
theorem wr_bar_ok {a b : Int32} {x : Bool} {f : Nat → Int64} {fs : List Value} (hn : 41 ≤ n) (ho : μ 40 = aJ 1 f) (h0 : μ 0 = ob 0 fs) (hct : Ct G k_X_bar (d + 8) 200 6000 [.ref (G.1 + 0), .int (a), .int (b)] n μ (XR G n μ (.int (b2 (x))) σ')) : Ct G k_L_bar (d + 9) 200 6000 [.ref (G.1 + 0), .int (a), .int (b), .ref (G.1 + 40)] n μ (LR G n μ 0 (lN (if x then 1 else 0)) σ') := by
  refine Ct.ofp (r := 1) (ls := [some (.ref (G.1 + 0)), some (.int (a)), some (.int (b)), some (.ref (G.1 + 40)), none]) rfl (Nat.le_of_ble_eq_true rfl) ?_
  refine ev_aload_n d_L_bar_0 rfl rfl ?_
  refine ev_iconst (v := (nI (0))) d_L_bar_1 (by decide) ?_
  refine ev_aload_n d_L_bar_2 rfl rfl ?_
  refine ev_iload_n d_L_bar_3 rfl rfl ?_
  refine ev_iload_n d_L_bar_4 rfl rfl ?_
  refine cvc (mc' := 200) (ms' := 6000) (k' := k_X_bar) (As := [.int (a), .int (b)]) (stk := [.int (nI (0)), .ref (G.1 + 40)]) d_L_bar_5 ml_L_34 kk_X_bar rfl rfl (Nat.le_of_ble_eq_true rfl) (by omega) h0 rfl rfl (hct) (afC fun n1 ν hq => ?_)
  obtain ⟨hq1, hq2, hq3⟩ := hq
  have ho1 : ν 40 = aJ 1 f := (hq3 40 (by omega) (by omega)).trans ho
  refine ev_if_eq d_L_bar_8 (fun c_8 => ?_) (fun c_8 => ?_)
  ·
    have c_8 := b2_f c_8
    refine ev_lconst (v := lN 0) d_L_bar_15 (by decide) ?_
    refine ev_last (j := 0) d_L_bar_16 (by omega) ho1 (by omega) (by decide) ?_
    refine ev_goto d_L_bar_17 ?_
    refine ev_iconst (v := (nI (0))) d_L_bar_28 (by decide) ?_
    refine ev_ireturn d_L_bar_29 rfl rfl ?_
    refine ⟨rfl, hq1, hq2.frame (Nat.le_refl _) (fun t ht h => mset_ne _ _ (by omega)), fun t h1 h2 => (mset_ne _ _ (by omega)).trans (hq3 t h1 (by omega)), _, mset_eq _ _ _, fun _ => (upL_at _ _ _).trans ?_⟩
    rw [c_8]; rfl
  ·
    have c_8 := b2_t c_8
    refine ev_lconst (v := lN 1) d_L_bar_11 (by decide) ?_
    refine ev_goto d_L_bar_12 ?_
    refine ev_last (j := 0) d_L_bar_16 (by omega) ho1 (by omega) (by decide) ?_
    refine ev_goto d_L_bar_17 ?_
    refine ev_iconst (v := (nI (0))) d_L_bar_28 (by decide) ?_
    refine ev_ireturn d_L_bar_29 rfl rfl ?_
    refine ⟨rfl, hq1, hq2.frame (Nat.le_refl _) (fun t ht h => mset_ne _ _ (by omega)), fun t h1 h2 => (mset_ne _ _ (by omega)).trans (hq3 t h1 (by omega)), _, mset_eq _ _ _, fun _ => (upL_at _ _ _).trans ?_⟩
    rw [c_8]; rfl
theorem wr_bar_e6 {a b : Int32} {f : Nat → Int64} {fs : List Value} (hn : 41 ≤ n) (ho : μ 40 = aJ 1 f) (h0 : μ 0 = ob 0 fs) (hW : XW G n μ σ) {y : Int64} (hct : Ct G k_X_bar (d + 8) 200 6000 [.ref (G.1 + 0), .int (a), .int (b)] n μ (XT 6 n μ)) : Ct G k_L_bar (d + 9) 200 6000 [.ref (G.1 + 0), .int (a), .int (b), .ref (G.1 + 40)] n μ (LR G n μ 1 y σ) := by
  refine Ct.ofp (r := 1) (ls := [some (.ref (G.1 + 0)), some (.int (a)), some (.int (b)), some (.ref (G.1 + 40)), none]) rfl (Nat.le_of_ble_eq_true rfl) ?_
  refine ev_aload_n d_L_bar_0 rfl rfl ?_
  refine ev_iconst (v := (nI (0))) d_L_bar_1 (by decide) ?_
  refine ev_aload_n d_L_bar_2 rfl rfl ?_
  refine ev_iload_n d_L_bar_3 rfl rfl ?_
  refine ev_iload_n d_L_bar_4 rfl rfl ?_
  refine cvc (mc' := 200) (ms' := 6000) (k' := k_X_bar) (As := [.int (a), .int (b)]) (stk := [.int (nI (0)), .ref (G.1 + 40)]) d_L_bar_5 ml_L_34 kk_X_bar rfl rfl (Nat.le_of_ble_eq_true rfl) (by omega) h0 rfl rfl (hct) (thC (h := 20) (by decide) (by decide) rfl ?_)
  refine ev_astore (ls' := [_, _, _, _, _]) d_L_bar_20 (by decide) rfl rfl ?_
  refine ev_iconst (v := (nI (1))) d_L_bar_22 (by decide) ?_
  refine ev_ireturn d_L_bar_23 rfl rfl ?_
  exact ⟨rfl, by omega, hW.frame (by omega) (fun t ht h => mset_ne _ _ (by omega)), fun t h1 h2 => mset_ne _ _ (by omega), f, (mset_ne _ _ (by omega)).trans ho, fun q => by omega⟩
theorem wr_bar_e4 {a b : Int32} {f : Nat → Int64} {fs : List Value} (hn : 41 ≤ n) (ho : μ 40 = aJ 1 f) (h0 : μ 0 = ob 0 fs) (hW : XW G n μ σ) {y : Int64} (hct : Ct G k_X_bar (d + 8) 200 6000 [.ref (G.1 + 0), .int (a), .int (b)] n μ (XT 4 n μ)) : Ct G k_L_bar (d + 9) 200 6000 [.ref (G.1 + 0), .int (a), .int (b), .ref (G.1 + 40)] n μ (LR G n μ 2 y σ) := by
  refine Ct.ofp (r := 1) (ls := [some (.ref (G.1 + 0)), some (.int (a)), some (.int (b)), some (.ref (G.1 + 40)), none]) rfl (Nat.le_of_ble_eq_true rfl) ?_
  refine ev_aload_n d_L_bar_0 rfl rfl ?_
  refine ev_iconst (v := (nI (0))) d_L_bar_1 (by decide) ?_
  refine ev_aload_n d_L_bar_2 rfl rfl ?_
  refine ev_iload_n d_L_bar_3 rfl rfl ?_
  refine ev_iload_n d_L_bar_4 rfl rfl ?_
  refine cvc (mc' := 200) (ms' := 6000) (k' := k_X_bar) (As := [.int (a), .int (b)]) (stk := [.int (nI (0)), .ref (G.1 + 40)]) d_L_bar_5 ml_L_34 kk_X_bar rfl rfl (Nat.le_of_ble_eq_true rfl) (by omega) h0 rfl rfl (hct) (thC (h := 24) (by decide) (by decide) rfl ?_)
  refine ev_astore (ls' := [_, _, _, _, _]) d_L_bar_24 (by decide) rfl rfl ?_
  refine ev_iconst (v := (nI (2))) d_L_bar_26 (by decide) ?_
  refine ev_ireturn d_L_bar_27 rfl rfl ?_
  exact ⟨rfl, by omega, hW.frame (by omega) (fun t ht h => mset_ne _ _ (by omega)), fun t h1 h2 => mset_ne _ _ (by omega), f, (mset_ne _ _ (by omega)).trans ho, fun q => by omega⟩
theorem wr_must_ok {a : Int32} {on : Bool} {x : Bool} {f : Nat → Int64} {fs : List Value} (hn : 41 ≤ n) (ho : μ 40 = aJ 1 f) (h0 : μ 0 = ob 0 fs) (hct : Ct G k_X_must (d + 8) 200 6000 [.ref (G.1 + 0), .int (a), .int (b2 (on))] n μ (XR G n μ (.int (b2 (x))) σ')) : Ct G k_L_must (d + 9) 200 6000 [.ref (G.1 + 0), .int (a), .int (b2 (on)), .ref (G.1 + 40)] n μ (LR G n μ 0 (lN (if x then 1 else 0)) σ') := by
  refine Ct.ofp (r := 1) (ls := [some (.ref (G.1 + 0)), some (.int (a)), some (.int (b2 (on))), some (.ref (G.1 + 40)), none]) rfl (Nat.le_of_ble_eq_true rfl) ?_
  refine ev_aload_n d_L_must_0 rfl rfl ?_
  refine ev_iconst (v := (nI (0))) d_L_must_1 (by decide) ?_
  refine ev_aload_n d_L_must_2 rfl rfl ?_
  refine ev_iload_n d_L_must_3 rfl rfl ?_
  refine ev_iload_n d_L_must_4 rfl rfl ?_
  refine cvc (mc' := 200) (ms' := 6000) (k' := k_X_must) (As := [.int (a), .int (b2 (on))]) (stk := [.int (nI (0)), .ref (G.1 + 40)]) d_L_must_5 ml_L_37 kk_X_must rfl rfl (Nat.le_of_ble_eq_true rfl) (by omega) h0 rfl rfl (hct) (afC fun n1 ν hq => ?_)
  obtain ⟨hq1, hq2, hq3⟩ := hq
  have ho1 : ν 40 = aJ 1 f := (hq3 40 (by omega) (by omega)).trans ho
  refine ev_if_eq d_L_must_8 (fun c_8 => ?_) (fun c_8 => ?_)
  ·
    have c_8 := b2_f c_8
    refine ev_lconst (v := lN 0) d_L_must_15 (by decide) ?_
    refine ev_last (j := 0) d_L_must_16 (by omega) ho1 (by omega) (by decide) ?_
    refine ev_goto d_L_must_17 ?_
    refine ev_iconst (v := (nI (0))) d_L_must_24 (by decide) ?_
    refine ev_ireturn d_L_must_25 rfl rfl ?_
    refine ⟨rfl, hq1, hq2.frame (Nat.le_refl _) (fun t ht h => mset_ne _ _ (by omega)), fun t h1 h2 => (mset_ne _ _ (by omega)).trans (hq3 t h1 (by omega)), _, mset_eq _ _ _, fun _ => (upL_at _ _ _).trans ?_⟩
    rw [c_8]; rfl
  ·
    have c_8 := b2_t c_8
    refine ev_lconst (v := lN 1) d_L_must_11 (by decide) ?_
    refine ev_goto d_L_must_12 ?_
    refine ev_last (j := 0) d_L_must_16 (by omega) ho1 (by omega) (by decide) ?_
    refine ev_goto d_L_must_17 ?_
    refine ev_iconst (v := (nI (0))) d_L_must_24 (by decide) ?_
    refine ev_ireturn d_L_must_25 rfl rfl ?_
    refine ⟨rfl, hq1, hq2.frame (Nat.le_refl _) (fun t ht h => mset_ne _ _ (by omega)), fun t h1 h2 => (mset_ne _ _ (by omega)).trans (hq3 t h1 (by omega)), _, mset_eq _ _ _, fun _ => (upL_at _ _ _).trans ?_⟩
    rw [c_8]; rfl
theorem wr_must_e6 {a : Int32} {on : Bool} {f : Nat → Int64} {fs : List Value} (hn : 41 ≤ n) (ho : μ 40 = aJ 1 f) (h0 : μ 0 = ob 0 fs) (hW : XW G n μ σ) {y : Int64} (hct : Ct G k_X_must (d + 8) 200 6000 [.ref (G.1 + 0), .int (a), .int (b2 (on))] n μ (XT 6 n μ)) : Ct G k_L_must (d + 9) 200 6000 [.ref (G.1 + 0), .int (a), .int (b2 (on)), .ref (G.1 + 40)] n μ (LR G n μ 1 y σ) := by
  refine Ct.ofp (r := 1) (ls := [some (.ref (G.1 + 0)), some (.int (a)), some (.int (b2 (on))), some (.ref (G.1 + 40)), none]) rfl (Nat.le_of_ble_eq_true rfl) ?_
  refine ev_aload_n d_L_must_0 rfl rfl ?_
  refine ev_iconst (v := (nI (0))) d_L_must_1 (by decide) ?_
  refine ev_aload_n d_L_must_2 rfl rfl ?_
  refine ev_iload_n d_L_must_3 rfl rfl ?_
  refine ev_iload_n d_L_must_4 rfl rfl ?_
  refine cvc (mc' := 200) (ms' := 6000) (k' := k_X_must) (As := [.int (a), .int (b2 (on))]) (stk := [.int (nI (0)), .ref (G.1 + 40)]) d_L_must_5 ml_L_37 kk_X_must rfl rfl (Nat.le_of_ble_eq_true rfl) (by omega) h0 rfl rfl (hct) (thC (h := 20) (by decide) (by decide) rfl ?_)
  refine ev_astore (ls' := [_, _, _, _, _]) d_L_must_20 (by decide) rfl rfl ?_
  refine ev_iconst (v := (nI (1))) d_L_must_22 (by decide) ?_
  refine ev_ireturn d_L_must_23 rfl rfl ?_
  exact ⟨rfl, by omega, hW.frame (by omega) (fun t ht h => mset_ne _ _ (by omega)), fun t h1 h2 => mset_ne _ _ (by omega), f, (mset_ne _ _ (by omega)).trans ho, fun q => by omega⟩
theorem wr_filler_ok {a b : Int32} {x : Bool} {f : Nat → Int64} {fs : List Value} (hn : 41 ≤ n) (ho : μ 40 = aJ 1 f) (h0 : μ 0 = ob 0 fs) (hct : Ct G k_X_filler (d + 8) 200 6000 [.ref (G.1 + 0), .int (a), .int (b)] n μ (XR G n μ (.int (b2 (x))) σ')) : Ct G k_L_filler (d + 9) 200 6000 [.ref (G.1 + 0), .int (a), .int (b), .ref (G.1 + 40)] n μ (LR G n μ 0 (lN (if x then 1 else 0)) σ') := by
  refine Ct.ofp (r := 1) (ls := [some (.ref (G.1 + 0)), some (.int (a)), some (.int (b)), some (.ref (G.1 + 40)), none]) rfl (Nat.le_of_ble_eq_true rfl) ?_
  refine ev_aload_n d_L_filler_0 rfl rfl ?_
  refine ev_iconst (v := (nI (0))) d_L_filler_1 (by decide) ?_
  refine ev_aload_n d_L_filler_2 rfl rfl ?_
  refine ev_iload_n d_L_filler_3 rfl rfl ?_
  refine ev_iload_n d_L_filler_4 rfl rfl ?_
  refine cvc (mc' := 200) (ms' := 6000) (k' := k_X_filler) (As := [.int (a), .int (b)]) (stk := [.int (nI (0)), .ref (G.1 + 40)]) d_L_filler_5 ml_L_41 kk_X_filler rfl rfl (Nat.le_of_ble_eq_true rfl) (by omega) h0 rfl rfl (hct) (afC fun n1 ν hq => ?_)
  obtain ⟨hq1, hq2, hq3⟩ := hq
  have ho1 : ν 40 = aJ 1 f := (hq3 40 (by omega) (by omega)).trans ho
  refine ev_if_eq d_L_filler_8 (fun c_8 => ?_) (fun c_8 => ?_)
  ·
    have c_8 := b2_f c_8
    refine ev_lconst (v := lN 0) d_L_filler_15 (by decide) ?_
    refine ev_last (j := 0) d_L_filler_16 (by omega) ho1 (by omega) (by decide) ?_
    refine ev_goto d_L_filler_17 ?_
    refine ev_iconst (v := (nI (0))) d_L_filler_24 (by decide) ?_
    refine ev_ireturn d_L_filler_25 rfl rfl ?_
    refine ⟨rfl, hq1, hq2.frame (Nat.le_refl _) (fun t ht h => mset_ne _ _ (by omega)), fun t h1 h2 => (mset_ne _ _ (by omega)).trans (hq3 t h1 (by omega)), _, mset_eq _ _ _, fun _ => (upL_at _ _ _).trans ?_⟩
    rw [c_8]; rfl
  ·
    have c_8 := b2_t c_8
    refine ev_lconst (v := lN 1) d_L_filler_11 (by decide) ?_
    refine ev_goto d_L_filler_12 ?_
    refine ev_last (j := 0) d_L_filler_16 (by omega) ho1 (by omega) (by decide) ?_
    refine ev_goto d_L_filler_17 ?_
    refine ev_iconst (v := (nI (0))) d_L_filler_24 (by decide) ?_
    refine ev_ireturn d_L_filler_25 rfl rfl ?_
    refine ⟨rfl, hq1, hq2.frame (Nat.le_refl _) (fun t ht h => mset_ne _ _ (by omega)), fun t h1 h2 => (mset_ne _ _ (by omega)).trans (hq3 t h1 (by omega)), _, mset_eq _ _ _, fun _ => (upL_at _ _ _).trans ?_⟩
    rw [c_8]; rfl
theorem wr_filler_e4 {a b : Int32} {f : Nat → Int64} {fs : List Value} (hn : 41 ≤ n) (ho : μ 40 = aJ 1 f) (h0 : μ 0 = ob 0 fs) (hW : XW G n μ σ) {y : Int64} (hct : Ct G k_X_filler (d + 8) 200 6000 [.ref (G.1 + 0), .int (a), .int (b)] n μ (XT 4 n μ)) : Ct G k_L_filler (d + 9) 200 6000 [.ref (G.1 + 0), .int (a), .int (b), .ref (G.1 + 40)] n μ (LR G n μ 1 y σ) := by
  refine Ct.ofp (r := 1) (ls := [some (.ref (G.1 + 0)), some (.int (a)), some (.int (b)), some (.ref (G.1 + 40)), none]) rfl (Nat.le_of_ble_eq_true rfl) ?_
  refine ev_aload_n d_L_filler_0 rfl rfl ?_
  refine ev_iconst (v := (nI (0))) d_L_filler_1 (by decide) ?_
  refine ev_aload_n d_L_filler_2 rfl rfl ?_
  refine ev_iload_n d_L_filler_3 rfl rfl ?_
  refine ev_iload_n d_L_filler_4 rfl rfl ?_
  refine cvc (mc' := 200) (ms' := 6000) (k' := k_X_filler) (As := [.int (a), .int (b)]) (stk := [.int (nI (0)), .ref (G.1 + 40)]) d_L_filler_5 ml_L_41 kk_X_filler rfl rfl (Nat.le_of_ble_eq_true rfl) (by omega) h0 rfl rfl (hct) (thC (h := 20) (by decide) (by decide) rfl ?_)
  refine ev_astore (ls' := [_, _, _, _, _]) d_L_filler_20 (by decide) rfl rfl ?_
  refine ev_iconst (v := (nI (1))) d_L_filler_22 (by decide) ?_
  refine ev_ireturn d_L_filler_23 rfl rfl ?_
  exact ⟨rfl, by omega, hW.frame (by omega) (fun t ht h => mset_ne _ _ (by omega)), fun t h1 h2 => mset_ne _ _ (by omega), f, (mset_ne _ _ (by omega)).trans ho, fun q => by omega⟩
theorem wr_variant_ok {a : Int32} {z : Int} (hz1 : -2147483648 ≤ z) (hz2 : z < 2147483648) {f : Nat → Int64} {fs : List Value} (hn : 41 ≤ n) (ho : μ 40 = aJ 1 f) (h0 : μ 0 = ob 0 fs) (hct : Ct G k_X_variant (d + 8) 200 6000 [.ref (G.1 + 0), .int (a)] n μ (XR G n μ (.int (iI (z))) σ')) : Ct G k_L_variant (d + 9) 200 6000 [.ref (G.1 + 0), .int (a), .ref (G.1 + 40)] n μ (LR G n μ 0 ((iI z).toInt64) σ') := by
  refine Ct.ofp (r := 1) (ls := [some (.ref (G.1 + 0)), some (.int (a)), some (.ref (G.1 + 40)), none]) rfl (Nat.le_of_ble_eq_true rfl) ?_
  refine ev_aload_n d_L_variant_0 rfl rfl ?_
  refine ev_iconst (v := (nI (0))) d_L_variant_1 (by decide) ?_
  refine ev_aload_n d_L_variant_2 rfl rfl ?_
  refine ev_iload_n d_L_variant_3 rfl rfl ?_
  refine cvc (mc' := 200) (ms' := 6000) (k' := k_X_variant) (As := [.int (a)]) (stk := [.int (nI (0)), .ref (G.1 + 40)]) d_L_variant_4 ml_L_44 kk_X_variant rfl rfl (Nat.le_of_ble_eq_true rfl) (by omega) h0 rfl rfl (hct) (afC fun n1 ν hq => ?_)
  obtain ⟨hq1, hq2, hq3⟩ := hq
  have ho1 : ν 40 = aJ 1 f := (hq3 40 (by omega) (by omega)).trans ho
  refine ev_i2l d_L_variant_7 ?_
  refine ev_last (j := 0) d_L_variant_8 (by omega) ho1 (by omega) (by decide) ?_
  refine ev_goto d_L_variant_9 ?_
  refine ev_iconst (v := (nI (0))) d_L_variant_18 (by decide) ?_
  refine ev_ireturn d_L_variant_19 rfl rfl ?_
  refine ⟨rfl, hq1, hq2.frame (Nat.le_refl _) (fun t ht h => mset_ne _ _ (by omega)), fun t h1 h2 => (mset_ne _ _ (by omega)).trans (hq3 t h1 (by omega)), _, mset_eq _ _ _, fun _ => (upL_at _ _ _).trans ?_⟩
  rfl
theorem wr_variant_e5 {a : Int32} {f : Nat → Int64} {fs : List Value} (hn : 41 ≤ n) (ho : μ 40 = aJ 1 f) (h0 : μ 0 = ob 0 fs) (hW : XW G n μ σ) {y : Int64} (hct : Ct G k_X_variant (d + 8) 200 6000 [.ref (G.1 + 0), .int (a)] n μ (XT 5 n μ)) : Ct G k_L_variant (d + 9) 200 6000 [.ref (G.1 + 0), .int (a), .ref (G.1 + 40)] n μ (LR G n μ 1 y σ) := by
  refine Ct.ofp (r := 1) (ls := [some (.ref (G.1 + 0)), some (.int (a)), some (.ref (G.1 + 40)), none]) rfl (Nat.le_of_ble_eq_true rfl) ?_
  refine ev_aload_n d_L_variant_0 rfl rfl ?_
  refine ev_iconst (v := (nI (0))) d_L_variant_1 (by decide) ?_
  refine ev_aload_n d_L_variant_2 rfl rfl ?_
  refine ev_iload_n d_L_variant_3 rfl rfl ?_
  refine cvc (mc' := 200) (ms' := 6000) (k' := k_X_variant) (As := [.int (a)]) (stk := [.int (nI (0)), .ref (G.1 + 40)]) d_L_variant_4 ml_L_44 kk_X_variant rfl rfl (Nat.le_of_ble_eq_true rfl) (by omega) h0 rfl rfl (hct) (thC (h := 12) (by decide) (by decide) rfl ?_)
  refine ev_astore_n (ls' := [_, _, _, _]) d_L_variant_12 rfl (by decide) rfl rfl ?_
  refine ev_iconst (v := (nI (1))) d_L_variant_13 (by decide) ?_
  refine ev_ireturn d_L_variant_14 rfl rfl ?_
  exact ⟨rfl, by omega, hW.frame (by omega) (fun t ht h => mset_ne _ _ (by omega)), fun t h1 h2 => mset_ne _ _ (by omega), f, (mset_ne _ _ (by omega)).trans ho, fun q => by omega⟩
theorem wr_variant_e4 {a : Int32} {f : Nat → Int64} {fs : List Value} (hn : 41 ≤ n) (ho : μ 40 = aJ 1 f) (h0 : μ 0 = ob 0 fs) (hW : XW G n μ σ) {y : Int64} (hct : Ct G k_X_variant (d + 8) 200 6000 [.ref (G.1 + 0), .int (a)] n μ (XT 4 n μ)) : Ct G k_L_variant (d + 9) 200 6000 [.ref (G.1 + 0), .int (a), .ref (G.1 + 40)] n μ (LR G n μ 2 y σ) := by
  refine Ct.ofp (r := 1) (ls := [some (.ref (G.1 + 0)), some (.int (a)), some (.ref (G.1 + 40)), none]) rfl (Nat.le_of_ble_eq_true rfl) ?_
  refine ev_aload_n d_L_variant_0 rfl rfl ?_
  refine ev_iconst (v := (nI (0))) d_L_variant_1 (by decide) ?_
  refine ev_aload_n d_L_variant_2 rfl rfl ?_
  refine ev_iload_n d_L_variant_3 rfl rfl ?_
  refine cvc (mc' := 200) (ms' := 6000) (k' := k_X_variant) (As := [.int (a)]) (stk := [.int (nI (0)), .ref (G.1 + 40)]) d_L_variant_4 ml_L_44 kk_X_variant rfl rfl (Nat.le_of_ble_eq_true rfl) (by omega) h0 rfl rfl (hct) (thC (h := 15) (by decide) (by decide) rfl ?_)
  refine ev_astore_n (ls' := [_, _, _, _]) d_L_variant_15 rfl (by decide) rfl rfl ?_
  refine ev_iconst (v := (nI (2))) d_L_variant_16 (by decide) ?_
  refine ev_ireturn d_L_variant_17 rfl rfl ?_
  exact ⟨rfl, by omega, hW.frame (by omega) (fun t ht h => mset_ne _ _ (by omega)), fun t h1 h2 => mset_ne _ _ (by omega), f, (mset_ne _ _ (by omega)).trans ho, fun q => by omega⟩
theorem wr_at_ok {a : Int32} {z : Int} (hz1 : -2147483648 ≤ z) (hz2 : z < 2147483648) {f : Nat → Int64} {fs : List Value} (hn : 41 ≤ n) (ho : μ 40 = aJ 1 f) (h0 : μ 0 = ob 0 fs) (hct : Ct G k_X_at (d + 8) 200 6000 [.ref (G.1 + 0), .int (a)] n μ (XR G n μ (.int (iI (z))) σ')) : Ct G k_L_at (d + 9) 200 6000 [.ref (G.1 + 0), .int (a), .ref (G.1 + 40)] n μ (LR G n μ 0 ((iI z).toInt64) σ') := by
  refine Ct.ofp (r := 1) (ls := [some (.ref (G.1 + 0)), some (.int (a)), some (.ref (G.1 + 40)), none]) rfl (Nat.le_of_ble_eq_true rfl) ?_
  refine ev_aload_n d_L_at_0 rfl rfl ?_
  refine ev_iconst (v := (nI (0))) d_L_at_1 (by decide) ?_
  refine ev_aload_n d_L_at_2 rfl rfl ?_
  refine ev_iload_n d_L_at_3 rfl rfl ?_
  refine cvc (mc' := 200) (ms' := 6000) (k' := k_X_at) (As := [.int (a)]) (stk := [.int (nI (0)), .ref (G.1 + 40)]) d_L_at_4 ml_L_48 kk_X_at rfl rfl (Nat.le_of_ble_eq_true rfl) (by omega) h0 rfl rfl (hct) (afC fun n1 ν hq => ?_)
  obtain ⟨hq1, hq2, hq3⟩ := hq
  have ho1 : ν 40 = aJ 1 f := (hq3 40 (by omega) (by omega)).trans ho
  refine ev_i2l d_L_at_7 ?_
  refine ev_last (j := 0) d_L_at_8 (by omega) ho1 (by omega) (by decide) ?_
  refine ev_goto d_L_at_9 ?_
  refine ev_iconst (v := (nI (0))) d_L_at_18 (by decide) ?_
  refine ev_ireturn d_L_at_19 rfl rfl ?_
  refine ⟨rfl, hq1, hq2.frame (Nat.le_refl _) (fun t ht h => mset_ne _ _ (by omega)), fun t h1 h2 => (mset_ne _ _ (by omega)).trans (hq3 t h1 (by omega)), _, mset_eq _ _ _, fun _ => (upL_at _ _ _).trans ?_⟩
  rfl
theorem wr_at_e5 {a : Int32} {f : Nat → Int64} {fs : List Value} (hn : 41 ≤ n) (ho : μ 40 = aJ 1 f) (h0 : μ 0 = ob 0 fs) (hW : XW G n μ σ) {y : Int64} (hct : Ct G k_X_at (d + 8) 200 6000 [.ref (G.1 + 0), .int (a)] n μ (XT 5 n μ)) : Ct G k_L_at (d + 9) 200 6000 [.ref (G.1 + 0), .int (a), .ref (G.1 + 40)] n μ (LR G n μ 1 y σ) := by
  refine Ct.ofp (r := 1) (ls := [some (.ref (G.1 + 0)), some (.int (a)), some (.ref (G.1 + 40)), none]) rfl (Nat.le_of_ble_eq_true rfl) ?_
  refine ev_aload_n d_L_at_0 rfl rfl ?_
  refine ev_iconst (v := (nI (0))) d_L_at_1 (by decide) ?_
  refine ev_aload_n d_L_at_2 rfl rfl ?_
  refine ev_iload_n d_L_at_3 rfl rfl ?_
  refine cvc (mc' := 200) (ms' := 6000) (k' := k_X_at) (As := [.int (a)]) (stk := [.int (nI (0)), .ref (G.1 + 40)]) d_L_at_4 ml_L_48 kk_X_at rfl rfl (Nat.le_of_ble_eq_true rfl) (by omega) h0 rfl rfl (hct) (thC (h := 12) (by decide) (by decide) rfl ?_)
  refine ev_astore_n (ls' := [_, _, _, _]) d_L_at_12 rfl (by decide) rfl rfl ?_
  refine ev_iconst (v := (nI (1))) d_L_at_13 (by decide) ?_
  refine ev_ireturn d_L_at_14 rfl rfl ?_
  exact ⟨rfl, by omega, hW.frame (by omega) (fun t ht h => mset_ne _ _ (by omega)), fun t h1 h2 => mset_ne _ _ (by omega), f, (mset_ne _ _ (by omega)).trans ho, fun q => by omega⟩
theorem wr_at_e6 {a : Int32} {f : Nat → Int64} {fs : List Value} (hn : 41 ≤ n) (ho : μ 40 = aJ 1 f) (h0 : μ 0 = ob 0 fs) (hW : XW G n μ σ) {y : Int64} (hct : Ct G k_X_at (d + 8) 200 6000 [.ref (G.1 + 0), .int (a)] n μ (XT 6 n μ)) : Ct G k_L_at (d + 9) 200 6000 [.ref (G.1 + 0), .int (a), .ref (G.1 + 40)] n μ (LR G n μ 2 y σ) := by
  refine Ct.ofp (r := 1) (ls := [some (.ref (G.1 + 0)), some (.int (a)), some (.ref (G.1 + 40)), none]) rfl (Nat.le_of_ble_eq_true rfl) ?_
  refine ev_aload_n d_L_at_0 rfl rfl ?_
  refine ev_iconst (v := (nI (0))) d_L_at_1 (by decide) ?_
  refine ev_aload_n d_L_at_2 rfl rfl ?_
  refine ev_iload_n d_L_at_3 rfl rfl ?_
  refine cvc (mc' := 200) (ms' := 6000) (k' := k_X_at) (As := [.int (a)]) (stk := [.int (nI (0)), .ref (G.1 + 40)]) d_L_at_4 ml_L_48 kk_X_at rfl rfl (Nat.le_of_ble_eq_true rfl) (by omega) h0 rfl rfl (hct) (thC (h := 15) (by decide) (by decide) rfl ?_)
  refine ev_astore_n (ls' := [_, _, _, _]) d_L_at_15 rfl (by decide) rfl rfl ?_
  refine ev_iconst (v := (nI (2))) d_L_at_16 (by decide) ?_
  refine ev_ireturn d_L_at_17 rfl rfl ?_
  exact ⟨rfl, by omega, hW.frame (by omega) (fun t ht h => mset_ne _ _ (by omega)), fun t h1 h2 => mset_ne _ _ (by omega), f, (mset_ne _ _ (by omega)).trans ho, fun q => by omega⟩
theorem wr_plan_ok {a b : Int32} {z : Int} (hz1 : -2147483648 ≤ z) (hz2 : z < 2147483648) {f : Nat → Int64} {fs : List Value} (hn : 41 ≤ n) (ho : μ 40 = aJ 1 f) (h0 : μ 0 = ob 0 fs) (hct : Ct G k_X_plan (d + 8) 200 6000 [.ref (G.1 + 0), .int (a), .int (b)] n μ (XR G n μ (.int (iI (z))) σ')) : Ct G k_L_plan (d + 9) 200 6000 [.ref (G.1 + 0), .int (a), .int (b), .ref (G.1 + 40)] n μ (LR G n μ 0 ((iI z).toInt64) σ') := by
  refine Ct.ofp (r := 1) (ls := [some (.ref (G.1 + 0)), some (.int (a)), some (.int (b)), some (.ref (G.1 + 40)), none]) rfl (Nat.le_of_ble_eq_true rfl) ?_
  refine ev_aload_n d_L_plan_0 rfl rfl ?_
  refine ev_iconst (v := (nI (0))) d_L_plan_1 (by decide) ?_
  refine ev_aload_n d_L_plan_2 rfl rfl ?_
  refine ev_iload_n d_L_plan_3 rfl rfl ?_
  refine ev_iload_n d_L_plan_4 rfl rfl ?_
  refine cvc (mc' := 200) (ms' := 6000) (k' := k_X_plan) (As := [.int (a), .int (b)]) (stk := [.int (nI (0)), .ref (G.1 + 40)]) d_L_plan_5 ml_L_51 kk_X_plan rfl rfl (Nat.le_of_ble_eq_true rfl) (by omega) h0 rfl rfl (hct) (afC fun n1 ν hq => ?_)
  obtain ⟨hq1, hq2, hq3⟩ := hq
  have ho1 : ν 40 = aJ 1 f := (hq3 40 (by omega) (by omega)).trans ho
  refine ev_i2l d_L_plan_8 ?_
  refine ev_last (j := 0) d_L_plan_9 (by omega) ho1 (by omega) (by decide) ?_
  refine ev_goto d_L_plan_10 ?_
  refine ev_iconst (v := (nI (0))) d_L_plan_25 (by decide) ?_
  refine ev_ireturn d_L_plan_26 rfl rfl ?_
  refine ⟨rfl, hq1, hq2.frame (Nat.le_refl _) (fun t ht h => mset_ne _ _ (by omega)), fun t h1 h2 => (mset_ne _ _ (by omega)).trans (hq3 t h1 (by omega)), _, mset_eq _ _ _, fun _ => (upL_at _ _ _).trans ?_⟩
  rfl
theorem wr_plan_e5 {a b : Int32} {f : Nat → Int64} {fs : List Value} (hn : 41 ≤ n) (ho : μ 40 = aJ 1 f) (h0 : μ 0 = ob 0 fs) (hW : XW G n μ σ) {y : Int64} (hct : Ct G k_X_plan (d + 8) 200 6000 [.ref (G.1 + 0), .int (a), .int (b)] n μ (XT 5 n μ)) : Ct G k_L_plan (d + 9) 200 6000 [.ref (G.1 + 0), .int (a), .int (b), .ref (G.1 + 40)] n μ (LR G n μ 1 y σ) := by
  refine Ct.ofp (r := 1) (ls := [some (.ref (G.1 + 0)), some (.int (a)), some (.int (b)), some (.ref (G.1 + 40)), none]) rfl (Nat.le_of_ble_eq_true rfl) ?_
  refine ev_aload_n d_L_plan_0 rfl rfl ?_
  refine ev_iconst (v := (nI (0))) d_L_plan_1 (by decide) ?_
  refine ev_aload_n d_L_plan_2 rfl rfl ?_
  refine ev_iload_n d_L_plan_3 rfl rfl ?_
  refine ev_iload_n d_L_plan_4 rfl rfl ?_
  refine cvc (mc' := 200) (ms' := 6000) (k' := k_X_plan) (As := [.int (a), .int (b)]) (stk := [.int (nI (0)), .ref (G.1 + 40)]) d_L_plan_5 ml_L_51 kk_X_plan rfl rfl (Nat.le_of_ble_eq_true rfl) (by omega) h0 rfl rfl (hct) (thC (h := 13) (by decide) (by decide) rfl ?_)
  refine ev_astore (ls' := [_, _, _, _, _]) d_L_plan_13 (by decide) rfl rfl ?_
  refine ev_iconst (v := (nI (1))) d_L_plan_15 (by decide) ?_
  refine ev_ireturn d_L_plan_16 rfl rfl ?_
  exact ⟨rfl, by omega, hW.frame (by omega) (fun t ht h => mset_ne _ _ (by omega)), fun t h1 h2 => mset_ne _ _ (by omega), f, (mset_ne _ _ (by omega)).trans ho, fun q => by omega⟩
theorem wr_plan_e6 {a b : Int32} {f : Nat → Int64} {fs : List Value} (hn : 41 ≤ n) (ho : μ 40 = aJ 1 f) (h0 : μ 0 = ob 0 fs) (hW : XW G n μ σ) {y : Int64} (hct : Ct G k_X_plan (d + 8) 200 6000 [.ref (G.1 + 0), .int (a), .int (b)] n μ (XT 6 n μ)) : Ct G k_L_plan (d + 9) 200 6000 [.ref (G.1 + 0), .int (a), .int (b), .ref (G.1 + 40)] n μ (LR G n μ 2 y σ) := by
  refine Ct.ofp (r := 1) (ls := [some (.ref (G.1 + 0)), some (.int (a)), some (.int (b)), some (.ref (G.1 + 40)), none]) rfl (Nat.le_of_ble_eq_true rfl) ?_
  refine ev_aload_n d_L_plan_0 rfl rfl ?_
  refine ev_iconst (v := (nI (0))) d_L_plan_1 (by decide) ?_
  refine ev_aload_n d_L_plan_2 rfl rfl ?_
  refine ev_iload_n d_L_plan_3 rfl rfl ?_
  refine ev_iload_n d_L_plan_4 rfl rfl ?_
  refine cvc (mc' := 200) (ms' := 6000) (k' := k_X_plan) (As := [.int (a), .int (b)]) (stk := [.int (nI (0)), .ref (G.1 + 40)]) d_L_plan_5 ml_L_51 kk_X_plan rfl rfl (Nat.le_of_ble_eq_true rfl) (by omega) h0 rfl rfl (hct) (thC (h := 17) (by decide) (by decide) rfl ?_)
  refine ev_astore (ls' := [_, _, _, _, _]) d_L_plan_17 (by decide) rfl rfl ?_
  refine ev_iconst (v := (nI (2))) d_L_plan_19 (by decide) ?_
  refine ev_ireturn d_L_plan_20 rfl rfl ?_
  exact ⟨rfl, by omega, hW.frame (by omega) (fun t ht h => mset_ne _ _ (by omega)), fun t h1 h2 => mset_ne _ _ (by omega), f, (mset_ne _ _ (by omega)).trans ho, fun q => by omega⟩
theorem wr_plan_e4 {a b : Int32} {f : Nat → Int64} {fs : List Value} (hn : 41 ≤ n) (ho : μ 40 = aJ 1 f) (h0 : μ 0 = ob 0 fs) (hW : XW G n μ σ) {y : Int64} (hct : Ct G k_X_plan (d + 8) 200 6000 [.ref (G.1 + 0), .int (a), .int (b)] n μ (XT 4 n μ)) : Ct G k_L_plan (d + 9) 200 6000 [.ref (G.1 + 0), .int (a), .int (b), .ref (G.1 + 40)] n μ (LR G n μ 3 y σ) := by
  refine Ct.ofp (r := 1) (ls := [some (.ref (G.1 + 0)), some (.int (a)), some (.int (b)), some (.ref (G.1 + 40)), none]) rfl (Nat.le_of_ble_eq_true rfl) ?_
  refine ev_aload_n d_L_plan_0 rfl rfl ?_
  refine ev_iconst (v := (nI (0))) d_L_plan_1 (by decide) ?_
  refine ev_aload_n d_L_plan_2 rfl rfl ?_
  refine ev_iload_n d_L_plan_3 rfl rfl ?_
  refine ev_iload_n d_L_plan_4 rfl rfl ?_
  refine cvc (mc' := 200) (ms' := 6000) (k' := k_X_plan) (As := [.int (a), .int (b)]) (stk := [.int (nI (0)), .ref (G.1 + 40)]) d_L_plan_5 ml_L_51 kk_X_plan rfl rfl (Nat.le_of_ble_eq_true rfl) (by omega) h0 rfl rfl (hct) (thC (h := 21) (by decide) (by decide) rfl ?_)
  refine ev_astore (ls' := [_, _, _, _, _]) d_L_plan_21 (by decide) rfl rfl ?_
  refine ev_iconst (v := (nI (3))) d_L_plan_23 (by decide) ?_
  refine ev_ireturn d_L_plan_24 rfl rfl ?_
  exact ⟨rfl, by omega, hW.frame (by omega) (fun t ht h => mset_ne _ _ (by omega)), fun t h1 h2 => mset_ne _ _ (by omega), f, (mset_ne _ _ (by omega)).trans ho, fun q => by omega⟩
theorem wr_worth_ok {a : Int32} {y : Int64} {f : Nat → Int64} {fs : List Value} (hn : 41 ≤ n) (ho : μ 40 = aJ 1 f) (h0 : μ 0 = ob 0 fs) (hct : Ct G k_X_worth (d + 8) 200 6000 [.ref (G.1 + 0), .int (a)] n μ (XR G n μ (.long (y)) σ')) : Ct G k_L_worth (d + 9) 200 6000 [.ref (G.1 + 0), .int (a), .ref (G.1 + 40)] n μ (LR G n μ 0 (y) σ') := by
  refine Ct.ofp (r := 1) (ls := [some (.ref (G.1 + 0)), some (.int (a)), some (.ref (G.1 + 40)), none]) rfl (Nat.le_of_ble_eq_true rfl) ?_
  refine ev_aload_n d_L_worth_0 rfl rfl ?_
  refine ev_iconst (v := (nI (0))) d_L_worth_1 (by decide) ?_
  refine ev_aload_n d_L_worth_2 rfl rfl ?_
  refine ev_iload_n d_L_worth_3 rfl rfl ?_
  refine cvc (mc' := 200) (ms' := 6000) (k' := k_X_worth) (As := [.int (a)]) (stk := [.int (nI (0)), .ref (G.1 + 40)]) d_L_worth_4 ml_L_55 kk_X_worth rfl rfl (Nat.le_of_ble_eq_true rfl) (by omega) h0 rfl rfl (hct) (afC fun n1 ν hq => ?_)
  obtain ⟨hq1, hq2, hq3⟩ := hq
  have ho1 : ν 40 = aJ 1 f := (hq3 40 (by omega) (by omega)).trans ho
  refine ev_last (j := 0) d_L_worth_7 (by omega) ho1 (by omega) (by decide) ?_
  refine ev_goto d_L_worth_8 ?_
  refine ev_iconst (v := (nI (0))) d_L_worth_17 (by decide) ?_
  refine ev_ireturn d_L_worth_18 rfl rfl ?_
  refine ⟨rfl, hq1, hq2.frame (Nat.le_refl _) (fun t ht h => mset_ne _ _ (by omega)), fun t h1 h2 => (mset_ne _ _ (by omega)).trans (hq3 t h1 (by omega)), _, mset_eq _ _ _, fun _ => (upL_at _ _ _).trans ?_⟩
  rfl
theorem wr_worth_e5 {a : Int32} {f : Nat → Int64} {fs : List Value} (hn : 41 ≤ n) (ho : μ 40 = aJ 1 f) (h0 : μ 0 = ob 0 fs) (hW : XW G n μ σ) {y : Int64} (hct : Ct G k_X_worth (d + 8) 200 6000 [.ref (G.1 + 0), .int (a)] n μ (XT 5 n μ)) : Ct G k_L_worth (d + 9) 200 6000 [.ref (G.1 + 0), .int (a), .ref (G.1 + 40)] n μ (LR G n μ 1 y σ) := by
  refine Ct.ofp (r := 1) (ls := [some (.ref (G.1 + 0)), some (.int (a)), some (.ref (G.1 + 40)), none]) rfl (Nat.le_of_ble_eq_true rfl) ?_
  refine ev_aload_n d_L_worth_0 rfl rfl ?_
  refine ev_iconst (v := (nI (0))) d_L_worth_1 (by decide) ?_
  refine ev_aload_n d_L_worth_2 rfl rfl ?_
  refine ev_iload_n d_L_worth_3 rfl rfl ?_
  refine cvc (mc' := 200) (ms' := 6000) (k' := k_X_worth) (As := [.int (a)]) (stk := [.int (nI (0)), .ref (G.1 + 40)]) d_L_worth_4 ml_L_55 kk_X_worth rfl rfl (Nat.le_of_ble_eq_true rfl) (by omega) h0 rfl rfl (hct) (thC (h := 11) (by decide) (by decide) rfl ?_)
  refine ev_astore_n (ls' := [_, _, _, _]) d_L_worth_11 rfl (by decide) rfl rfl ?_
  refine ev_iconst (v := (nI (1))) d_L_worth_12 (by decide) ?_
  refine ev_ireturn d_L_worth_13 rfl rfl ?_
  exact ⟨rfl, by omega, hW.frame (by omega) (fun t ht h => mset_ne _ _ (by omega)), fun t h1 h2 => mset_ne _ _ (by omega), f, (mset_ne _ _ (by omega)).trans ho, fun q => by omega⟩
theorem wr_worth_e6 {a : Int32} {f : Nat → Int64} {fs : List Value} (hn : 41 ≤ n) (ho : μ 40 = aJ 1 f) (h0 : μ 0 = ob 0 fs) (hW : XW G n μ σ) {y : Int64} (hct : Ct G k_X_worth (d + 8) 200 6000 [.ref (G.1 + 0), .int (a)] n μ (XT 6 n μ)) : Ct G k_L_worth (d + 9) 200 6000 [.ref (G.1 + 0), .int (a), .ref (G.1 + 40)] n μ (LR G n μ 2 y σ) := by
  refine Ct.ofp (r := 1) (ls := [some (.ref (G.1 + 0)), some (.int (a)), some (.ref (G.1 + 40)), none]) rfl (Nat.le_of_ble_eq_true rfl) ?_
  refine ev_aload_n d_L_worth_0 rfl rfl ?_
  refine ev_iconst (v := (nI (0))) d_L_worth_1 (by decide) ?_
  refine ev_aload_n d_L_worth_2 rfl rfl ?_
  refine ev_iload_n d_L_worth_3 rfl rfl ?_
  refine cvc (mc' := 200) (ms' := 6000) (k' := k_X_worth) (As := [.int (a)]) (stk := [.int (nI (0)), .ref (G.1 + 40)]) d_L_worth_4 ml_L_55 kk_X_worth rfl rfl (Nat.le_of_ble_eq_true rfl) (by omega) h0 rfl rfl (hct) (thC (h := 14) (by decide) (by decide) rfl ?_)
  refine ev_astore_n (ls' := [_, _, _, _]) d_L_worth_14 rfl (by decide) rfl rfl ?_
  refine ev_iconst (v := (nI (2))) d_L_worth_15 (by decide) ?_
  refine ev_ireturn d_L_worth_16 rfl rfl ?_
  exact ⟨rfl, by omega, hW.frame (by omega) (fun t ht h => mset_ne _ _ (by omega)), fun t h1 h2 => mset_ne _ _ (by omega), f, (mset_ne _ _ (by omega)).trans ho, fun q => by omega⟩
theorem wr_top_ok {a b : Int32} {z : Int} (hz1 : -2147483648 ≤ z) (hz2 : z < 2147483648) {f : Nat → Int64} {fs : List Value} (hn : 41 ≤ n) (ho : μ 40 = aJ 1 f) (h0 : μ 0 = ob 0 fs) (hct : Ct G k_X_top (d + 8) 200 6000 [.ref (G.1 + 0), .int (a), .int (b)] n μ (XR G n μ (.int (iI (z))) σ')) : Ct G k_L_top (d + 9) 200 6000 [.ref (G.1 + 0), .int (a), .int (b), .ref (G.1 + 40)] n μ (LR G n μ 0 ((iI z).toInt64) σ') := by
  refine Ct.ofp (r := 1) (ls := [some (.ref (G.1 + 0)), some (.int (a)), some (.int (b)), some (.ref (G.1 + 40)), none]) rfl (Nat.le_of_ble_eq_true rfl) ?_
  refine ev_aload_n d_L_top_0 rfl rfl ?_
  refine ev_iconst (v := (nI (0))) d_L_top_1 (by decide) ?_
  refine ev_aload_n d_L_top_2 rfl rfl ?_
  refine ev_iload_n d_L_top_3 rfl rfl ?_
  refine ev_iload_n d_L_top_4 rfl rfl ?_
  refine cvc (mc' := 200) (ms' := 6000) (k' := k_X_top) (As := [.int (a), .int (b)]) (stk := [.int (nI (0)), .ref (G.1 + 40)]) d_L_top_5 ml_L_59 kk_X_top rfl rfl (Nat.le_of_ble_eq_true rfl) (by omega) h0 rfl rfl (hct) (afC fun n1 ν hq => ?_)
  obtain ⟨hq1, hq2, hq3⟩ := hq
  have ho1 : ν 40 = aJ 1 f := (hq3 40 (by omega) (by omega)).trans ho
  refine ev_i2l d_L_top_8 ?_
  refine ev_last (j := 0) d_L_top_9 (by omega) ho1 (by omega) (by decide) ?_
  refine ev_goto d_L_top_10 ?_
  refine ev_iconst (v := (nI (0))) d_L_top_25 (by decide) ?_
  refine ev_ireturn d_L_top_26 rfl rfl ?_
  refine ⟨rfl, hq1, hq2.frame (Nat.le_refl _) (fun t ht h => mset_ne _ _ (by omega)), fun t h1 h2 => (mset_ne _ _ (by omega)).trans (hq3 t h1 (by omega)), _, mset_eq _ _ _, fun _ => (upL_at _ _ _).trans ?_⟩
  rfl
theorem wr_top_e5 {a b : Int32} {f : Nat → Int64} {fs : List Value} (hn : 41 ≤ n) (ho : μ 40 = aJ 1 f) (h0 : μ 0 = ob 0 fs) (hW : XW G n μ σ) {y : Int64} (hct : Ct G k_X_top (d + 8) 200 6000 [.ref (G.1 + 0), .int (a), .int (b)] n μ (XT 5 n μ)) : Ct G k_L_top (d + 9) 200 6000 [.ref (G.1 + 0), .int (a), .int (b), .ref (G.1 + 40)] n μ (LR G n μ 1 y σ) := by
  refine Ct.ofp (r := 1) (ls := [some (.ref (G.1 + 0)), some (.int (a)), some (.int (b)), some (.ref (G.1 + 40)), none]) rfl (Nat.le_of_ble_eq_true rfl) ?_
  refine ev_aload_n d_L_top_0 rfl rfl ?_
  refine ev_iconst (v := (nI (0))) d_L_top_1 (by decide) ?_
  refine ev_aload_n d_L_top_2 rfl rfl ?_
  refine ev_iload_n d_L_top_3 rfl rfl ?_
  refine ev_iload_n d_L_top_4 rfl rfl ?_
  refine cvc (mc' := 200) (ms' := 6000) (k' := k_X_top) (As := [.int (a), .int (b)]) (stk := [.int (nI (0)), .ref (G.1 + 40)]) d_L_top_5 ml_L_59 kk_X_top rfl rfl (Nat.le_of_ble_eq_true rfl) (by omega) h0 rfl rfl (hct) (thC (h := 13) (by decide) (by decide) rfl ?_)
  refine ev_astore (ls' := [_, _, _, _, _]) d_L_top_13 (by decide) rfl rfl ?_
  refine ev_iconst (v := (nI (1))) d_L_top_15 (by decide) ?_
  refine ev_ireturn d_L_top_16 rfl rfl ?_
  exact ⟨rfl, by omega, hW.frame (by omega) (fun t ht h => mset_ne _ _ (by omega)), fun t h1 h2 => mset_ne _ _ (by omega), f, (mset_ne _ _ (by omega)).trans ho, fun q => by omega⟩
theorem wr_top_e6 {a b : Int32} {f : Nat → Int64} {fs : List Value} (hn : 41 ≤ n) (ho : μ 40 = aJ 1 f) (h0 : μ 0 = ob 0 fs) (hW : XW G n μ σ) {y : Int64} (hct : Ct G k_X_top (d + 8) 200 6000 [.ref (G.1 + 0), .int (a), .int (b)] n μ (XT 6 n μ)) : Ct G k_L_top (d + 9) 200 6000 [.ref (G.1 + 0), .int (a), .int (b), .ref (G.1 + 40)] n μ (LR G n μ 2 y σ) := by
  refine Ct.ofp (r := 1) (ls := [some (.ref (G.1 + 0)), some (.int (a)), some (.int (b)), some (.ref (G.1 + 40)), none]) rfl (Nat.le_of_ble_eq_true rfl) ?_
  refine ev_aload_n d_L_top_0 rfl rfl ?_
  refine ev_iconst (v := (nI (0))) d_L_top_1 (by decide) ?_
  refine ev_aload_n d_L_top_2 rfl rfl ?_
  refine ev_iload_n d_L_top_3 rfl rfl ?_
  refine ev_iload_n d_L_top_4 rfl rfl ?_
  refine cvc (mc' := 200) (ms' := 6000) (k' := k_X_top) (As := [.int (a), .int (b)]) (stk := [.int (nI (0)), .ref (G.1 + 40)]) d_L_top_5 ml_L_59 kk_X_top rfl rfl (Nat.le_of_ble_eq_true rfl) (by omega) h0 rfl rfl (hct) (thC (h := 17) (by decide) (by decide) rfl ?_)
  refine ev_astore (ls' := [_, _, _, _, _]) d_L_top_17 (by decide) rfl rfl ?_
  refine ev_iconst (v := (nI (2))) d_L_top_19 (by decide) ?_
  refine ev_ireturn d_L_top_20 rfl rfl ?_
  exact ⟨rfl, by omega, hW.frame (by omega) (fun t ht h => mset_ne _ _ (by omega)), fun t h1 h2 => mset_ne _ _ (by omega), f, (mset_ne _ _ (by omega)).trans ho, fun q => by omega⟩
theorem wr_top_e4 {a b : Int32} {f : Nat → Int64} {fs : List Value} (hn : 41 ≤ n) (ho : μ 40 = aJ 1 f) (h0 : μ 0 = ob 0 fs) (hW : XW G n μ σ) {y : Int64} (hct : Ct G k_X_top (d + 8) 200 6000 [.ref (G.1 + 0), .int (a), .int (b)] n μ (XT 4 n μ)) : Ct G k_L_top (d + 9) 200 6000 [.ref (G.1 + 0), .int (a), .int (b), .ref (G.1 + 40)] n μ (LR G n μ 3 y σ) := by
  refine Ct.ofp (r := 1) (ls := [some (.ref (G.1 + 0)), some (.int (a)), some (.int (b)), some (.ref (G.1 + 40)), none]) rfl (Nat.le_of_ble_eq_true rfl) ?_
  refine ev_aload_n d_L_top_0 rfl rfl ?_
  refine ev_iconst (v := (nI (0))) d_L_top_1 (by decide) ?_
  refine ev_aload_n d_L_top_2 rfl rfl ?_
  refine ev_iload_n d_L_top_3 rfl rfl ?_
  refine ev_iload_n d_L_top_4 rfl rfl ?_
  refine cvc (mc' := 200) (ms' := 6000) (k' := k_X_top) (As := [.int (a), .int (b)]) (stk := [.int (nI (0)), .ref (G.1 + 40)]) d_L_top_5 ml_L_59 kk_X_top rfl rfl (Nat.le_of_ble_eq_true rfl) (by omega) h0 rfl rfl (hct) (thC (h := 21) (by decide) (by decide) rfl ?_)
  refine ev_astore (ls' := [_, _, _, _, _]) d_L_top_21 (by decide) rfl rfl ?_
  refine ev_iconst (v := (nI (3))) d_L_top_23 (by decide) ?_
  refine ev_ireturn d_L_top_24 rfl rfl ?_
  exact ⟨rfl, by omega, hW.frame (by omega) (fun t ht h => mset_ne _ _ (by omega)), fun t h1 h2 => mset_ne _ _ (by omega), f, (mset_ne _ _ (by omega)).trans ho, fun q => by omega⟩
theorem wr_place_ok {a b : Int32} {x : Bool} {f : Nat → Int64} {fs : List Value} (hn : 41 ≤ n) (ho : μ 40 = aJ 1 f) (h0 : μ 0 = ob 0 fs) (hct : Ct G k_X_place (d + 8) 200 6000 [.ref (G.1 + 0), .int (a), .int (b)] n μ (XR G n μ (.int (b2 (x))) σ')) : Ct G k_L_place (d + 9) 200 6000 [.ref (G.1 + 0), .int (a), .int (b), .ref (G.1 + 40)] n μ (LR G n μ 0 (lN (if x then 1 else 0)) σ') := by
  refine Ct.ofp (r := 1) (ls := [some (.ref (G.1 + 0)), some (.int (a)), some (.int (b)), some (.ref (G.1 + 40)), none]) rfl (Nat.le_of_ble_eq_true rfl) ?_
  refine ev_aload_n d_L_place_0 rfl rfl ?_
  refine ev_iconst (v := (nI (0))) d_L_place_1 (by decide) ?_
  refine ev_aload_n d_L_place_2 rfl rfl ?_
  refine ev_iload_n d_L_place_3 rfl rfl ?_
  refine ev_iload_n d_L_place_4 rfl rfl ?_
  refine cvc (mc' := 200) (ms' := 6000) (k' := k_X_place) (As := [.int (a), .int (b)]) (stk := [.int (nI (0)), .ref (G.1 + 40)]) d_L_place_5 ml_L_62 kk_X_place rfl rfl (Nat.le_of_ble_eq_true rfl) (by omega) h0 rfl rfl (hct) (afC fun n1 ν hq => ?_)
  obtain ⟨hq1, hq2, hq3⟩ := hq
  have ho1 : ν 40 = aJ 1 f := (hq3 40 (by omega) (by omega)).trans ho
  refine ev_if_eq d_L_place_8 (fun c_8 => ?_) (fun c_8 => ?_)
  ·
    have c_8 := b2_f c_8
    refine ev_lconst (v := lN 0) d_L_place_15 (by decide) ?_
    refine ev_last (j := 0) d_L_place_16 (by omega) ho1 (by omega) (by decide) ?_
    refine ev_goto d_L_place_17 ?_
    refine ev_iconst (v := (nI (0))) d_L_place_28 (by decide) ?_
    refine ev_ireturn d_L_place_29 rfl rfl ?_
    refine ⟨rfl, hq1, hq2.frame (Nat.le_refl _) (fun t ht h => mset_ne _ _ (by omega)), fun t h1 h2 => (mset_ne _ _ (by omega)).trans (hq3 t h1 (by omega)), _, mset_eq _ _ _, fun _ => (upL_at _ _ _).trans ?_⟩
    rw [c_8]; rfl
  ·
    have c_8 := b2_t c_8
    refine ev_lconst (v := lN 1) d_L_place_11 (by decide) ?_
    refine ev_goto d_L_place_12 ?_
    refine ev_last (j := 0) d_L_place_16 (by omega) ho1 (by omega) (by decide) ?_
    refine ev_goto d_L_place_17 ?_
    refine ev_iconst (v := (nI (0))) d_L_place_28 (by decide) ?_
    refine ev_ireturn d_L_place_29 rfl rfl ?_
    refine ⟨rfl, hq1, hq2.frame (Nat.le_refl _) (fun t ht h => mset_ne _ _ (by omega)), fun t h1 h2 => (mset_ne _ _ (by omega)).trans (hq3 t h1 (by omega)), _, mset_eq _ _ _, fun _ => (upL_at _ _ _).trans ?_⟩
    rw [c_8]; rfl
theorem wr_place_e6 {a b : Int32} {f : Nat → Int64} {fs : List Value} (hn : 41 ≤ n) (ho : μ 40 = aJ 1 f) (h0 : μ 0 = ob 0 fs) (hW : XW G n μ σ) {y : Int64} (hct : Ct G k_X_place (d + 8) 200 6000 [.ref (G.1 + 0), .int (a), .int (b)] n μ (XT 6 n μ)) : Ct G k_L_place (d + 9) 200 6000 [.ref (G.1 + 0), .int (a), .int (b), .ref (G.1 + 40)] n μ (LR G n μ 1 y σ) := by
  refine Ct.ofp (r := 1) (ls := [some (.ref (G.1 + 0)), some (.int (a)), some (.int (b)), some (.ref (G.1 + 40)), none]) rfl (Nat.le_of_ble_eq_true rfl) ?_
  refine ev_aload_n d_L_place_0 rfl rfl ?_
  refine ev_iconst (v := (nI (0))) d_L_place_1 (by decide) ?_
  refine ev_aload_n d_L_place_2 rfl rfl ?_
  refine ev_iload_n d_L_place_3 rfl rfl ?_
  refine ev_iload_n d_L_place_4 rfl rfl ?_
  refine cvc (mc' := 200) (ms' := 6000) (k' := k_X_place) (As := [.int (a), .int (b)]) (stk := [.int (nI (0)), .ref (G.1 + 40)]) d_L_place_5 ml_L_62 kk_X_place rfl rfl (Nat.le_of_ble_eq_true rfl) (by omega) h0 rfl rfl (hct) (thC (h := 20) (by decide) (by decide) rfl ?_)
  refine ev_astore (ls' := [_, _, _, _, _]) d_L_place_20 (by decide) rfl rfl ?_
  refine ev_iconst (v := (nI (1))) d_L_place_22 (by decide) ?_
  refine ev_ireturn d_L_place_23 rfl rfl ?_
  exact ⟨rfl, by omega, hW.frame (by omega) (fun t ht h => mset_ne _ _ (by omega)), fun t h1 h2 => mset_ne _ _ (by omega), f, (mset_ne _ _ (by omega)).trans ho, fun q => by omega⟩
theorem wr_place_e4 {a b : Int32} {f : Nat → Int64} {fs : List Value} (hn : 41 ≤ n) (ho : μ 40 = aJ 1 f) (h0 : μ 0 = ob 0 fs) (hW : XW G n μ σ) {y : Int64} (hct : Ct G k_X_place (d + 8) 200 6000 [.ref (G.1 + 0), .int (a), .int (b)] n μ (XT 4 n μ)) : Ct G k_L_place (d + 9) 200 6000 [.ref (G.1 + 0), .int (a), .int (b), .ref (G.1 + 40)] n μ (LR G n μ 2 y σ) := by
  refine Ct.ofp (r := 1) (ls := [some (.ref (G.1 + 0)), some (.int (a)), some (.int (b)), some (.ref (G.1 + 40)), none]) rfl (Nat.le_of_ble_eq_true rfl) ?_
  refine ev_aload_n d_L_place_0 rfl rfl ?_
  refine ev_iconst (v := (nI (0))) d_L_place_1 (by decide) ?_
  refine ev_aload_n d_L_place_2 rfl rfl ?_
  refine ev_iload_n d_L_place_3 rfl rfl ?_
  refine ev_iload_n d_L_place_4 rfl rfl ?_
  refine cvc (mc' := 200) (ms' := 6000) (k' := k_X_place) (As := [.int (a), .int (b)]) (stk := [.int (nI (0)), .ref (G.1 + 40)]) d_L_place_5 ml_L_62 kk_X_place rfl rfl (Nat.le_of_ble_eq_true rfl) (by omega) h0 rfl rfl (hct) (thC (h := 24) (by decide) (by decide) rfl ?_)
  refine ev_astore (ls' := [_, _, _, _, _]) d_L_place_24 (by decide) rfl rfl ?_
  refine ev_iconst (v := (nI (2))) d_L_place_26 (by decide) ?_
  refine ev_ireturn d_L_place_27 rfl rfl ?_
  exact ⟨rfl, by omega, hW.frame (by omega) (fun t ht h => mset_ne _ _ (by omega)), fun t h1 h2 => mset_ne _ _ (by omega), f, (mset_ne _ _ (by omega)).trans ho, fun q => by omega⟩
end WR
