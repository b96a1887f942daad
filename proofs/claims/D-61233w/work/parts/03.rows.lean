/-! ===== one row an instruction ===== -/
/-- no long lies just before place i -/
def oL (ls : List (Option Value)) (i : Nat) : Bool := match i with
  | 0 => true
  | j + 1 => match ls[j]? with
    | some (some w) => w.category == 1
    | _ => true
theorem oL_spec {ls : List (Option Value)} {i : Nat} (h : oL ls i = true) : ∀ w, (ls[i - 1]? = some (some w)) → i ≠ 0 → w.category = 1 := by
  intro w hw hi
  cases i with
  | zero => exact absurd rfl hi
  | succ j =>
    simp only [Nat.add_sub_cancel] at hw
    simpa [oL, hw] using h
section ROWS
variable {G : Gm} {k : Mk} {d rc rs pc pc' : Nat} {ls : List (Option Value)} {stk : List Value} {n : Nat} {μ : Mem} {Q : Oc → Nat → Mem → Prop}
theorem ev_iconst {i : Int} {v : Int32} (hd : Dk k pc (.iconst i) 1 pc') (hv : Int32.ofInt i = v) (kk : Ev G k d rc rs pc' ls (.int v :: stk) n μ Q) : Ev G k d rc rs pc ls (stk) n μ Q := by
  obtain ⟨hd, rfl⟩ := hd
  exact fun p l e R s m args below meth c H locs cells slots mc ms L h => lv_iconst h.1.1 h.1.2.1 hd hv (kk p l e R s m args below meth c H locs cells slots mc ms L h)
theorem ev_bipush {i : Int} {v : Int32} (hd : Dk k pc (.bipush i) 2 pc') (hv : (Int8.ofInt i).toInt32 = v) (kk : Ev G k d rc rs pc' ls (.int v :: stk) n μ Q) : Ev G k d rc rs pc ls (stk) n μ Q := by
  obtain ⟨hd, rfl⟩ := hd
  exact fun p l e R s m args below meth c H locs cells slots mc ms L h => lv_bipush h.1.1 h.1.2.1 hd hv (kk p l e R s m args below meth c H locs cells slots mc ms L h)
theorem ev_sipush {i : Int} {v : Int32} (hd : Dk k pc (.sipush i) 3 pc') (hv : (Int16.ofInt i).toInt32 = v) (kk : Ev G k d rc rs pc' ls (.int v :: stk) n μ Q) : Ev G k d rc rs pc ls (stk) n μ Q := by
  obtain ⟨hd, rfl⟩ := hd
  exact fun p l e R s m args below meth c H locs cells slots mc ms L h => lv_sipush h.1.1 h.1.2.1 hd hv (kk p l e R s m args below meth c H locs cells slots mc ms L h)
theorem ev_lconst {i : Fin 2} {v : Int64} (hd : Dk k pc (.lconst i) 1 pc') (hv : Int64.ofNat (i : Nat) = v) (kk : Ev G k d rc rs pc' ls (.long v :: stk) n μ Q) : Ev G k d rc rs pc ls (stk) n μ Q := by
  obtain ⟨hd, rfl⟩ := hd
  exact fun p l e R s m args below meth c H locs cells slots mc ms L h => lv_lconst h.1.1 h.1.2.1 hd hv (kk p l e R s m args below meth c H locs cells slots mc ms L h)
theorem ev_iadd {x y : Int32} (hd : Dk k pc (.iadd) 1 pc')  (kk : Ev G k d rc rs pc' ls (.int (x + y) :: stk) n μ Q) : Ev G k d rc rs pc ls (.int y :: .int x :: stk) n μ Q := by
  obtain ⟨hd, rfl⟩ := hd
  exact fun p l e R s m args below meth c H locs cells slots mc ms L h => lv_iadd h.1.1 h.1.2.1 hd  (kk p l e R s m args below meth c H locs cells slots mc ms L h)
theorem ev_isub {x y : Int32} (hd : Dk k pc (.isub) 1 pc')  (kk : Ev G k d rc rs pc' ls (.int (x - y) :: stk) n μ Q) : Ev G k d rc rs pc ls (.int y :: .int x :: stk) n μ Q := by
  obtain ⟨hd, rfl⟩ := hd
  exact fun p l e R s m args below meth c H locs cells slots mc ms L h => lv_isub h.1.1 h.1.2.1 hd  (kk p l e R s m args below meth c H locs cells slots mc ms L h)
theorem ev_imul {x y : Int32} (hd : Dk k pc (.imul) 1 pc')  (kk : Ev G k d rc rs pc' ls (.int (x * y) :: stk) n μ Q) : Ev G k d rc rs pc ls (.int y :: .int x :: stk) n μ Q := by
  obtain ⟨hd, rfl⟩ := hd
  exact fun p l e R s m args below meth c H locs cells slots mc ms L h => lv_imul h.1.1 h.1.2.1 hd  (kk p l e R s m args below meth c H locs cells slots mc ms L h)
theorem ev_iand {x y : Int32} (hd : Dk k pc (.iand) 1 pc')  (kk : Ev G k d rc rs pc' ls (.int (x &&& y) :: stk) n μ Q) : Ev G k d rc rs pc ls (.int y :: .int x :: stk) n μ Q := by
  obtain ⟨hd, rfl⟩ := hd
  exact fun p l e R s m args below meth c H locs cells slots mc ms L h => lv_iand h.1.1 h.1.2.1 hd  (kk p l e R s m args below meth c H locs cells slots mc ms L h)
theorem ev_ior {x y : Int32} (hd : Dk k pc (.ior) 1 pc')  (kk : Ev G k d rc rs pc' ls (.int (x ||| y) :: stk) n μ Q) : Ev G k d rc rs pc ls (.int y :: .int x :: stk) n μ Q := by
  obtain ⟨hd, rfl⟩ := hd
  exact fun p l e R s m args below meth c H locs cells slots mc ms L h => lv_ior h.1.1 h.1.2.1 hd  (kk p l e R s m args below meth c H locs cells slots mc ms L h)
theorem ev_ixor {x y : Int32} (hd : Dk k pc (.ixor) 1 pc')  (kk : Ev G k d rc rs pc' ls (.int (x ^^^ y) :: stk) n μ Q) : Ev G k d rc rs pc ls (.int y :: .int x :: stk) n μ Q := by
  obtain ⟨hd, rfl⟩ := hd
  exact fun p l e R s m args below meth c H locs cells slots mc ms L h => lv_ixor h.1.1 h.1.2.1 hd  (kk p l e R s m args below meth c H locs cells slots mc ms L h)
theorem ev_ishl {x y : Int32} (hd : Dk k pc (.ishl) 1 pc')  (kk : Ev G k d rc rs pc' ls (.int (x <<< (y &&& 31)) :: stk) n μ Q) : Ev G k d rc rs pc ls (.int y :: .int x :: stk) n μ Q := by
  obtain ⟨hd, rfl⟩ := hd
  exact fun p l e R s m args below meth c H locs cells slots mc ms L h => lv_ishl h.1.1 h.1.2.1 hd  (kk p l e R s m args below meth c H locs cells slots mc ms L h)
theorem ev_ishr {x y : Int32} (hd : Dk k pc (.ishr) 1 pc')  (kk : Ev G k d rc rs pc' ls (.int (x >>> (y &&& 31)) :: stk) n μ Q) : Ev G k d rc rs pc ls (.int y :: .int x :: stk) n μ Q := by
  obtain ⟨hd, rfl⟩ := hd
  exact fun p l e R s m args below meth c H locs cells slots mc ms L h => lv_ishr h.1.1 h.1.2.1 hd  (kk p l e R s m args below meth c H locs cells slots mc ms L h)
theorem ev_ladd {x y : Int64} (hd : Dk k pc (.ladd) 1 pc')  (kk : Ev G k d rc rs pc' ls (.long (x + y) :: stk) n μ Q) : Ev G k d rc rs pc ls (.long y :: .long x :: stk) n μ Q := by
  obtain ⟨hd, rfl⟩ := hd
  exact fun p l e R s m args below meth c H locs cells slots mc ms L h => lv_ladd h.1.1 h.1.2.1 hd  (kk p l e R s m args below meth c H locs cells slots mc ms L h)
theorem ev_lsub {x y : Int64} (hd : Dk k pc (.lsub) 1 pc')  (kk : Ev G k d rc rs pc' ls (.long (x - y) :: stk) n μ Q) : Ev G k d rc rs pc ls (.long y :: .long x :: stk) n μ Q := by
  obtain ⟨hd, rfl⟩ := hd
  exact fun p l e R s m args below meth c H locs cells slots mc ms L h => lv_lsub h.1.1 h.1.2.1 hd  (kk p l e R s m args below meth c H locs cells slots mc ms L h)
theorem ev_lmul {x y : Int64} (hd : Dk k pc (.lmul) 1 pc')  (kk : Ev G k d rc rs pc' ls (.long (x * y) :: stk) n μ Q) : Ev G k d rc rs pc ls (.long y :: .long x :: stk) n μ Q := by
  obtain ⟨hd, rfl⟩ := hd
  exact fun p l e R s m args below meth c H locs cells slots mc ms L h => lv_lmul h.1.1 h.1.2.1 hd  (kk p l e R s m args below meth c H locs cells slots mc ms L h)
theorem ev_land {x y : Int64} (hd : Dk k pc (.land) 1 pc')  (kk : Ev G k d rc rs pc' ls (.long (x &&& y) :: stk) n μ Q) : Ev G k d rc rs pc ls (.long y :: .long x :: stk) n μ Q := by
  obtain ⟨hd, rfl⟩ := hd
  exact fun p l e R s m args below meth c H locs cells slots mc ms L h => lv_land h.1.1 h.1.2.1 hd  (kk p l e R s m args below meth c H locs cells slots mc ms L h)
theorem ev_lor {x y : Int64} (hd : Dk k pc (.lor) 1 pc')  (kk : Ev G k d rc rs pc' ls (.long (x ||| y) :: stk) n μ Q) : Ev G k d rc rs pc ls (.long y :: .long x :: stk) n μ Q := by
  obtain ⟨hd, rfl⟩ := hd
  exact fun p l e R s m args below meth c H locs cells slots mc ms L h => lv_lor h.1.1 h.1.2.1 hd  (kk p l e R s m args below meth c H locs cells slots mc ms L h)
theorem ev_iushr {x y : Int32} (hd : Dk k pc (.iushr) 1 pc')  (kk : Ev G k d rc rs pc' ls (.int ((x.toUInt32 >>> (y.toUInt32 &&& Int32.toUInt32 31)).toInt32) :: stk) n μ Q) : Ev G k d rc rs pc ls (.int y :: .int x :: stk) n μ Q := by
  obtain ⟨hd, rfl⟩ := hd
  exact fun p l e R s m args below meth c H locs cells slots mc ms L h => lv_iushr h.1.1 h.1.2.1 hd rfl (kk p l e R s m args below meth c H locs cells slots mc ms L h)
theorem ev_i2l {x : Int32} (hd : Dk k pc (.i2l) 1 pc')  (kk : Ev G k d rc rs pc' ls (.long (x.toInt64) :: stk) n μ Q) : Ev G k d rc rs pc ls (.int x :: stk) n μ Q := by
  obtain ⟨hd, rfl⟩ := hd
  exact fun p l e R s m args below meth c H locs cells slots mc ms L h => lv_i2l h.1.1 h.1.2.1 hd rfl (kk p l e R s m args below meth c H locs cells slots mc ms L h)
theorem ev_l2i {x : Int64} (hd : Dk k pc (.l2i) 1 pc')  (kk : Ev G k d rc rs pc' ls (.int (x.toInt32) :: stk) n μ Q) : Ev G k d rc rs pc ls (.long x :: stk) n μ Q := by
  obtain ⟨hd, rfl⟩ := hd
  exact fun p l e R s m args below meth c H locs cells slots mc ms L h => lv_l2i h.1.1 h.1.2.1 hd rfl (kk p l e R s m args below meth c H locs cells slots mc ms L h)
theorem ev_lshl {x : Int64} {y : Int32} (hd : Dk k pc (.lshl) 1 pc')  (kk : Ev G k d rc rs pc' ls (.long (x <<< (y.toInt64 &&& 63)) :: stk) n μ Q) : Ev G k d rc rs pc ls (.int y :: .long x :: stk) n μ Q := by
  obtain ⟨hd, rfl⟩ := hd
  exact fun p l e R s m args below meth c H locs cells slots mc ms L h => lv_lshl h.1.1 h.1.2.1 hd rfl (kk p l e R s m args below meth c H locs cells slots mc ms L h)
theorem ev_lcmp {x y : Int64} (hd : Dk k pc (.lcmp) 1 pc')  (kk : Ev G k d rc rs pc' ls (.int (lg_cmp x y) :: stk) n μ Q) : Ev G k d rc rs pc ls (.long y :: .long x :: stk) n μ Q := by
  obtain ⟨hd, rfl⟩ := hd
  exact fun p l e R s m args below meth c H locs cells slots mc ms L h => W.lcmp h.1.1 h.1.2.1 hd  (kk p l e R s m args below meth c H locs cells slots mc ms L h)
theorem ev_dup {va : Value} (hd : Dk k pc (.dup) 1 pc') (hva : va.category = 1) (kk : Ev G k d rc rs pc' ls (va :: va :: stk) n μ Q) : Ev G k d rc rs pc ls (va :: stk) n μ Q := by
  obtain ⟨hd, rfl⟩ := hd
  exact fun p l e R s m args below meth c H locs cells slots mc ms L h => lv_dup h.1.1 h.1.2.1 hd hva (kk p l e R s m args below meth c H locs cells slots mc ms L h)
theorem ev_pop {va : Value} (hd : Dk k pc (.pop) 1 pc') (hva : va.category = 1) (kk : Ev G k d rc rs pc' ls (stk) n μ Q) : Ev G k d rc rs pc ls (va :: stk) n μ Q := by
  obtain ⟨hd, rfl⟩ := hd
  exact fun p l e R s m args below meth c H locs cells slots mc ms L h => lv_pop h.1.1 h.1.2.1 hd hva (kk p l e R s m args below meth c H locs cells slots mc ms L h)
theorem ev_dup_x1 {va vb : Value} (hd : Dk k pc (.dup_x1) 1 pc') (hva : va.category = 1) (hvb : vb.category = 1) (kk : Ev G k d rc rs pc' ls (va :: vb :: va :: stk) n μ Q) : Ev G k d rc rs pc ls (va :: vb :: stk) n μ Q := by
  obtain ⟨hd, rfl⟩ := hd
  exact fun p l e R s m args below meth c H locs cells slots mc ms L h => lv_dup_x1 h.1.1 h.1.2.1 hd hva hvb (kk p l e R s m args below meth c H locs cells slots mc ms L h)
theorem ev_dup_x2 {va vb vd : Value} (hd : Dk k pc (.dup_x2) 1 pc') (hva : va.category = 1) (hvb : vb.category = 1) (hvd : vd.category = 1) (kk : Ev G k d rc rs pc' ls (va :: vb :: vd :: va :: stk) n μ Q) : Ev G k d rc rs pc ls (va :: vb :: vd :: stk) n μ Q := by
  obtain ⟨hd, rfl⟩ := hd
  exact fun p l e R s m args below meth c H locs cells slots mc ms L h => lv_dup_x2 h.1.1 h.1.2.1 hd hva hvb hvd (kk p l e R s m args below meth c H locs cells slots mc ms L h)
theorem ev_dup2_x2 {va vb vd : Value} (hd : Dk k pc (.dup2_x2) 1 pc') (hva : va.category = 2) (hvb : vb.category = 1) (hvd : vd.category = 1) (kk : Ev G k d rc rs pc' ls (va :: vb :: vd :: va :: stk) n μ Q) : Ev G k d rc rs pc ls (va :: vb :: vd :: stk) n μ Q := by
  obtain ⟨hd, rfl⟩ := hd
  exact fun p l e R s m args below meth c H locs cells slots mc ms L h => lv_dup2_x2_2 h.1.1 h.1.2.1 hd hva hvb hvd (kk p l e R s m args below meth c H locs cells slots mc ms L h)
theorem ev_null  (hd : Dk k pc (.aconst_null) 1 pc')  (kk : Ev G k d rc rs pc' ls (.null :: stk) n μ Q) : Ev G k d rc rs pc ls (stk) n μ Q := by
  obtain ⟨hd, rfl⟩ := hd
  exact fun p l e R s m args below meth c H locs cells slots mc ms L h => lv_null h.1.1 h.1.2.1 hd  (kk p l e R s m args below meth c H locs cells slots mc ms L h)
theorem ev_if_eq {x : Int32} {off : Int} {tgt : Nat} (hd : Dj k pc (.ifCond .eq off) off tgt pc') (kt : x = 0 → Ev G k d rc rs tgt ls (stk) n μ Q) (kf : ¬ x = 0 → Ev G k d rc rs pc' ls (stk) n μ Q) : Ev G k d rc rs pc ls (.int x :: stk) n μ Q := by
  obtain ⟨hd, ht, rfl⟩ := hd
  exact fun p l e R s m args below meth c H locs cells slots mc ms L h => lv_if_eq h.1.1 h.1.2.1 hd ht (fun q => kt q p l e R s m args below meth c H locs cells slots mc ms L h) (fun q => kf q p l e R s m args below meth c H locs cells slots mc ms L h)
theorem ev_if_ne {x : Int32} {off : Int} {tgt : Nat} (hd : Dj k pc (.ifCond .ne off) off tgt pc') (kt : ¬ x = 0 → Ev G k d rc rs tgt ls (stk) n μ Q) (kf : x = 0 → Ev G k d rc rs pc' ls (stk) n μ Q) : Ev G k d rc rs pc ls (.int x :: stk) n μ Q := by
  obtain ⟨hd, ht, rfl⟩ := hd
  exact fun p l e R s m args below meth c H locs cells slots mc ms L h => lv_if_ne h.1.1 h.1.2.1 hd ht (fun q => kt q p l e R s m args below meth c H locs cells slots mc ms L h) (fun q => kf q p l e R s m args below meth c H locs cells slots mc ms L h)
theorem ev_if_lt {x : Int32} {off : Int} {tgt : Nat} (hd : Dj k pc (.ifCond .lt off) off tgt pc') (kt : x < 0 → Ev G k d rc rs tgt ls (stk) n μ Q) (kf : ¬ x < 0 → Ev G k d rc rs pc' ls (stk) n μ Q) : Ev G k d rc rs pc ls (.int x :: stk) n μ Q := by
  obtain ⟨hd, ht, rfl⟩ := hd
  exact fun p l e R s m args below meth c H locs cells slots mc ms L h => lv_if_lt h.1.1 h.1.2.1 hd ht (fun q => kt q p l e R s m args below meth c H locs cells slots mc ms L h) (fun q => kf q p l e R s m args below meth c H locs cells slots mc ms L h)
theorem ev_if_ge {x : Int32} {off : Int} {tgt : Nat} (hd : Dj k pc (.ifCond .ge off) off tgt pc') (kt : 0 ≤ x → Ev G k d rc rs tgt ls (stk) n μ Q) (kf : ¬ 0 ≤ x → Ev G k d rc rs pc' ls (stk) n μ Q) : Ev G k d rc rs pc ls (.int x :: stk) n μ Q := by
  obtain ⟨hd, ht, rfl⟩ := hd
  exact fun p l e R s m args below meth c H locs cells slots mc ms L h => lv_if_ge h.1.1 h.1.2.1 hd ht (fun q => kt q p l e R s m args below meth c H locs cells slots mc ms L h) (fun q => kf q p l e R s m args below meth c H locs cells slots mc ms L h)
theorem ev_if_gt {x : Int32} {off : Int} {tgt : Nat} (hd : Dj k pc (.ifCond .gt off) off tgt pc') (kt : 0 < x → Ev G k d rc rs tgt ls (stk) n μ Q) (kf : ¬ 0 < x → Ev G k d rc rs pc' ls (stk) n μ Q) : Ev G k d rc rs pc ls (.int x :: stk) n μ Q := by
  obtain ⟨hd, ht, rfl⟩ := hd
  exact fun p l e R s m args below meth c H locs cells slots mc ms L h => lv_if_gt h.1.1 h.1.2.1 hd ht (fun q => kt q p l e R s m args below meth c H locs cells slots mc ms L h) (fun q => kf q p l e R s m args below meth c H locs cells slots mc ms L h)
theorem ev_if_le {x : Int32} {off : Int} {tgt : Nat} (hd : Dj k pc (.ifCond .le off) off tgt pc') (kt : x ≤ 0 → Ev G k d rc rs tgt ls (stk) n μ Q) (kf : ¬ x ≤ 0 → Ev G k d rc rs pc' ls (stk) n μ Q) : Ev G k d rc rs pc ls (.int x :: stk) n μ Q := by
  obtain ⟨hd, ht, rfl⟩ := hd
  exact fun p l e R s m args below meth c H locs cells slots mc ms L h => lv_if_le h.1.1 h.1.2.1 hd ht (fun q => kt q p l e R s m args below meth c H locs cells slots mc ms L h) (fun q => kf q p l e R s m args below meth c H locs cells slots mc ms L h)
theorem ev_icmp_eq {x y : Int32} {off : Int} {tgt : Nat} (hd : Dj k pc (.if_icmp .eq off) off tgt pc') (kt : x = y → Ev G k d rc rs tgt ls (stk) n μ Q) (kf : ¬ x = y → Ev G k d rc rs pc' ls (stk) n μ Q) : Ev G k d rc rs pc ls (.int y :: .int x :: stk) n μ Q := by
  obtain ⟨hd, ht, rfl⟩ := hd
  exact fun p l e R s m args below meth c H locs cells slots mc ms L h => lv_icmp_eq h.1.1 h.1.2.1 hd ht (fun q => kt q p l e R s m args below meth c H locs cells slots mc ms L h) (fun q => kf q p l e R s m args below meth c H locs cells slots mc ms L h)
theorem ev_icmp_ne {x y : Int32} {off : Int} {tgt : Nat} (hd : Dj k pc (.if_icmp .ne off) off tgt pc') (kt : ¬ x = y → Ev G k d rc rs tgt ls (stk) n μ Q) (kf : x = y → Ev G k d rc rs pc' ls (stk) n μ Q) : Ev G k d rc rs pc ls (.int y :: .int x :: stk) n μ Q := by
  obtain ⟨hd, ht, rfl⟩ := hd
  exact fun p l e R s m args below meth c H locs cells slots mc ms L h => lv_icmp_ne h.1.1 h.1.2.1 hd ht (fun q => kt q p l e R s m args below meth c H locs cells slots mc ms L h) (fun q => kf q p l e R s m args below meth c H locs cells slots mc ms L h)
theorem ev_icmp_lt {x y : Int32} {off : Int} {tgt : Nat} (hd : Dj k pc (.if_icmp .lt off) off tgt pc') (kt : x < y → Ev G k d rc rs tgt ls (stk) n μ Q) (kf : ¬ x < y → Ev G k d rc rs pc' ls (stk) n μ Q) : Ev G k d rc rs pc ls (.int y :: .int x :: stk) n μ Q := by
  obtain ⟨hd, ht, rfl⟩ := hd
  exact fun p l e R s m args below meth c H locs cells slots mc ms L h => lv_icmp_lt h.1.1 h.1.2.1 hd ht (fun q => kt q p l e R s m args below meth c H locs cells slots mc ms L h) (fun q => kf q p l e R s m args below meth c H locs cells slots mc ms L h)
theorem ev_icmp_ge {x y : Int32} {off : Int} {tgt : Nat} (hd : Dj k pc (.if_icmp .ge off) off tgt pc') (kt : y ≤ x → Ev G k d rc rs tgt ls (stk) n μ Q) (kf : ¬ y ≤ x → Ev G k d rc rs pc' ls (stk) n μ Q) : Ev G k d rc rs pc ls (.int y :: .int x :: stk) n μ Q := by
  obtain ⟨hd, ht, rfl⟩ := hd
  exact fun p l e R s m args below meth c H locs cells slots mc ms L h => lv_icmp_ge h.1.1 h.1.2.1 hd ht (fun q => kt q p l e R s m args below meth c H locs cells slots mc ms L h) (fun q => kf q p l e R s m args below meth c H locs cells slots mc ms L h)
theorem ev_icmp_gt {x y : Int32} {off : Int} {tgt : Nat} (hd : Dj k pc (.if_icmp .gt off) off tgt pc') (kt : y < x → Ev G k d rc rs tgt ls (stk) n μ Q) (kf : ¬ y < x → Ev G k d rc rs pc' ls (stk) n μ Q) : Ev G k d rc rs pc ls (.int y :: .int x :: stk) n μ Q := by
  obtain ⟨hd, ht, rfl⟩ := hd
  exact fun p l e R s m args below meth c H locs cells slots mc ms L h => lv_icmp_gt h.1.1 h.1.2.1 hd ht (fun q => kt q p l e R s m args below meth c H locs cells slots mc ms L h) (fun q => kf q p l e R s m args below meth c H locs cells slots mc ms L h)
theorem ev_icmp_le {x y : Int32} {off : Int} {tgt : Nat} (hd : Dj k pc (.if_icmp .le off) off tgt pc') (kt : x ≤ y → Ev G k d rc rs tgt ls (stk) n μ Q) (kf : ¬ x ≤ y → Ev G k d rc rs pc' ls (stk) n μ Q) : Ev G k d rc rs pc ls (.int y :: .int x :: stk) n μ Q := by
  obtain ⟨hd, ht, rfl⟩ := hd
  exact fun p l e R s m args below meth c H locs cells slots mc ms L h => lv_icmp_le h.1.1 h.1.2.1 hd ht (fun q => kt q p l e R s m args below meth c H locs cells slots mc ms L h) (fun q => kf q p l e R s m args below meth c H locs cells slots mc ms L h)
theorem ev_goto {off : Int} {tgt : Nat} (hd : Dj k pc (.goto off) off tgt pc') (kk : Ev G k d rc rs tgt ls stk n μ Q) : Ev G k d rc rs pc ls stk n μ Q := by
  obtain ⟨hd, ht, rfl⟩ := hd
  exact fun p l e R s m args below meth c H locs cells slots mc ms L h => lv_goto h.1.1 h.1.2.1 hd ht (kk p l e R s m args below meth c H locs cells slots mc ms L h)
theorem ev_ifnull {x : Nat} {off : Int} {tgt : Nat} (hd : Dj k pc (.ifnull off) off tgt pc') (kk : Ev G k d rc rs pc' ls stk n μ Q) : Ev G k d rc rs pc ls (.ref x :: stk) n μ Q := by
  obtain ⟨hd, ht, rfl⟩ := hd
  exact fun p l e R s m args below meth c H locs cells slots mc ms L h => lv_ifnull h.1.1 h.1.2.1 hd (kk p l e R s m args below meth c H locs cells slots mc ms L h)
theorem ev_ifnullN {off : Int} {tgt : Nat} (hd : Dj k pc (.ifnull off) off tgt pc') (kk : Ev G k d rc rs tgt ls stk n μ Q) : Ev G k d rc rs pc ls (.null :: stk) n μ Q := by
  obtain ⟨hd, ht, rfl⟩ := hd
  exact fun p l e R s m args below meth c H locs cells slots mc ms L h => lv_ifnullN h.1.1 h.1.2.1 hd ht (kk p l e R s m args below meth c H locs cells slots mc ms L h)
theorem ev_ifnonnull {x : Nat} {off : Int} {tgt : Nat} (hd : Dj k pc (.ifnonnull off) off tgt pc') (kk : Ev G k d rc rs tgt ls stk n μ Q) : Ev G k d rc rs pc ls (.ref x :: stk) n μ Q := by
  obtain ⟨hd, ht, rfl⟩ := hd
  exact fun p l e R s m args below meth c H locs cells slots mc ms L h => lv_ifnonnull h.1.1 h.1.2.1 hd ht (kk p l e R s m args below meth c H locs cells slots mc ms L h)
theorem ev_ifnonnullN {off : Int} {tgt : Nat} (hd : Dj k pc (.ifnonnull off) off tgt pc') (kk : Ev G k d rc rs pc' ls stk n μ Q) : Ev G k d rc rs pc ls (.null :: stk) n μ Q := by
  obtain ⟨hd, ht, rfl⟩ := hd
  exact fun p l e R s m args below meth c H locs cells slots mc ms L h => lv_ifnonnullN h.1.1 h.1.2.1 hd (kk p l e R s m args below meth c H locs cells slots mc ms L h)
/-- a computed number gets another form -/
theorem ev_top {v w : Value} (e : v = w) (kk : Ev G k d rc rs pc ls (w :: stk) n μ Q) : Ev G k d rc rs pc ls (v :: stk) n μ Q := by rw [e]; exact kk
theorem ev_topi {v w : Int32} (e : v = w) (kk : Ev G k d rc rs pc ls (.int w :: stk) n μ Q) : Ev G k d rc rs pc ls (.int v :: stk) n μ Q := by rw [e]; exact kk
theorem ev_topl {v w : Int64} (e : v = w) (kk : Ev G k d rc rs pc ls (.long w :: stk) n μ Q) : Ev G k d rc rs pc ls (.long v :: stk) n μ Q := by rw [e]; exact kk
theorem ev_tableIn {dflt lo hi : Int} {offs : Array Int} {len : Nat} {x : Int32} {off : Int} {tgt : Nat} (hdg : decode k.2.1 pc = .ok (.tableswitch dflt lo hi offs, len)) (h1 : ¬ x.toInt < lo) (h2 : ¬ hi < x.toInt) (ho : offs[(x.toInt - lo).toNat]? = some off) (ht : (pc : Int) + off = (tgt : Int)) (kk : Ev G k d rc rs tgt ls stk n μ Q) : Ev G k d rc rs pc ls (.int x :: stk) n μ Q :=
  fun p l e R s m args below meth c H locs cells slots mc ms L h => lv_tableIn h.1.1 h.1.2.1 hdg h1 h2 ho ht (kk p l e R s m args below meth c H locs cells slots mc ms L h)
theorem ev_tableOut {dflt lo hi : Int} {offs : Array Int} {len : Nat} {x : Int32} {tgt : Nat} (hdg : decode k.2.1 pc = .ok (.tableswitch dflt lo hi offs, len)) (h1 : x.toInt < lo ∨ hi < x.toInt) (ht : (pc : Int) + dflt = (tgt : Int)) (kk : Ev G k d rc rs tgt ls stk n μ Q) : Ev G k d rc rs pc ls (.int x :: stk) n μ Q :=
  fun p l e R s m args below meth c H locs cells slots mc ms L h => lv_tableOut h.1.1 h.1.2.1 hdg h1 ht (kk p l e R s m args below meth c H locs cells slots mc ms L h)
theorem ev_ldc {index : Nat} {v : Int32} (hd : Dk k pc (.ldc index) 2 pc') (hw : Cond.constant k.1.cls index v ∈ lw_tbl) (kk : Ev G k d rc rs pc' ls (.int v :: stk) n μ Q) : Ev G k d rc rs pc ls stk n μ Q := by
  obtain ⟨hd, rfl⟩ := hd
  exact fun p l e R s m args below meth c H locs cells slots mc ms L h => lv_ldc h.1.1 h.1.2.1 h.1.2.2.2.2.2.2.1 (h.1.2.2.2.2.2.2.2.2.1.1 _ hw rfl args) hd (kk p l e R s m args below meth c H locs cells slots mc ms L h)
theorem ev_ldcw {index : Nat} {v : Int32} (hd : Dk k pc (.ldc_w index) 3 pc') (hw : Cond.constant k.1.cls index v ∈ lw_tbl) (kk : Ev G k d rc rs pc' ls (.int v :: stk) n μ Q) : Ev G k d rc rs pc ls stk n μ Q := by
  obtain ⟨hd, rfl⟩ := hd
  exact fun p l e R s m args below meth c H locs cells slots mc ms L h => lv_ldcw h.1.1 h.1.2.1 h.1.2.2.2.2.2.2.1 (h.1.2.2.2.2.2.2.2.2.1.1 _ hw rfl args) hd (kk p l e R s m args below meth c H locs cells slots mc ms L h)
theorem ev_ldc2 {index : Nat} {v : Int64} (hd : Dk k pc (.ldc2_w index) 3 pc') (hw : Cond.constantLong k.1.cls index v ∈ lw_tbl) (kk : Ev G k d rc rs pc' ls (.long v :: stk) n μ Q) : Ev G k d rc rs pc ls stk n μ Q := by
  obtain ⟨hd, rfl⟩ := hd
  exact fun p l e R s m args below meth c H locs cells slots mc ms L h => lv_ldc2 h.1.1 h.1.2.1 h.1.2.2.2.2.2.2.1 (h.1.2.2.2.2.2.2.2.2.1.1 _ hw rfl args) hd (kk p l e R s m args below meth c H locs cells slots mc ms L h)
theorem ev_iload_n {i : Nat} {x : Int32} {f : Fin 4} (hd : Dk k pc (.iload_n f) 1 pc') (hi : (f : Nat) = i) (hl : ls[i]? = some (some (.int x))) (kk : Ev G k d rc rs pc' ls (.int x :: stk) n μ Q) : Ev G k d rc rs pc ls stk n μ Q := by
  obtain ⟨hd, rfl⟩ := hd
  exact fun p l e R s m args below meth c H locs cells slots mc ms L h => lv_iload_n h.1.1 h.1.2.1 hd hi (h.2.2.2.2.2.2 _ _ hl) (kk p l e R s m args below meth c H locs cells slots mc ms L h)
theorem ev_iload {i : Nat} {x : Int32} (hd : Dk k pc (.iload i) 2 pc') (hl : ls[i]? = some (some (.int x))) (kk : Ev G k d rc rs pc' ls (.int x :: stk) n μ Q) : Ev G k d rc rs pc ls stk n μ Q := by
  obtain ⟨hd, rfl⟩ := hd
  exact fun p l e R s m args below meth c H locs cells slots mc ms L h => lv_iload h.1.1 h.1.2.1 hd (h.2.2.2.2.2.2 _ _ hl) (kk p l e R s m args below meth c H locs cells slots mc ms L h)
theorem ev_lload_n {i : Nat} {x : Int64} {f : Fin 4} (hd : Dk k pc (.lload_n f) 1 pc') (hi : (f : Nat) = i) (hl : ls[i]? = some (some (.long x))) (kk : Ev G k d rc rs pc' ls (.long x :: stk) n μ Q) : Ev G k d rc rs pc ls stk n μ Q := by
  obtain ⟨hd, rfl⟩ := hd
  exact fun p l e R s m args below meth c H locs cells slots mc ms L h => lv_lload_n h.1.1 h.1.2.1 hd hi (h.2.2.2.2.2.2 _ _ hl) (kk p l e R s m args below meth c H locs cells slots mc ms L h)
theorem ev_lload {i : Nat} {x : Int64} (hd : Dk k pc (.lload i) 2 pc') (hl : ls[i]? = some (some (.long x))) (kk : Ev G k d rc rs pc' ls (.long x :: stk) n μ Q) : Ev G k d rc rs pc ls stk n μ Q := by
  obtain ⟨hd, rfl⟩ := hd
  exact fun p l e R s m args below meth c H locs cells slots mc ms L h => lv_lload h.1.1 h.1.2.1 hd (h.2.2.2.2.2.2 _ _ hl) (kk p l e R s m args below meth c H locs cells slots mc ms L h)
theorem ev_aload_n {i : Nat} {x : Nat} {f : Fin 4} (hd : Dk k pc (.aload_n f) 1 pc') (hi : (f : Nat) = i) (hl : ls[i]? = some (some (.ref x))) (kk : Ev G k d rc rs pc' ls (.ref x :: stk) n μ Q) : Ev G k d rc rs pc ls stk n μ Q := by
  obtain ⟨hd, rfl⟩ := hd
  exact fun p l e R s m args below meth c H locs cells slots mc ms L h => lv_aload_n h.1.1 h.1.2.1 hd hi (h.2.2.2.2.2.2 _ _ hl) (kk p l e R s m args below meth c H locs cells slots mc ms L h)
theorem ev_aload {i : Nat} {x : Nat} (hd : Dk k pc (.aload i) 2 pc') (hl : ls[i]? = some (some (.ref x))) (kk : Ev G k d rc rs pc' ls (.ref x :: stk) n μ Q) : Ev G k d rc rs pc ls stk n μ Q := by
  obtain ⟨hd, rfl⟩ := hd
  exact fun p l e R s m args below meth c H locs cells slots mc ms L h => lv_aload h.1.1 h.1.2.1 hd (h.2.2.2.2.2.2 _ _ hl) (kk p l e R s m args below meth c H locs cells slots mc ms L h)
theorem ev_aload_nN {i : Nat} {f : Fin 4} (hd : Dk k pc (.aload_n f) 1 pc') (hi : (f : Nat) = i) (hl : ls[i]? = some (some .null)) (kk : Ev G k d rc rs pc' ls (.null :: stk) n μ Q) : Ev G k d rc rs pc ls stk n μ Q := by
  obtain ⟨hd, rfl⟩ := hd
  exact fun p l e R s m args below meth c H locs cells slots mc ms L h => lv_aload_nN h.1.1 h.1.2.1 hd hi (h.2.2.2.2.2.2 _ _ hl) (kk p l e R s m args below meth c H locs cells slots mc ms L h)
theorem ev_aloadN {i : Nat} (hd : Dk k pc (.aload i) 2 pc') (hl : ls[i]? = some (some .null)) (kk : Ev G k d rc rs pc' ls (.null :: stk) n μ Q) : Ev G k d rc rs pc ls stk n μ Q := by
  obtain ⟨hd, rfl⟩ := hd
  exact fun p l e R s m args below meth c H locs cells slots mc ms L h => lv_aloadN h.1.1 h.1.2.1 hd (h.2.2.2.2.2.2 _ _ hl) (kk p l e R s m args below meth c H locs cells slots mc ms L h)
theorem ev_istore_n {i : Nat} {x : Int32} {ls' : List (Option Value)} {f : Fin 4} (hd : Dk k pc (.istore_n f) 1 pc') (hi : (f : Nat) = i) (hu : i < k.2.2.1) (ho : oL ls i = true) (hs : ls.set i (some (.int x)) = ls') (kk : Ev G k d rc rs pc' ls' stk n μ Q) : Ev G k d rc rs pc ls (.int x :: stk) n μ Q := by
  obtain ⟨hd, rfl⟩ := hd
  subst hi
  intro p l e R s m args below meth c H locs cells slots mc ms L h
  obtain ⟨L', e', h'⟩ := LvO.st1 (v := .int x) h.2.2.2.2 hu rfl (oL_spec ho)
  have hx := h.1.1
  have hb := h.1.2.1
  intro T hT X
  obtain ⟨t, a, b⟩ := kk p l e R s m args below meth c H locs cells slots mc ms L' ⟨h.1, h.2.1, h.2.2.1, h.2.2.2.1, hs ▸ h'⟩ T hT X
  refine ⟨t, ?_, b⟩
  jvm_step X.here [X.here.top, ↓top_set X.here.top, hx, hb, hd, e']
  exact a
theorem ev_istore {i : Nat} {x : Int32} {ls' : List (Option Value)} (hd : Dk k pc (.istore i) 2 pc') (hu : i < k.2.2.1) (ho : oL ls i = true) (hs : ls.set i (some (.int x)) = ls') (kk : Ev G k d rc rs pc' ls' stk n μ Q) : Ev G k d rc rs pc ls (.int x :: stk) n μ Q := by
  obtain ⟨hd, rfl⟩ := hd
  intro p l e R s m args below meth c H locs cells slots mc ms L h
  obtain ⟨L', e', h'⟩ := LvO.st1 (v := .int x) h.2.2.2.2 hu rfl (oL_spec ho)
  have hx := h.1.1
  have hb := h.1.2.1
  intro T hT X
  obtain ⟨t, a, b⟩ := kk p l e R s m args below meth c H locs cells slots mc ms L' ⟨h.1, h.2.1, h.2.2.1, h.2.2.2.1, hs ▸ h'⟩ T hT X
  refine ⟨t, ?_, b⟩
  jvm_step X.here [X.here.top, ↓top_set X.here.top, hx, hb, hd, e']
  exact a
theorem ev_lstore_n {i : Nat} {x : Int64} {ls' : List (Option Value)} {f : Fin 4} (hd : Dk k pc (.lstore_n f) 1 pc') (hi : (f : Nat) = i) (hu : i + 1 < k.2.2.1) (ho : oL ls i = true) (hs : (ls.set i (some (.long x))).set (i + 1) none = ls') (kk : Ev G k d rc rs pc' ls' stk n μ Q) : Ev G k d rc rs pc ls (.long x :: stk) n μ Q := by
  obtain ⟨hd, rfl⟩ := hd
  subst hi
  intro p l e R s m args below meth c H locs cells slots mc ms L h
  obtain ⟨L', e', h'⟩ := LvO.st2 (v := .long x) h.2.2.2.2 hu rfl (oL_spec ho)
  have hx := h.1.1
  have hb := h.1.2.1
  intro T hT X
  obtain ⟨t, a, b⟩ := kk p l e R s m args below meth c H locs cells slots mc ms L' ⟨h.1, h.2.1, h.2.2.1, h.2.2.2.1, hs ▸ h'⟩ T hT X
  refine ⟨t, ?_, b⟩
  jvm_step X.here [X.here.top, ↓top_set X.here.top, hx, hb, hd, e']
  exact a
theorem ev_lstore {i : Nat} {x : Int64} {ls' : List (Option Value)} (hd : Dk k pc (.lstore i) 2 pc') (hu : i + 1 < k.2.2.1) (ho : oL ls i = true) (hs : (ls.set i (some (.long x))).set (i + 1) none = ls') (kk : Ev G k d rc rs pc' ls' stk n μ Q) : Ev G k d rc rs pc ls (.long x :: stk) n μ Q := by
  obtain ⟨hd, rfl⟩ := hd
  intro p l e R s m args below meth c H locs cells slots mc ms L h
  obtain ⟨L', e', h'⟩ := LvO.st2 (v := .long x) h.2.2.2.2 hu rfl (oL_spec ho)
  have hx := h.1.1
  have hb := h.1.2.1
  intro T hT X
  obtain ⟨t, a, b⟩ := kk p l e R s m args below meth c H locs cells slots mc ms L' ⟨h.1, h.2.1, h.2.2.1, h.2.2.2.1, hs ▸ h'⟩ T hT X
  refine ⟨t, ?_, b⟩
  jvm_step X.here [X.here.top, ↓top_set X.here.top, hx, hb, hd, e']
  exact a
theorem ev_astore_n {i : Nat} {x : Nat} {ls' : List (Option Value)} {f : Fin 4} (hd : Dk k pc (.astore_n f) 1 pc') (hi : (f : Nat) = i) (hu : i < k.2.2.1) (ho : oL ls i = true) (hs : ls.set i (some (.ref x)) = ls') (kk : Ev G k d rc rs pc' ls' stk n μ Q) : Ev G k d rc rs pc ls (.ref x :: stk) n μ Q := by
  obtain ⟨hd, rfl⟩ := hd
  subst hi
  intro p l e R s m args below meth c H locs cells slots mc ms L h
  obtain ⟨L', e', h'⟩ := LvO.st1 (v := .ref x) h.2.2.2.2 hu rfl (oL_spec ho)
  have hx := h.1.1
  have hb := h.1.2.1
  intro T hT X
  obtain ⟨t, a, b⟩ := kk p l e R s m args below meth c H locs cells slots mc ms L' ⟨h.1, h.2.1, h.2.2.1, h.2.2.2.1, hs ▸ h'⟩ T hT X
  refine ⟨t, ?_, b⟩
  jvm_step X.here [X.here.top, ↓top_set X.here.top, hx, hb, hd, e', Value.isRef]
  exact a
theorem ev_astore {i : Nat} {x : Nat} {ls' : List (Option Value)} (hd : Dk k pc (.astore i) 2 pc') (hu : i < k.2.2.1) (ho : oL ls i = true) (hs : ls.set i (some (.ref x)) = ls') (kk : Ev G k d rc rs pc' ls' stk n μ Q) : Ev G k d rc rs pc ls (.ref x :: stk) n μ Q := by
  obtain ⟨hd, rfl⟩ := hd
  intro p l e R s m args below meth c H locs cells slots mc ms L h
  obtain ⟨L', e', h'⟩ := LvO.st1 (v := .ref x) h.2.2.2.2 hu rfl (oL_spec ho)
  have hx := h.1.1
  have hb := h.1.2.1
  intro T hT X
  obtain ⟨t, a, b⟩ := kk p l e R s m args below meth c H locs cells slots mc ms L' ⟨h.1, h.2.1, h.2.2.1, h.2.2.2.1, hs ▸ h'⟩ T hT X
  refine ⟨t, ?_, b⟩
  jvm_step X.here [X.here.top, ↓top_set X.here.top, hx, hb, hd, e', Value.isRef]
  exact a
theorem ev_astore_nN {i : Nat}  {ls' : List (Option Value)} {f : Fin 4} (hd : Dk k pc (.astore_n f) 1 pc') (hi : (f : Nat) = i) (hu : i < k.2.2.1) (ho : oL ls i = true) (hs : ls.set i (some (.null)) = ls') (kk : Ev G k d rc rs pc' ls' stk n μ Q) : Ev G k d rc rs pc ls (.null :: stk) n μ Q := by
  obtain ⟨hd, rfl⟩ := hd
  subst hi
  intro p l e R s m args below meth c H locs cells slots mc ms L h
  obtain ⟨L', e', h'⟩ := LvO.st1 (v := .null) h.2.2.2.2 hu rfl (oL_spec ho)
  have hx := h.1.1
  have hb := h.1.2.1
  intro T hT X
  obtain ⟨t, a, b⟩ := kk p l e R s m args below meth c H locs cells slots mc ms L' ⟨h.1, h.2.1, h.2.2.1, h.2.2.2.1, hs ▸ h'⟩ T hT X
  refine ⟨t, ?_, b⟩
  jvm_step X.here [X.here.top, ↓top_set X.here.top, hx, hb, hd, e', Value.isRef]
  exact a
theorem ev_astoreN {i : Nat}  {ls' : List (Option Value)} (hd : Dk k pc (.astore i) 2 pc') (hu : i < k.2.2.1) (ho : oL ls i = true) (hs : ls.set i (some (.null)) = ls') (kk : Ev G k d rc rs pc' ls' stk n μ Q) : Ev G k d rc rs pc ls (.null :: stk) n μ Q := by
  obtain ⟨hd, rfl⟩ := hd
  intro p l e R s m args below meth c H locs cells slots mc ms L h
  obtain ⟨L', e', h'⟩ := LvO.st1 (v := .null) h.2.2.2.2 hu rfl (oL_spec ho)
  have hx := h.1.1
  have hb := h.1.2.1
  intro T hT X
  obtain ⟨t, a, b⟩ := kk p l e R s m args below meth c H locs cells slots mc ms L' ⟨h.1, h.2.1, h.2.2.1, h.2.2.2.1, hs ▸ h'⟩ T hT X
  refine ⟨t, ?_, b⟩
  jvm_step X.here [X.here.top, ↓top_set X.here.top, hx, hb, hd, e', Value.isRef]
  exact a
theorem ev_iinc {i : Nat} {x v : Int32} {j : Int} {ls' : List (Option Value)} (hd : Dk k pc (.iinc i j) 3 pc') (hl : ls[i]? = some (some (.int x))) (hv : x + Int32.ofInt j = v) (hu : i < k.2.2.1) (ho : oL ls i = true) (hs : ls.set i (some (.int v)) = ls') (kk : Ev G k d rc rs pc' ls' stk n μ Q) : Ev G k d rc rs pc ls stk n μ Q := by
  obtain ⟨hd, rfl⟩ := hd
  intro p l e R s m args below meth c H locs cells slots mc ms L h
  obtain ⟨L', e', h'⟩ := LvO.st1 (v := .int v) h.2.2.2.2 hu rfl (oL_spec ho)
  have hx := h.1.1
  have hb := h.1.2.1
  have hl' := h.2.2.2.2.2.2 _ _ hl
  subst hv
  intro T hT X
  obtain ⟨t, a, b⟩ := kk p l e R s m args below meth c H locs cells slots mc ms L' ⟨h.1, h.2.1, h.2.2.1, h.2.2.2.1, hs ▸ h'⟩ T hT X
  refine ⟨t, ?_, b⟩
  jvm_step X.here [X.here.top, ↓top_set X.here.top, hx, hb, hd, hl', e']
  exact a
end ROWS
