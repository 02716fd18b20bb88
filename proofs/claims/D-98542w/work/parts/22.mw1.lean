/-! walks of the Model, printed by gen/model.py -/
set_option maxRecDepth 100000
set_option maxHeartbeats 4000000
theorem w3_put_3 {Γ : Gam} {a : Nat → Nat} {v1 : Int32} {s9 : Bl} (hN : Γ.nL = 3) (C : Cx Γ cX3_put RX3 (0, 0, 0) 0) (hE : Rets Γ cX3_put none 0 0 (fun v w => v = none ∧ w = (bW Γ.d 3 FK3 a s9))) : ∀ (n : Nat) (s : Bl × Int32), loop (g3_put_3 v1) n s = some s9 → (fun s : Bl × Int32 => Go Γ 0 0 (bW Γ.d 3 FK3 a s.1) 3 [(0, .ref (a 0)), (1, .int v1), (2, .int s.2)] []) s := by
  refine loop_walk (P := fun s : Bl × Int32 => Go Γ 0 0 (bW Γ.d 3 FK3 a s.1) 3 [(0, .ref (a 0)), (1, .int v1), (2, .int s.2)] []) ?_
  intro K3 hK3 s h
  obtain ⟨s0, v2⟩ := s
  dsimp only [g3_put_3] at h
  show Go Γ 0 0 (bW Γ.d 3 FK3 a s0) 3 [(0, .ref (a 0)), (1, .int v1), (2, .int v2)] []
  refine go_iload_n (pc := 3) C dX3_put_3 rfl 2 rfl ?_
  refine go_if_lt (pc := 4) (tgt := 36) C dX3_put_4 (by decide) h (fun h => ?_) (fun h => ?_)
  · exact (hE 0 0 _ _ _ (Nat.zero_le _) (Nat.zero_le _)).2.2.2.1 rfl dX3_put_36 ⟨rfl, congrArg (fun z => bW Γ.d 3 FK3 a z) (some1 h)⟩
  · refine go_aload_n (pc := 7) C dX3_put_7 rfl 0 rfl ?_
    refine x3gr_41 (pc := 8) C dX3_put_8 ?_
    refine go_aload_n (pc := 11) C dX3_put_11 rfl 0 rfl ?_
    refine x3gi_31 (pc := 12) C dX3_put_12 ?_
    refine go_iload_n (pc := 15) C dX3_put_15 rfl 1 rfl ?_
    refine go_iload_n (pc := 16) C dX3_put_16 rfl 2 rfl ?_
    refine go_ishr (pc := 17) C dX3_put_17 ?_
    refine go_i2b (pc := 18) C dX3_put_18 ?_
    refine go_bast (pc := 19) C x3pA_41 h dX3_put_19 (fun h => ?_)
    refine go_aload_n (pc := 20) C dX3_put_20 rfl 0 rfl ?_
    refine go_dup (pc := 21) C dX3_put_21 rfl ?_
    refine x3gi_31 (pc := 22) C dX3_put_22 ?_
    refine go_iconst (pc := 25) (v := (1 : Int32)) C dX3_put_25 (by decide) ?_
    refine go_iadd (pc := 26) C dX3_put_26 ?_
    refine x3pi_31 (pc := 27) C dX3_put_27 ?_
    refine go_nm (pc := 30) (fun z9 => (bW Γ.d 3 FK3 a z9)) (fun s1 es1 => ?_)
    have h := ltv_eq es1 h
    refine go_iinc (pc := 30) (v := (v2 + (-8 : Int32))) C hN dX3_put_30 (q := 2) rfl rfl (by decide) rfl ?_
    refine go_goto (pc := 33) (tgt := 3) C dX3_put_33 (by decide) ?_
    refine go_sub [1, 2, 0] rfl ?_
    exact hK3 (s1, (v2 + (-8 : Int32))) h
theorem m3_put {l : Launch} {d : gD} {a : Nat → Nat} {s0 : Bl} {v1 : Int32} {s9 : Bl} (h : f3_put s0 v1 = some s9) : Mt l d yX3_put cX3_put 3 none (0, 0, 0) 0 (bW d 3 FK3 a s0) [.ref (a 0), .int v1] (fun v w => v = none ∧ w = (bW d 3 FK3 a s9)) := by
  refine Mt.of x3pn (Nat.le_of_ble_eq_true rfl) ?_
  intro Γ hl hd hN C hE
  subst hl; subst hd
  show Go Γ 0 0 (bW Γ.d 3 FK3 a s0) 0 [(0, .ref (a 0)), (1, .int v1)] []
  dsimp only [f3_put] at h
  refine go_bipush (pc := 0) (v := (24 : Int32)) C dX3_put_0 (by decide) ?_
  refine go_istore_n (pc := 2) C hN dX3_put_2 rfl (by decide) rfl ?_
  refine go_sub [1, 2, 0] rfl ?_
  exact w3_put_3 hN C hE FU (s0, (24 : Int32)) h
theorem m3_feed {l : Launch} {d : gD} {a : Nat → Nat} {s0 : Bl} {v1 : Int32} {v2 : Int32} {v3 : Int32} {v4 : Int32} {v5 : Int32} {r9 : Int32} {s9 : Bl} (h : f3_feed s0 v1 v2 v3 v4 v5 = some (r9, s9)) : Mt l d yX3_feed cX3_feed 6 (some .int) (1, 0, 0) 22 (bW d 3 FK3 a s0) [.ref (a 0), .int v1, .int v2, .int v3, .int v4, .int v5] (fun v w => v = some (.int r9) ∧ w = (bW d 3 FK3 a s9)) := by
  refine Mt.of x3pn (Nat.le_of_ble_eq_true rfl) ?_
  intro Γ hl hd hN C hE
  subst hl; subst hd
  show Go Γ 0 0 (bW Γ.d 3 FK3 a s0) 0 [(0, .ref (a 0)), (1, .int v1), (2, .int v2), (3, .int v3), (4, .int v4), (5, .int v5)] []
  dsimp only [f3_feed] at h
  refine go_aload_n (pc := 0) C dX3_feed_0 rfl 0 rfl ?_
  refine x3gi_31 (pc := 1) C dX3_feed_1 ?_
  refine go_bipush (pc := 4) (v := (20 : Int32)) C dX3_feed_4 (by decide) ?_
  refine go_iadd (pc := 6) C dX3_feed_6 ?_
  refine go_sipush (pc := 7) (v := (400 : Int32)) C dX3_feed_7 (by decide) ?_
  refine go_icmp_le (pc := 10) (tgt := 15) C dX3_feed_10 (by decide) h (fun h => ?_) (fun h => ?_)
  · refine go_aload_n (pc := 15) C dX3_feed_15 rfl 0 rfl ?_
    refine go_iload_n (pc := 16) C dX3_feed_16 rfl 1 rfl ?_
    obtain ⟨s1, e1, h⟩ := bnd_some h
    refine go_callVv (pc := 17) C [.int v1] (m3_put e1) q1491 q1493 qs54 q144 q1494 x3pd_put (by decide) (by decide) bW_O x3c rfl (Nat.le_of_ble_eq_true rfl) ⟨Nat.zero_le _, Nat.zero_le _⟩ dX3_feed_17 rfl ?_
    refine go_aload_n (pc := 20) C dX3_feed_20 rfl 0 rfl ?_
    refine go_iload_n (pc := 21) C dX3_feed_21 rfl 2 rfl ?_
    obtain ⟨s2, e2, h⟩ := bnd_some h
    refine go_callVv (pc := 22) C [.int v2] (m3_put e2) q1491 q1493 qs54 q144 q1494 x3pd_put (by decide) (by decide) bW_O x3c rfl (Nat.le_of_ble_eq_true rfl) ⟨Nat.zero_le _, Nat.zero_le _⟩ dX3_feed_22 rfl ?_
    refine go_aload_n (pc := 25) C dX3_feed_25 rfl 0 rfl ?_
    refine go_iload_n (pc := 26) C dX3_feed_26 rfl 3 rfl ?_
    obtain ⟨s3, e3, h⟩ := bnd_some h
    refine go_callVv (pc := 27) C [.int v3] (m3_put e3) q1491 q1493 qs54 q144 q1494 x3pd_put (by decide) (by decide) bW_O x3c rfl (Nat.le_of_ble_eq_true rfl) ⟨Nat.zero_le _, Nat.zero_le _⟩ dX3_feed_27 rfl ?_
    refine go_aload_n (pc := 30) C dX3_feed_30 rfl 0 rfl ?_
    refine go_iload (pc := 31) C dX3_feed_31 4 rfl ?_
    obtain ⟨s4, e4, h⟩ := bnd_some h
    refine go_callVv (pc := 33) C [.int v4] (m3_put e4) q1491 q1493 qs54 q144 q1494 x3pd_put (by decide) (by decide) bW_O x3c rfl (Nat.le_of_ble_eq_true rfl) ⟨Nat.zero_le _, Nat.zero_le _⟩ dX3_feed_33 rfl ?_
    refine go_aload_n (pc := 36) C dX3_feed_36 rfl 0 rfl ?_
    refine go_iload (pc := 37) C dX3_feed_37 5 rfl ?_
    obtain ⟨s5, e5, h⟩ := bnd_some h
    refine go_callVv (pc := 39) C [.int v5] (m3_put e5) q1491 q1493 qs54 q144 q1494 x3pd_put (by decide) (by decide) bW_O x3c rfl (Nat.le_of_ble_eq_true rfl) ⟨Nat.zero_le _, Nat.zero_le _⟩ dX3_feed_39 rfl ?_
    refine go_aload_n (pc := 42) C dX3_feed_42 rfl 0 rfl ?_
    refine x3gi_31 (pc := 43) C dX3_feed_43 ?_
    exact (hE 0 0 _ _ _ (Nat.zero_le _) (Nat.zero_le _)).1 _ rfl dX3_feed_46 ⟨congrArg (fun z => some (Value.int z)) (some2 h).1, congrArg (fun z => bW Γ.d 3 FK3 a z) (some2 h).2⟩
  · refine go_iconst (pc := 13) (v := (-1 : Int32)) C dX3_feed_13 (by decide) ?_
    exact (hE 0 0 _ _ _ (Nat.zero_le _) (Nat.zero_le _)).1 _ rfl dX3_feed_14 ⟨congrArg (fun z => some (Value.int z)) (some2 h).1, congrArg (fun z => bW Γ.d 3 FK3 a z) (some2 h).2⟩
theorem m3_end {l : Launch} {d : gD} {a : Nat → Nat} {s0 : Bl} {v1 : Int32} {r9 : Int32} {s9 : Bl} (h : f3_end s0 v1 = some (r9, s9)) : Mt l d yX3_end cX3_end 2 (some .int) (0, 0, 0) 0 (bW d 3 FK3 a s0) [.ref (a 0), .int v1] (fun v w => v = some (.int r9) ∧ w = (bW d 3 FK3 a s9)) := by
  refine Mt.of x3pn (Nat.le_of_ble_eq_true rfl) ?_
  intro Γ hl hd hN C hE
  subst hl; subst hd
  show Go Γ 0 0 (bW Γ.d 3 FK3 a s0) 0 [(0, .ref (a 0)), (1, .int v1)] []
  dsimp only [f3_end] at h
  refine go_iload_n (pc := 0) C dX3_end_0 rfl 1 rfl ?_
  refine go_if_lt (pc := 1) (tgt := 12) C dX3_end_1 (by decide) h (fun h => ?_) (fun h => ?_)
  · refine go_iconst (pc := 12) (v := (-1 : Int32)) C dX3_end_12 (by decide) ?_
    exact (hE 0 0 _ _ _ (Nat.zero_le _) (Nat.zero_le _)).1 _ rfl dX3_end_13 ⟨congrArg (fun z => some (Value.int z)) (some2 h).1, congrArg (fun z => bW Γ.d 3 FK3 a z) (some2 h).2⟩
  · refine go_iload_n (pc := 4) C dX3_end_4 rfl 1 rfl ?_
    refine go_aload_n (pc := 5) C dX3_end_5 rfl 0 rfl ?_
    refine x3gi_31 (pc := 6) C dX3_end_6 ?_
    refine go_icmp_le (pc := 9) (tgt := 14) C dX3_end_9 (by decide) h (fun h => ?_) (fun h => ?_)
    · refine go_aload_n (pc := 14) C dX3_end_14 rfl 0 rfl ?_
      refine go_iload_n (pc := 15) C dX3_end_15 rfl 1 rfl ?_
      refine x3pi_31 (pc := 16) C dX3_end_16 ?_
      refine go_iload_n (pc := 19) C dX3_end_19 rfl 1 rfl ?_
      exact (hE 0 0 _ _ _ (Nat.zero_le _) (Nat.zero_le _)).1 _ rfl dX3_end_20 ⟨congrArg (fun z => some (Value.int z)) (some2 h).1, congrArg (fun z => bW Γ.d 3 FK3 a z) (some2 h).2⟩
    · refine go_iconst (pc := 12) (v := (-1 : Int32)) C dX3_end_12 (by decide) ?_
      exact (hE 0 0 _ _ _ (Nat.zero_le _) (Nat.zero_le _)).1 _ rfl dX3_end_13 ⟨congrArg (fun z => some (Value.int z)) (some2 h).1, congrArg (fun z => bW Γ.d 3 FK3 a z) (some2 h).2⟩
theorem m3_in {l : Launch} {d : gD} {ws : va_W} {v0 : Int64} {v2 : Int64} {v4 : Int64} {r9 : Int32} (h : f3_in v0 v2 v4 = some r9) : Mt l d yX3_in cX3_in 6 (some .boolean) (0, 0, 0) 0 ws [.long v0, .long v2, .long v4] (fun v w => v = some (.int r9) ∧ w = ws) := by
  refine Mt.of x3pn (Nat.le_of_ble_eq_true rfl) ?_
  intro Γ hl hd hN C hE
  subst hl; subst hd
  show Go Γ 0 0 ws 0 [(0, .long v0), (2, .long v2), (4, .long v4)] []
  dsimp only [f3_in] at h
  refine go_lload_n (pc := 0) C dX3_in_0 rfl 0 rfl ?_
  refine go_lload_n (pc := 1) C dX3_in_1 rfl 1 rfl ?_
  refine go_lcmp (pc := 2) C dX3_in_2 ?_
  refine go_if_lt (pc := 3) (tgt := 17) C dX3_in_3 (by decide) h (fun h => ?_) (fun h => ?_)
  · refine go_iconst (pc := 17) (v := (0 : Int32)) C dX3_in_17 (by decide) ?_
    exact (hE 0 0 _ _ _ (Nat.zero_le _) (Nat.zero_le _)).2.1 _ rfl (Or.inl rfl) dX3_in_18 ⟨congrArg (fun z => some (Value.int z)) (some1 h), rfl⟩
  · refine go_lload_n (pc := 6) C dX3_in_6 rfl 0 rfl ?_
    refine go_lload (pc := 7) C dX3_in_7 2 rfl ?_
    refine go_lcmp (pc := 9) C dX3_in_9 ?_
    refine go_if_gt (pc := 10) (tgt := 17) C dX3_in_10 (by decide) h (fun h => ?_) (fun h => ?_)
    · refine go_iconst (pc := 17) (v := (0 : Int32)) C dX3_in_17 (by decide) ?_
      exact (hE 0 0 _ _ _ (Nat.zero_le _) (Nat.zero_le _)).2.1 _ rfl (Or.inl rfl) dX3_in_18 ⟨congrArg (fun z => some (Value.int z)) (some1 h), rfl⟩
    · refine go_iconst (pc := 13) (v := (1 : Int32)) C dX3_in_13 (by decide) ?_
      refine go_goto (pc := 14) (tgt := 18) C dX3_in_14 (by decide) ?_
      exact (hE 0 0 _ _ _ (Nat.zero_le _) (Nat.zero_le _)).2.1 _ rfl (Or.inr rfl) dX3_in_18 ⟨congrArg (fun z => some (Value.int z)) (some1 h), rfl⟩
theorem m3_isOwner {l : Launch} {d : gD} {a : Nat → Nat} {s0 : Bl} {v1 : Int32} {r9 : Int32} (h : f3_isOwner s0 v1 = some r9) : Mt l d yX3_isOwner cX3_isOwner 2 (some .boolean) (1, 0, 0) 25 (bW d 3 FK3 a s0) [.ref (a 0), .int v1] (fun v w => v = some (.int r9) ∧ w = (bW d 3 FK3 a s0)) := by
  refine Mt.of x3pn (Nat.le_of_ble_eq_true rfl) ?_
  intro Γ hl hd hN C hE
  subst hl; subst hd
  show Go Γ 0 0 (bW Γ.d 3 FK3 a s0) 0 [(0, .ref (a 0)), (1, .int v1)] []
  dsimp only [f3_isOwner] at h
  refine go_iload_n (pc := 0) C dX3_isOwner_0 rfl 1 rfl ?_
  refine go_i2l (pc := 1) C dX3_isOwner_1 ?_
  refine go_lconst (pc := 2) (v := (0 : Int64)) C dX3_isOwner_2 (by decide) ?_
  refine go_aload_n (pc := 3) C dX3_isOwner_3 rfl 0 rfl ?_
  refine x3gr_1 (pc := 4) C dX3_isOwner_4 ?_
  refine go_iconst (pc := 7) (v := (2 : Int32)) C dX3_isOwner_7 (by decide) ?_
  refine go_ialdK (pc := 8) (j := 2) C x3aA_1 (by decide) (by decide) dX3_isOwner_8 ?_
  refine go_iconst (pc := 9) (v := (1 : Int32)) C dX3_isOwner_9 (by decide) ?_
  refine go_isub (pc := 10) C dX3_isOwner_10 ?_
  refine go_i2l (pc := 11) C dX3_isOwner_11 ?_
  obtain ⟨r1, e1, h⟩ := bnd_some h
  refine go_callSi (pc := 12) C [.long (v1).toInt64, .long (0 : Int64), .long (((s0.2.1 1 2) - (1 : Int32))).toInt64] (m3_in e1) q1564 q1565 q144 q1566 x3pd_in (by decide) (by decide) rfl (Nat.le_of_ble_eq_true rfl) ⟨Nat.zero_le _, Nat.zero_le _⟩ dX3_isOwner_12 rfl ?_
  obtain ⟨hz, h⟩ := chk_some h
  exact (hE 0 0 _ _ _ (Nat.zero_le _) (Nat.zero_le _)).2.1 _ rfl (isB_or hz) dX3_isOwner_15 ⟨congrArg (fun z => some (Value.int z)) (some1 h), rfl⟩
theorem m3_allRopes {l : Launch} {d : gD} {a : Nat → Nat} {s0 : Bl} {r9 : Int32} (h : f3_allRopes s0 = some r9) : Mt l d yX3_allRopes cX3_allRopes 1 (some .int) (0, 0, 0) 0 (bW d 3 FK3 a s0) [.ref (a 0)] (fun v w => v = some (.int r9) ∧ w = (bW d 3 FK3 a s0)) := by
  refine Mt.of x3pn (Nat.le_of_ble_eq_true rfl) ?_
  intro Γ hl hd hN C hE
  subst hl; subst hd
  show Go Γ 0 0 (bW Γ.d 3 FK3 a s0) 0 [(0, .ref (a 0))] []
  dsimp only [f3_allRopes] at h
  refine go_iconst (pc := 0) (v := (1 : Int32)) C dX3_allRopes_0 (by decide) ?_
  refine go_aload_n (pc := 1) C dX3_allRopes_1 rfl 0 rfl ?_
  refine x3gr_1 (pc := 2) C dX3_allRopes_2 ?_
  refine go_iconst (pc := 5) (v := (4 : Int32)) C dX3_allRopes_5 (by decide) ?_
  refine go_ialdK (pc := 6) (j := 4) C x3aA_1 (by decide) (by decide) dX3_allRopes_6 ?_
  refine go_ishl (pc := 7) C dX3_allRopes_7 ?_
  refine go_iconst (pc := 8) (v := (1 : Int32)) C dX3_allRopes_8 (by decide) ?_
  refine go_isub (pc := 9) C dX3_allRopes_9 ?_
  exact (hE 0 0 _ _ _ (Nat.zero_le _) (Nat.zero_le _)).1 _ rfl dX3_allRopes_10 ⟨congrArg (fun z => some (Value.int z)) (some1 h), rfl⟩
theorem w3_afloat_4 {Γ : Gam} {a : Nat → Nat} {s0 : Bl} {r9 : Int32} (hN : Γ.nL = 3) (C : Cx Γ cX3_afloat RX3 (0, 0, 0) 0) (hE : Rets Γ cX3_afloat (some .int) 0 0 (fun v w => v = some (.int r9) ∧ w = (bW Γ.d 3 FK3 a s0))) : ∀ (n : Nat) (s : Int32 × Int32), loop (g3_afloat_4 s0) n s = some r9 → (fun s : Int32 × Int32 => Go Γ 0 0 (bW Γ.d 3 FK3 a s0) 4 [(0, .ref (a 0)), (1, .int s.1), (2, .int s.2)] []) s := by
  refine loop_walk (P := fun s : Int32 × Int32 => Go Γ 0 0 (bW Γ.d 3 FK3 a s0) 4 [(0, .ref (a 0)), (1, .int s.1), (2, .int s.2)] []) ?_
  intro K4 hK4 s h
  obtain ⟨v1, v2⟩ := s
  dsimp only [g3_afloat_4] at h
  show Go Γ 0 0 (bW Γ.d 3 FK3 a s0) 4 [(0, .ref (a 0)), (1, .int v1), (2, .int v2)] []
  refine go_iload_n (pc := 4) C dX3_afloat_4 rfl 2 rfl ?_
  refine go_aload_n (pc := 5) C dX3_afloat_5 rfl 0 rfl ?_
  refine x3gr_1 (pc := 6) C dX3_afloat_6 ?_
  refine go_iconst (pc := 9) (v := (3 : Int32)) C dX3_afloat_9 (by decide) ?_
  refine go_ialdK (pc := 10) (j := 3) C x3aA_1 (by decide) (by decide) dX3_afloat_10 ?_
  refine go_icmp_ge (pc := 11) (tgt := 39) C dX3_afloat_11 (by decide) h (fun h => ?_) (fun h => ?_)
  · refine go_iload_n (pc := 39) C dX3_afloat_39 rfl 1 rfl ?_
    exact (hE 0 0 _ _ _ (Nat.zero_le _) (Nat.zero_le _)).1 _ rfl dX3_afloat_40 ⟨congrArg (fun z => some (Value.int z)) (some1 h), rfl⟩
  · refine go_iload_n (pc := 14) C dX3_afloat_14 rfl 1 rfl ?_
    refine go_aload_n (pc := 15) C dX3_afloat_15 rfl 0 rfl ?_
    refine x3gr_9 (pc := 16) C dX3_afloat_16 ?_
    refine go_iload_n (pc := 19) C dX3_afloat_19 rfl 2 rfl ?_
    refine go_iald (pc := 20) C x3aA_9 h dX3_afloat_20 (fun h => ?_)
    refine go_if_ne (pc := 21) (tgt := 30) C dX3_afloat_21 (by decide) h (fun h => ?_) (fun h => ?_)
    · refine go_iconst (pc := 30) (v := (0 : Int32)) C dX3_afloat_30 (by decide) ?_
      refine go_ior (pc := 31) C dX3_afloat_31 ?_
      refine go_istore_n (pc := 32) C hN dX3_afloat_32 rfl (by decide) rfl ?_
      refine go_iinc (pc := 33) (v := (v2 + (1 : Int32))) C hN dX3_afloat_33 (q := 2) rfl rfl (by decide) rfl ?_
      refine go_goto (pc := 36) (tgt := 4) C dX3_afloat_36 (by decide) ?_
      refine go_sub [2, 1, 0] rfl ?_
      exact hK4 ((v1 ||| (0 : Int32)), (v2 + (1 : Int32))) h
    · refine go_iconst (pc := 24) (v := (1 : Int32)) C dX3_afloat_24 (by decide) ?_
      refine go_iload_n (pc := 25) C dX3_afloat_25 rfl 2 rfl ?_
      refine go_ishl (pc := 26) C dX3_afloat_26 ?_
      refine go_goto (pc := 27) (tgt := 31) C dX3_afloat_27 (by decide) ?_
      refine go_ior (pc := 31) C dX3_afloat_31 ?_
      refine go_istore_n (pc := 32) C hN dX3_afloat_32 rfl (by decide) rfl ?_
      refine go_iinc (pc := 33) (v := (v2 + (1 : Int32))) C hN dX3_afloat_33 (q := 2) rfl rfl (by decide) rfl ?_
      refine go_goto (pc := 36) (tgt := 4) C dX3_afloat_36 (by decide) ?_
      refine go_sub [2, 1, 0] rfl ?_
      exact hK4 ((v1 ||| ((1 : Int32) <<< (v2 &&& 31))), (v2 + (1 : Int32))) h
theorem m3_afloat {l : Launch} {d : gD} {a : Nat → Nat} {s0 : Bl} {r9 : Int32} (h : f3_afloat s0 = some r9) : Mt l d yX3_afloat cX3_afloat 3 (some .int) (0, 0, 0) 0 (bW d 3 FK3 a s0) [.ref (a 0)] (fun v w => v = some (.int r9) ∧ w = (bW d 3 FK3 a s0)) := by
  refine Mt.of x3pn (Nat.le_of_ble_eq_true rfl) ?_
  intro Γ hl hd hN C hE
  subst hl; subst hd
  show Go Γ 0 0 (bW Γ.d 3 FK3 a s0) 0 [(0, .ref (a 0))] []
  dsimp only [f3_afloat] at h
  refine go_iconst (pc := 0) (v := (0 : Int32)) C dX3_afloat_0 (by decide) ?_
  refine go_istore_n (pc := 1) C hN dX3_afloat_1 rfl (by decide) rfl ?_
  refine go_iconst (pc := 2) (v := (0 : Int32)) C dX3_afloat_2 (by decide) ?_
  refine go_istore_n (pc := 3) C hN dX3_afloat_3 rfl (by decide) rfl ?_
  refine go_sub [2, 1, 0] rfl ?_
  exact w3_afloat_4 hN C hE FU ((0 : Int32), (0 : Int32)) h
theorem m3_has {l : Launch} {d : gD} {ws : va_W} {v0 : Int32} {v1 : Int32} {r9 : Int32} (h : f3_has v0 v1 = some r9) : Mt l d yX3_has cX3_has 2 (some .boolean) (0, 0, 0) 0 ws [.int v0, .int v1] (fun v w => v = some (.int r9) ∧ w = ws) := by
  refine Mt.of x3pn (Nat.le_of_ble_eq_true rfl) ?_
  intro Γ hl hd hN C hE
  subst hl; subst hd
  show Go Γ 0 0 ws 0 [(0, .int v0), (1, .int v1)] []
  dsimp only [f3_has] at h
  refine go_iload_n (pc := 0) C dX3_has_0 rfl 0 rfl ?_
  refine go_iload_n (pc := 1) C dX3_has_1 rfl 1 rfl ?_
  refine go_ishr (pc := 2) C dX3_has_2 ?_
  refine go_iconst (pc := 3) (v := (1 : Int32)) C dX3_has_3 (by decide) ?_
  refine go_iand (pc := 4) C dX3_has_4 ?_
  refine go_iconst (pc := 5) (v := (1 : Int32)) C dX3_has_5 (by decide) ?_
  refine go_icmp_ne (pc := 6) (tgt := 13) C dX3_has_6 (by decide) h (fun h => ?_) (fun h => ?_)
  · refine go_iconst (pc := 13) (v := (0 : Int32)) C dX3_has_13 (by decide) ?_
    exact (hE 0 0 _ _ _ (Nat.zero_le _) (Nat.zero_le _)).2.1 _ rfl (Or.inl rfl) dX3_has_14 ⟨congrArg (fun z => some (Value.int z)) (some1 h), rfl⟩
  · refine go_iconst (pc := 9) (v := (1 : Int32)) C dX3_has_9 (by decide) ?_
    refine go_goto (pc := 10) (tgt := 14) C dX3_has_10 (by decide) ?_
    exact (hE 0 0 _ _ _ (Nat.zero_le _) (Nat.zero_le _)).2.1 _ rfl (Or.inr rfl) dX3_has_14 ⟨congrArg (fun z => some (Value.int z)) (some1 h), rfl⟩
theorem w3_hangsWith_20 {Γ : Gam} {a : Nat → Nat} {s0 : Bl} {v2 : Int32} {v3 : Int32} {v6 : Int32} {r9 : Int32} {K8 : Int32 × Int32 → Option Int32} (hN : Γ.nL = 9) (C : Cx Γ cX3_hangsWith RX3 (1, 0, 0) 21) (hE : Rets Γ cX3_hangsWith (some .int) 0 0 (fun v w => v = some (.int r9) ∧ w = (bW Γ.d 3 FK3 a s0)))
    (hK8 : ∀ s, K8 s = some r9 → (fun s : Int32 × Int32 => Go Γ 0 0 (bW Γ.d 3 FK3 a s0) 8 [(0, .ref (a 0)), (2, .int v2), (3, .int v3), (4, .int s.1), (5, .int s.2)] []) s) : ∀ (n : Nat) (s : Int32 × Int32), loop (g3_hangsWith_20 s0 v2 v3 v6 K8) n s = some r9 → (fun s : Int32 × Int32 => Go Γ 0 0 (bW Γ.d 3 FK3 a s0) 20 [(0, .ref (a 0)), (2, .int v2), (3, .int v3), (4, .int s.1), (6, .int v6), (7, .int s.2)] []) s := by
  refine loop_walk (P := fun s : Int32 × Int32 => Go Γ 0 0 (bW Γ.d 3 FK3 a s0) 20 [(0, .ref (a 0)), (2, .int v2), (3, .int v3), (4, .int s.1), (6, .int v6), (7, .int s.2)] []) ?_
  intro K20 hK20 s h
  obtain ⟨v4, v7⟩ := s
  dsimp only [g3_hangsWith_20] at h
  show Go Γ 0 0 (bW Γ.d 3 FK3 a s0) 20 [(0, .ref (a 0)), (2, .int v2), (3, .int v3), (4, .int v4), (6, .int v6), (7, .int v7)] []
  refine go_iload (pc := 20) C dX3_hangsWith_20 5 rfl ?_
  refine go_aload_n (pc := 22) C dX3_hangsWith_22 rfl 0 rfl ?_
  refine x3gr_1 (pc := 23) C dX3_hangsWith_23 ?_
  refine go_iconst (pc := 26) (v := (4 : Int32)) C dX3_hangsWith_26 (by decide) ?_
  refine go_ialdK (pc := 27) (j := 4) C x3aA_1 (by decide) (by decide) dX3_hangsWith_27 ?_
  refine go_icmp_ge (pc := 28) (tgt := 91) C dX3_hangsWith_28 (by decide) h (fun h => ?_) (fun h => ?_)
  · refine go_iload (pc := 91) C dX3_hangsWith_91 3 rfl ?_
    refine go_iload (pc := 93) C dX3_hangsWith_93 4 rfl ?_
    refine go_icmp_eq (pc := 95) (tgt := 102) C dX3_hangsWith_95 (by decide) h (fun h => ?_) (fun h => ?_)
    · refine go_iconst (pc := 102) (v := (0 : Int32)) C dX3_hangsWith_102 (by decide) ?_
      refine go_istore (pc := 103) C hN dX3_hangsWith_103 (by decide) rfl ?_
      refine go_goto (pc := 105) (tgt := 8) C dX3_hangsWith_105 (by decide) ?_
      refine go_sub [1, 2, 3, 4, 0] rfl ?_
      exact hK8 (v4, (0 : Int32)) h
    · refine go_iconst (pc := 98) (v := (1 : Int32)) C dX3_hangsWith_98 (by decide) ?_
      refine go_goto (pc := 99) (tgt := 103) C dX3_hangsWith_99 (by decide) ?_
      refine go_istore (pc := 103) C hN dX3_hangsWith_103 (by decide) rfl ?_
      refine go_goto (pc := 105) (tgt := 8) C dX3_hangsWith_105 (by decide) ?_
      refine go_sub [1, 2, 3, 4, 0] rfl ?_
      exact hK8 (v4, (1 : Int32)) h
  · refine go_iconst (pc := 31) (v := (1 : Int32)) C dX3_hangsWith_31 (by decide) ?_
    refine go_aload_n (pc := 32) C dX3_hangsWith_32 rfl 0 rfl ?_
    refine x3gr_11 (pc := 33) C dX3_hangsWith_33 ?_
    refine go_iload (pc := 36) C dX3_hangsWith_36 5 rfl ?_
    refine go_iald (pc := 38) C x3aA_11 h dX3_hangsWith_38 (fun h => ?_)
    refine go_ishl (pc := 39) C dX3_hangsWith_39 ?_
    refine go_iconst (pc := 40) (v := (1 : Int32)) C dX3_hangsWith_40 (by decide) ?_
    refine go_aload_n (pc := 41) C dX3_hangsWith_41 rfl 0 rfl ?_
    refine x3gr_12 (pc := 42) C dX3_hangsWith_42 ?_
    refine go_iload (pc := 45) C dX3_hangsWith_45 5 rfl ?_
    refine go_iald (pc := 47) C x3aA_12 h dX3_hangsWith_47 (fun h => ?_)
    refine go_ishl (pc := 48) C dX3_hangsWith_48 ?_
    refine go_ior (pc := 49) C dX3_hangsWith_49 ?_
    refine go_topi (pc := 50) (fun y1 ey1 => ?_)
    have h := ltv_eq ey1 h
    refine go_istore (pc := 50) C hN dX3_hangsWith_50 (by decide) rfl ?_
    refine go_iload_n (pc := 52) C dX3_hangsWith_52 rfl 3 rfl ?_
    refine go_iload (pc := 53) C dX3_hangsWith_53 6 rfl ?_
    obtain ⟨r2, e2, h⟩ := bnd_some h
    refine go_callSi (pc := 55) C [.int v3, .int v7] (m3_has e2) q1682 q1683 q144 q1684 x3pd_has (by decide) (by decide) rfl (Nat.le_of_ble_eq_true rfl) ⟨Nat.zero_le _, Nat.zero_le _⟩ dX3_hangsWith_55 rfl ?_
    refine go_if_eq (pc := 58) (tgt := 85) C dX3_hangsWith_58 (by decide) h (fun h => ?_) (fun h => ?_)
    · refine go_iinc (pc := 85) (v := (v7 + (1 : Int32))) C hN dX3_hangsWith_85 (q := 6) rfl rfl (by decide) rfl ?_
      refine go_goto (pc := 88) (tgt := 20) C dX3_hangsWith_88 (by decide) ?_
      refine go_sub [2, 3, 4, 5, 6, 0] rfl ?_
      exact hK20 (v4, (v7 + (1 : Int32))) h
    · refine go_iload (pc := 61) C dX3_hangsWith_61 0 rfl ?_
      refine go_iload_n (pc := 63) C dX3_hangsWith_63 rfl 2 rfl ?_
      refine go_iconst (pc := 64) (v := (-1 : Int32)) C dX3_hangsWith_64 (by decide) ?_
      refine go_ixor (pc := 65) C dX3_hangsWith_65 ?_
      refine go_iand (pc := 66) C dX3_hangsWith_66 ?_
      refine go_if_ne (pc := 67) (tgt := 85) C dX3_hangsWith_67 (by decide) h (fun h => ?_) (fun h => ?_)
      · refine go_iinc (pc := 85) (v := (v7 + (1 : Int32))) C hN dX3_hangsWith_85 (q := 6) rfl rfl (by decide) rfl ?_
        refine go_goto (pc := 88) (tgt := 20) C dX3_hangsWith_88 (by decide) ?_
        refine go_sub [2, 3, 4, 5, 6, 0] rfl ?_
        exact hK20 (v4, (v7 + (1 : Int32))) h
      · refine go_iload (pc := 70) C dX3_hangsWith_70 0 rfl ?_
        refine go_iload (pc := 72) C dX3_hangsWith_72 4 rfl ?_
        refine go_iand (pc := 74) C dX3_hangsWith_74 ?_
        refine go_if_eq (pc := 75) (tgt := 85) C dX3_hangsWith_75 (by decide) h (fun h => ?_) (fun h => ?_)
        · refine go_iinc (pc := 85) (v := (v7 + (1 : Int32))) C hN dX3_hangsWith_85 (q := 6) rfl rfl (by decide) rfl ?_
          refine go_goto (pc := 88) (tgt := 20) C dX3_hangsWith_88 (by decide) ?_
          refine go_sub [2, 3, 4, 5, 6, 0] rfl ?_
          exact hK20 (v4, (v7 + (1 : Int32))) h
        · refine go_iload (pc := 78) C dX3_hangsWith_78 4 rfl ?_
          refine go_iload (pc := 80) C dX3_hangsWith_80 0 rfl ?_
          refine go_ior (pc := 82) C dX3_hangsWith_82 ?_
          refine go_istore (pc := 83) C hN dX3_hangsWith_83 (by decide) rfl ?_
          refine go_iinc (pc := 85) (v := (v7 + (1 : Int32))) C hN dX3_hangsWith_85 (q := 6) rfl rfl (by decide) rfl ?_
          refine go_goto (pc := 88) (tgt := 20) C dX3_hangsWith_88 (by decide) ?_
          refine go_sub [3, 4, 5, 1, 6, 0] rfl ?_
          exact hK20 ((v4 ||| y1), (v7 + (1 : Int32))) h
theorem w3_hangsWith_8 {Γ : Gam} {a : Nat → Nat} {s0 : Bl} {v2 : Int32} {v3 : Int32} {r9 : Int32} (hN : Γ.nL = 9) (C : Cx Γ cX3_hangsWith RX3 (1, 0, 0) 21) (hE : Rets Γ cX3_hangsWith (some .int) 0 0 (fun v w => v = some (.int r9) ∧ w = (bW Γ.d 3 FK3 a s0))) : ∀ (n : Nat) (s : Int32 × Int32), loop (g3_hangsWith_8 s0 v2 v3) n s = some r9 → (fun s : Int32 × Int32 => Go Γ 0 0 (bW Γ.d 3 FK3 a s0) 8 [(0, .ref (a 0)), (2, .int v2), (3, .int v3), (4, .int s.1), (5, .int s.2)] []) s := by
  refine loop_walk (P := fun s : Int32 × Int32 => Go Γ 0 0 (bW Γ.d 3 FK3 a s0) 8 [(0, .ref (a 0)), (2, .int v2), (3, .int v3), (4, .int s.1), (5, .int s.2)] []) ?_
  intro K8 hK8 s h
  obtain ⟨v4, v5⟩ := s
  dsimp only [g3_hangsWith_8] at h
  show Go Γ 0 0 (bW Γ.d 3 FK3 a s0) 8 [(0, .ref (a 0)), (2, .int v2), (3, .int v3), (4, .int v4), (5, .int v5)] []
  refine go_iload (pc := 8) C dX3_hangsWith_8 4 rfl ?_
  refine go_if_eq (pc := 10) (tgt := 108) C dX3_hangsWith_10 (by decide) h (fun h => ?_) (fun h => ?_)
  · refine go_iload (pc := 108) C dX3_hangsWith_108 3 rfl ?_
    exact (hE 0 0 _ _ _ (Nat.zero_le _) (Nat.zero_le _)).1 _ rfl dX3_hangsWith_110 ⟨congrArg (fun z => some (Value.int z)) (some1 h), rfl⟩
  · refine go_iload (pc := 13) C dX3_hangsWith_13 3 rfl ?_
    refine go_istore (pc := 15) C hN dX3_hangsWith_15 (by decide) rfl ?_
    refine go_iconst (pc := 17) (v := (0 : Int32)) C dX3_hangsWith_17 (by decide) ?_
    refine go_istore (pc := 18) C hN dX3_hangsWith_18 (by decide) rfl ?_
    refine go_sub [2, 3, 4, 5, 1, 0] rfl ?_
    exact w3_hangsWith_20 hN C hE hK8 FU (v4, (0 : Int32)) h
theorem m3_hangsWith {l : Launch} {d : gD} {a : Nat → Nat} {s0 : Bl} {v1 : Int32} {v2 : Int32} {v3 : Int32} {r9 : Int32} (h : f3_hangsWith s0 v1 v2 v3 = some r9) : Mt l d yX3_hangsWith cX3_hangsWith 9 (some .int) (1, 0, 0) 21 (bW d 3 FK3 a s0) [.ref (a 0), .int v1, .int v2, .int v3] (fun v w => v = some (.int r9) ∧ w = (bW d 3 FK3 a s0)) := by
  refine Mt.of x3pn (Nat.le_of_ble_eq_true rfl) ?_
  intro Γ hl hd hN C hE
  subst hl; subst hd
  show Go Γ 0 0 (bW Γ.d 3 FK3 a s0) 0 [(0, .ref (a 0)), (1, .int v1), (2, .int v2), (3, .int v3)] []
  dsimp only [f3_hangsWith] at h
  refine go_iconst (pc := 0) (v := (1 : Int32)) C dX3_hangsWith_0 (by decide) ?_
  refine go_iload_n (pc := 1) C dX3_hangsWith_1 rfl 1 rfl ?_
  refine go_ishl (pc := 2) C dX3_hangsWith_2 ?_
  refine go_istore (pc := 3) C hN dX3_hangsWith_3 (by decide) rfl ?_
  refine go_iconst (pc := 5) (v := (1 : Int32)) C dX3_hangsWith_5 (by decide) ?_
  refine go_istore (pc := 6) C hN dX3_hangsWith_6 (by decide) rfl ?_
  refine go_sub [2, 4, 5, 1, 0] rfl ?_
  exact w3_hangsWith_8 hN C hE FU (((1 : Int32) <<< (v1 &&& 31)), (1 : Int32)) h
theorem w3_riddenBy_142 {Γ : Gam} {a : Nat → Nat} {s0 : Bl} {v1 : Int32} {v2 : Int32} {v6 : Int32} {v4 : Int32} {v5 : Int32} {v7 : Int32} {v9 : Int32} {z0 : Int32} {r9 : Int32} {K17 : Int32 × Int32 × Int32 × Int32 → Option Int32} (hN : Γ.nL = 11) (C : Cx Γ cX3_riddenBy RX3 (2, 0, 0) 49) (hE : Rets Γ cX3_riddenBy (some .int) 0 0 (fun v w => v = some (.int r9) ∧ w = (bW Γ.d 3 FK3 a s0)))
    (hK17 : ∀ s, K17 s = some r9 → (fun s : Int32 × Int32 × Int32 × Int32 => Go Γ 0 0 (bW Γ.d 3 FK3 a s0) 17 [(0, .ref (a 0)), (1, .int v1), (2, .int v2), (3, .int s.1), (4, .int s.2.1), (5, .int s.2.2.1), (6, .int v6), (7, .int s.2.2.2)] []) s) (h : g3_riddenBy_142 s0 K17 v1 v2 v4 v5 v6 v7 v9 z0 = some r9) : Go Γ 0 0 (bW Γ.d 3 FK3 a s0) 142 [(0, .ref (a 0)), (1, .int v1), (2, .int v2), (4, .int v4), (5, .int v5), (6, .int v6), (7, .int v7), (9, .int v9)] [.int z0] := by
  dsimp only [g3_riddenBy_142] at h
  refine go_istore_n (pc := 142) C hN dX3_riddenBy_142 rfl (by decide) rfl ?_
  refine go_iload (pc := 143) C dX3_riddenBy_143 8 rfl ?_
  refine go_iload (pc := 145) C dX3_riddenBy_145 4 rfl ?_
  refine go_icmp_le (pc := 147) (tgt := 155) C dX3_riddenBy_147 (by decide) h (fun h => ?_) (fun h => ?_)
  · refine go_iload (pc := 155) C dX3_riddenBy_155 4 rfl ?_
    refine go_istore (pc := 157) C hN dX3_riddenBy_157 (by decide) rfl ?_
    refine go_iinc (pc := 159) (v := (v7 + (1 : Int32))) C hN dX3_riddenBy_159 (q := 7) rfl rfl (by decide) rfl ?_
    refine go_goto (pc := 162) (tgt := 17) C dX3_riddenBy_162 (by decide) ?_
    refine go_sub [3, 4, 5, 2, 1, 6, 7, 0] rfl ?_
    exact hK17 (z0, v4, v5, (v7 + (1 : Int32))) h
  · refine go_iload (pc := 150) C dX3_riddenBy_150 8 rfl ?_
    refine go_goto (pc := 152) (tgt := 157) C dX3_riddenBy_152 (by decide) ?_
    refine go_istore (pc := 157) C hN dX3_riddenBy_157 (by decide) rfl ?_
    refine go_iinc (pc := 159) (v := (v7 + (1 : Int32))) C hN dX3_riddenBy_159 (q := 7) rfl rfl (by decide) rfl ?_
    refine go_goto (pc := 162) (tgt := 17) C dX3_riddenBy_162 (by decide) ?_
    refine go_sub [3, 4, 5, 2, 1, 6, 7, 0] rfl ?_
    exact hK17 (z0, v9, v5, (v7 + (1 : Int32))) h
theorem w3_riddenBy_81 {Γ : Gam} {a : Nat → Nat} {s0 : Bl} {v1 : Int32} {v2 : Int32} {v3 : Int32} {v4 : Int32} {v5 : Int32} {v6 : Int32} {v7 : Int32} {v8 : Int32} {r9 : Int32} {K17 : Int32 × Int32 × Int32 × Int32 → Option Int32} (hN : Γ.nL = 11) (C : Cx Γ cX3_riddenBy RX3 (2, 0, 0) 49) (hE : Rets Γ cX3_riddenBy (some .int) 0 0 (fun v w => v = some (.int r9) ∧ w = (bW Γ.d 3 FK3 a s0)))
    (hK17 : ∀ s, K17 s = some r9 → (fun s : Int32 × Int32 × Int32 × Int32 => Go Γ 0 0 (bW Γ.d 3 FK3 a s0) 17 [(0, .ref (a 0)), (1, .int v1), (2, .int v2), (3, .int s.1), (4, .int s.2.1), (5, .int s.2.2.1), (6, .int v6), (7, .int s.2.2.2)] []) s) : ∀ (n : Nat) (s : Int32 × Int32), loop (g3_riddenBy_81 s0 v1 v2 v3 v4 v5 v6 v7 v8 K17) n s = some r9 → (fun s : Int32 × Int32 => Go Γ 0 0 (bW Γ.d 3 FK3 a s0) 81 [(0, .ref (a 0)), (1, .int v1), (2, .int v2), (3, .int v3), (4, .int v4), (5, .int v5), (6, .int v6), (7, .int v7), (8, .int v8), (9, .int s.1), (10, .int s.2)] []) s := by
  refine loop_walk (P := fun s : Int32 × Int32 => Go Γ 0 0 (bW Γ.d 3 FK3 a s0) 81 [(0, .ref (a 0)), (1, .int v1), (2, .int v2), (3, .int v3), (4, .int v4), (5, .int v5), (6, .int v6), (7, .int v7), (8, .int v8), (9, .int s.1), (10, .int s.2)] []) ?_
  intro K81 hK81 s h
  obtain ⟨v9, v10⟩ := s
  dsimp only [g3_riddenBy_81] at h
  show Go Γ 0 0 (bW Γ.d 3 FK3 a s0) 81 [(0, .ref (a 0)), (1, .int v1), (2, .int v2), (3, .int v3), (4, .int v4), (5, .int v5), (6, .int v6), (7, .int v7), (8, .int v8), (9, .int v9), (10, .int v10)] []
  refine go_iload (pc := 81) C dX3_riddenBy_81 10 rfl ?_
  refine go_aload_n (pc := 83) C dX3_riddenBy_83 rfl 0 rfl ?_
  refine x3gr_1 (pc := 84) C dX3_riddenBy_84 ?_
  refine go_iconst (pc := 87) (v := (3 : Int32)) C dX3_riddenBy_87 (by decide) ?_
  refine go_ialdK (pc := 88) (j := 3) C x3aA_1 (by decide) (by decide) dX3_riddenBy_88 ?_
  refine go_icmp_ge (pc := 89) (tgt := 129) C dX3_riddenBy_89 (by decide) h (fun h => ?_) (fun h => ?_)
  · refine go_iload (pc := 129) C dX3_riddenBy_129 9 rfl ?_
    refine go_iload (pc := 131) C dX3_riddenBy_131 4 rfl ?_
    refine go_icmp_le (pc := 133) (tgt := 141) C dX3_riddenBy_133 (by decide) h (fun h => ?_) (fun h => ?_)
    · refine go_iload_n (pc := 141) C dX3_riddenBy_141 rfl 3 rfl ?_
      refine go_sub [0, 1, 2, 4, 5, 6, 7, 9] rfl ?_
      exact w3_riddenBy_142 hN C hE hK17 h
    · refine go_iload (pc := 136) C dX3_riddenBy_136 8 rfl ?_
      refine go_goto (pc := 138) (tgt := 142) C dX3_riddenBy_138 (by decide) ?_
      refine go_sub [0, 1, 2, 4, 5, 6, 7, 9] rfl ?_
      exact w3_riddenBy_142 hN C hE hK17 h
  · refine go_iload (pc := 92) C dX3_riddenBy_92 9 rfl ?_
    refine go_iload (pc := 94) C dX3_riddenBy_94 8 rfl ?_
    refine go_iload (pc := 96) C dX3_riddenBy_96 10 rfl ?_
    obtain ⟨r5, e5, h⟩ := bnd_some h
    refine go_callSi (pc := 98) C [.int v8, .int v10] (m3_has e5) q1682 q1683 q144 q1684 x3pd_has (by decide) (by decide) rfl (Nat.le_of_ble_eq_true rfl) ⟨Nat.zero_le _, Nat.zero_le _⟩ dX3_riddenBy_98 rfl ?_
    refine go_if_eq (pc := 101) (tgt := 119) C dX3_riddenBy_101 (by decide) h (fun h => ?_) (fun h => ?_)
    · refine go_iconst (pc := 119) (v := (0 : Int32)) C dX3_riddenBy_119 (by decide) ?_
      refine go_iadd (pc := 120) C dX3_riddenBy_120 ?_
      refine go_istore (pc := 121) C hN dX3_riddenBy_121 (by decide) rfl ?_
      refine go_iinc (pc := 123) (v := (v10 + (1 : Int32))) C hN dX3_riddenBy_123 (q := 10) rfl rfl (by decide) rfl ?_
      refine go_goto (pc := 126) (tgt := 81) C dX3_riddenBy_126 (by decide) ?_
      refine go_sub [2, 3, 4, 5, 6, 7, 8, 9, 10, 1, 0] rfl ?_
      exact hK81 ((v9 + (0 : Int32)), (v10 + (1 : Int32))) h
    · refine go_aload_n (pc := 104) C dX3_riddenBy_104 rfl 0 rfl ?_
      refine x3gr_5 (pc := 105) C dX3_riddenBy_105 ?_
      refine go_iload (pc := 108) C dX3_riddenBy_108 10 rfl ?_
      refine go_iald (pc := 110) C x3aA_5 h dX3_riddenBy_110 (fun h => ?_)
      refine go_iload_n (pc := 111) C dX3_riddenBy_111 rfl 1 rfl ?_
      refine go_icmp_ne (pc := 112) (tgt := 119) C dX3_riddenBy_112 (by decide) h (fun h => ?_) (fun h => ?_)
      · refine go_iconst (pc := 119) (v := (0 : Int32)) C dX3_riddenBy_119 (by decide) ?_
        refine go_iadd (pc := 120) C dX3_riddenBy_120 ?_
        refine go_istore (pc := 121) C hN dX3_riddenBy_121 (by decide) rfl ?_
        refine go_iinc (pc := 123) (v := (v10 + (1 : Int32))) C hN dX3_riddenBy_123 (q := 10) rfl rfl (by decide) rfl ?_
        refine go_goto (pc := 126) (tgt := 81) C dX3_riddenBy_126 (by decide) ?_
        refine go_sub [2, 3, 4, 5, 6, 7, 8, 9, 10, 1, 0] rfl ?_
        exact hK81 ((v9 + (0 : Int32)), (v10 + (1 : Int32))) h
      · refine go_iconst (pc := 115) (v := (1 : Int32)) C dX3_riddenBy_115 (by decide) ?_
        refine go_goto (pc := 116) (tgt := 120) C dX3_riddenBy_116 (by decide) ?_
        refine go_iadd (pc := 120) C dX3_riddenBy_120 ?_
        refine go_istore (pc := 121) C hN dX3_riddenBy_121 (by decide) rfl ?_
        refine go_iinc (pc := 123) (v := (v10 + (1 : Int32))) C hN dX3_riddenBy_123 (q := 10) rfl rfl (by decide) rfl ?_
        refine go_goto (pc := 126) (tgt := 81) C dX3_riddenBy_126 (by decide) ?_
        refine go_sub [2, 3, 4, 5, 6, 7, 8, 9, 10, 1, 0] rfl ?_
        exact hK81 ((v9 + (1 : Int32)), (v10 + (1 : Int32))) h
theorem w3_riddenBy_17 {Γ : Gam} {a : Nat → Nat} {s0 : Bl} {v1 : Int32} {v2 : Int32} {v6 : Int32} {r9 : Int32} (hN : Γ.nL = 11) (C : Cx Γ cX3_riddenBy RX3 (2, 0, 0) 49) (hE : Rets Γ cX3_riddenBy (some .int) 0 0 (fun v w => v = some (.int r9) ∧ w = (bW Γ.d 3 FK3 a s0))) : ∀ (n : Nat) (s : Int32 × Int32 × Int32 × Int32), loop (g3_riddenBy_17 s0 v1 v2 v6) n s = some r9 → (fun s : Int32 × Int32 × Int32 × Int32 => Go Γ 0 0 (bW Γ.d 3 FK3 a s0) 17 [(0, .ref (a 0)), (1, .int v1), (2, .int v2), (3, .int s.1), (4, .int s.2.1), (5, .int s.2.2.1), (6, .int v6), (7, .int s.2.2.2)] []) s := by
  refine loop_walk (P := fun s : Int32 × Int32 × Int32 × Int32 => Go Γ 0 0 (bW Γ.d 3 FK3 a s0) 17 [(0, .ref (a 0)), (1, .int v1), (2, .int v2), (3, .int s.1), (4, .int s.2.1), (5, .int s.2.2.1), (6, .int v6), (7, .int s.2.2.2)] []) ?_
  intro K17 hK17 s h
  obtain ⟨v3, v4, v5, v7⟩ := s
  dsimp only [g3_riddenBy_17] at h
  show Go Γ 0 0 (bW Γ.d 3 FK3 a s0) 17 [(0, .ref (a 0)), (1, .int v1), (2, .int v2), (3, .int v3), (4, .int v4), (5, .int v5), (6, .int v6), (7, .int v7)] []
  refine go_iload (pc := 17) C dX3_riddenBy_17 7 rfl ?_
  refine go_aload_n (pc := 19) C dX3_riddenBy_19 rfl 0 rfl ?_
  refine x3gr_1 (pc := 20) C dX3_riddenBy_20 ?_
  refine go_iconst (pc := 23) (v := (3 : Int32)) C dX3_riddenBy_23 (by decide) ?_
  refine go_ialdK (pc := 24) (j := 3) C x3aA_1 (by decide) (by decide) dX3_riddenBy_24 ?_
  refine go_icmp_ge (pc := 25) (tgt := 165) C dX3_riddenBy_25 (by decide) h (fun h => ?_) (fun h => ?_)
  · refine go_iload_n (pc := 165) C dX3_riddenBy_165 rfl 3 rfl ?_
    exact (hE 0 0 _ _ _ (Nat.zero_le _) (Nat.zero_le _)).1 _ rfl dX3_riddenBy_166 ⟨congrArg (fun z => some (Value.int z)) (some1 h), rfl⟩
  · refine go_aload_n (pc := 28) C dX3_riddenBy_28 rfl 0 rfl ?_
    refine x3gr_4 (pc := 29) C dX3_riddenBy_29 ?_
    refine go_iload_n (pc := 32) C dX3_riddenBy_32 rfl 1 rfl ?_
    refine go_iald (pc := 33) C x3aA_4 h dX3_riddenBy_33 (fun h => ?_)
    refine go_if_ne (pc := 34) (tgt := 165) C dX3_riddenBy_34 (by decide) h (fun h => ?_) (fun h => ?_)
    · refine go_iload_n (pc := 165) C dX3_riddenBy_165 rfl 3 rfl ?_
      exact (hE 0 0 _ _ _ (Nat.zero_le _) (Nat.zero_le _)).1 _ rfl dX3_riddenBy_166 ⟨congrArg (fun z => some (Value.int z)) (some1 h), rfl⟩
    · refine go_iload (pc := 37) C dX3_riddenBy_37 6 rfl ?_
      refine go_iload (pc := 39) C dX3_riddenBy_39 7 rfl ?_
      obtain ⟨r2, e2, h⟩ := bnd_some h
      refine go_callSi (pc := 41) C [.int v6, .int v7] (m3_has e2) q1682 q1683 q144 q1684 x3pd_has (by decide) (by decide) rfl (Nat.le_of_ble_eq_true rfl) ⟨Nat.zero_le _, Nat.zero_le _⟩ dX3_riddenBy_41 rfl ?_
      refine go_if_eq (pc := 44) (tgt := 159) C dX3_riddenBy_44 (by decide) h (fun h => ?_) (fun h => ?_)
      · refine go_iinc (pc := 159) (v := (v7 + (1 : Int32))) C hN dX3_riddenBy_159 (q := 7) rfl rfl (by decide) rfl ?_
        refine go_goto (pc := 162) (tgt := 17) C dX3_riddenBy_162 (by decide) ?_
        refine go_sub [1, 2, 3, 4, 5, 6, 7, 0] rfl ?_
        exact hK17 (v3, v4, v5, (v7 + (1 : Int32))) h
      · refine go_iload (pc := 47) C dX3_riddenBy_47 5 rfl ?_
        refine go_iload (pc := 49) C dX3_riddenBy_49 7 rfl ?_
        obtain ⟨r3, e3, h⟩ := bnd_some h
        refine go_callSi (pc := 51) C [.int v5, .int v7] (m3_has e3) q1682 q1683 q144 q1684 x3pd_has (by decide) (by decide) rfl (Nat.le_of_ble_eq_true rfl) ⟨Nat.zero_le _, Nat.zero_le _⟩ dX3_riddenBy_51 rfl ?_
        refine go_if_ne (pc := 54) (tgt := 159) C dX3_riddenBy_54 (by decide) h (fun h => ?_) (fun h => ?_)
        · refine go_iinc (pc := 159) (v := (v7 + (1 : Int32))) C hN dX3_riddenBy_159 (q := 7) rfl rfl (by decide) rfl ?_
          refine go_goto (pc := 162) (tgt := 17) C dX3_riddenBy_162 (by decide) ?_
          refine go_sub [1, 2, 3, 4, 5, 6, 7, 0] rfl ?_
          exact hK17 (v3, v4, v5, (v7 + (1 : Int32))) h
        · refine go_aload_n (pc := 57) C dX3_riddenBy_57 rfl 0 rfl ?_
          refine go_iload (pc := 58) C dX3_riddenBy_58 7 rfl ?_
          refine go_iload (pc := 60) C dX3_riddenBy_60 6 rfl ?_
          refine go_iload_n (pc := 62) C dX3_riddenBy_62 rfl 2 rfl ?_
          obtain ⟨r4, e4, h⟩ := bnd_some h
          refine go_callVi (pc := 63) C [.int v7, .int v6, .int v2] (m3_hangsWith e4) q1685 q1687 qs88 q144 q1688 x3pd_hangsWith (by decide) (by decide) bW_O x3c rfl (Nat.le_of_ble_eq_true rfl) ⟨Nat.zero_le _, Nat.zero_le _⟩ dX3_riddenBy_63 rfl ?_
          refine go_istore (pc := 66) C hN dX3_riddenBy_66 (by decide) rfl ?_
          refine go_iload (pc := 68) C dX3_riddenBy_68 6 rfl ?_
          refine go_iload (pc := 70) C dX3_riddenBy_70 0 rfl ?_
          refine go_ior (pc := 72) C dX3_riddenBy_72 ?_
          refine go_istore (pc := 73) C hN dX3_riddenBy_73 (by decide) rfl ?_
          refine go_iconst (pc := 75) (v := (0 : Int32)) C dX3_riddenBy_75 (by decide) ?_
          refine go_istore (pc := 76) C hN dX3_riddenBy_76 (by decide) rfl ?_
          refine go_iconst (pc := 78) (v := (0 : Int32)) C dX3_riddenBy_78 (by decide) ?_
          refine go_istore (pc := 79) C hN dX3_riddenBy_79 (by decide) rfl ?_
          refine go_sub [4, 5, 6, 7, 8, 2, 9, 10, 3, 1, 0] rfl ?_
          exact w3_riddenBy_81 hN C hE hK17 FU ((0 : Int32), (0 : Int32)) h
theorem m3_riddenBy {l : Launch} {d : gD} {a : Nat → Nat} {s0 : Bl} {v1 : Int32} {v2 : Int32} {r9 : Int32} (h : f3_riddenBy s0 v1 v2 = some r9) : Mt l d yX3_riddenBy cX3_riddenBy 11 (some .int) (2, 0, 0) 49 (bW d 3 FK3 a s0) [.ref (a 0), .int v1, .int v2] (fun v w => v = some (.int r9) ∧ w = (bW d 3 FK3 a s0)) := by
  refine Mt.of x3pn (Nat.le_of_ble_eq_true rfl) ?_
  intro Γ hl hd hN C hE
  subst hl; subst hd
  show Go Γ 0 0 (bW Γ.d 3 FK3 a s0) 0 [(0, .ref (a 0)), (1, .int v1), (2, .int v2)] []
  dsimp only [f3_riddenBy] at h
  refine go_iconst (pc := 0) (v := (0 : Int32)) C dX3_riddenBy_0 (by decide) ?_
  refine go_istore_n (pc := 1) C hN dX3_riddenBy_1 rfl (by decide) rfl ?_
  refine go_iconst (pc := 2) (v := (0 : Int32)) C dX3_riddenBy_2 (by decide) ?_
  refine go_istore (pc := 3) C hN dX3_riddenBy_3 (by decide) rfl ?_
  refine go_iconst (pc := 5) (v := (0 : Int32)) C dX3_riddenBy_5 (by decide) ?_
  refine go_istore (pc := 6) C hN dX3_riddenBy_6 (by decide) rfl ?_
  refine go_aload_n (pc := 8) C dX3_riddenBy_8 rfl 3 rfl ?_
  obtain ⟨r1, e1, h⟩ := bnd_some h
  refine go_callVi (pc := 9) C [] (m3_afloat e1) q1678 q1680 qs87 q144 q1681 x3pd_afloat (by decide) (by decide) bW_O x3c rfl (Nat.le_of_ble_eq_true rfl) ⟨Nat.zero_le _, Nat.zero_le _⟩ dX3_riddenBy_9 rfl ?_
  refine go_istore (pc := 12) C hN dX3_riddenBy_12 (by decide) rfl ?_
  refine go_iconst (pc := 14) (v := (0 : Int32)) C dX3_riddenBy_14 (by decide) ?_
  refine go_istore (pc := 15) C hN dX3_riddenBy_15 (by decide) rfl ?_
  refine go_sub [5, 6, 7, 4, 3, 2, 1, 0] rfl ?_
  exact w3_riddenBy_17 hN C hE FU ((0 : Int32), (0 : Int32), (0 : Int32), (0 : Int32)) h
theorem w3_least_2 {Γ : Gam} {ws : va_W} {v0 : Int32} {r9 : Int32} (hN : Γ.nL = 2) (C : Cx Γ cX3_least RX3 (1, 0, 0) 21) (hE : Rets Γ cX3_least (some .int) 0 0 (fun v w => v = some (.int r9) ∧ w = ws)) : ∀ (n : Nat) (s : Int32), loop (g3_least_2 v0) n s = some r9 → (fun s : Int32 => Go Γ 0 0 ws 2 [(0, .int v0), (1, .int s)] []) s := by
  refine loop_walk (P := fun s : Int32 => Go Γ 0 0 ws 2 [(0, .int v0), (1, .int s)] []) ?_
  intro K2 hK2 s h
  obtain ⟨v1, rfl⟩ : ∃ z, z = s := ⟨_, rfl⟩
  dsimp only [g3_least_2] at h
  show Go Γ 0 0 ws 2 [(0, .int v0), (1, .int v1)] []
  refine go_iload_n (pc := 2) C dX3_least_2 rfl 0 rfl ?_
  refine go_iload_n (pc := 3) C dX3_least_3 rfl 1 rfl ?_
  obtain ⟨r1, e1, h⟩ := bnd_some h
  refine go_callSi (pc := 4) C [.int v0, .int v1] (m3_has e1) q1682 q1683 q144 q1684 x3pd_has (by decide) (by decide) rfl (Nat.le_of_ble_eq_true rfl) ⟨Nat.zero_le _, Nat.zero_le _⟩ dX3_least_4 rfl ?_
  refine go_if_ne (pc := 7) (tgt := 16) C dX3_least_7 (by decide) h (fun h => ?_) (fun h => ?_)
  · refine go_iload_n (pc := 16) C dX3_least_16 rfl 1 rfl ?_
    exact (hE 0 0 _ _ _ (Nat.zero_le _) (Nat.zero_le _)).1 _ rfl dX3_least_17 ⟨congrArg (fun z => some (Value.int z)) (some1 h), rfl⟩
  · refine go_iinc (pc := 10) (v := (v1 + (1 : Int32))) C hN dX3_least_10 (q := 1) rfl rfl (by decide) rfl ?_
    refine go_goto (pc := 13) (tgt := 2) C dX3_least_13 (by decide) ?_
    refine go_sub [1, 0] rfl ?_
    exact hK2 (v1 + (1 : Int32)) h
theorem m3_least {l : Launch} {d : gD} {ws : va_W} {v0 : Int32} {r9 : Int32} (h : f3_least v0 = some r9) : Mt l d yX3_least cX3_least 2 (some .int) (1, 0, 0) 21 ws [.int v0] (fun v w => v = some (.int r9) ∧ w = ws) := by
  refine Mt.of x3pn (Nat.le_of_ble_eq_true rfl) ?_
  intro Γ hl hd hN C hE
  subst hl; subst hd
  show Go Γ 0 0 ws 0 [(0, .int v0)] []
  dsimp only [f3_least] at h
  refine go_iconst (pc := 0) (v := (0 : Int32)) C dX3_least_0 (by decide) ?_
  refine go_istore_n (pc := 1) C hN dX3_least_1 rfl (by decide) rfl ?_
  refine go_sub [1, 0] rfl ?_
  exact w3_least_2 hN C hE FU (0 : Int32) h
theorem m3_owner {l : Launch} {d : gD} {a : Nat → Nat} {s0 : Bl} {v1 : Int32} {v2 : Int32} {r9 : Int32} (h : f3_owner s0 v1 v2 = some r9) : Mt l d yX3_owner cX3_owner 4 (some .int) (3, 0, 0) 79 (bW d 3 FK3 a s0) [.ref (a 0), .int v1, .int v2] (fun v w => v = some (.int r9) ∧ w = (bW d 3 FK3 a s0)) := by
  refine Mt.of x3pn (Nat.le_of_ble_eq_true rfl) ?_
  intro Γ hl hd hN C hE
  subst hl; subst hd
  show Go Γ 0 0 (bW Γ.d 3 FK3 a s0) 0 [(0, .ref (a 0)), (1, .int v1), (2, .int v2)] []
  dsimp only [f3_owner] at h
  refine go_aload_n (pc := 0) C dX3_owner_0 rfl 0 rfl ?_
  refine go_iload_n (pc := 1) C dX3_owner_1 rfl 1 rfl ?_
  obtain ⟨r1, e1, h⟩ := bnd_some h
  refine go_callVi (pc := 2) C [.int v1] (m3_isOwner e1) q1666 q1668 qs84 q144 q1669 x3pd_isOwner (by decide) (by decide) bW_O x3c rfl (Nat.le_of_ble_eq_true rfl) ⟨Nat.zero_le _, Nat.zero_le _⟩ dX3_owner_2 rfl ?_
  refine go_if_ne (pc := 5) (tgt := 10) C dX3_owner_5 (by decide) h (fun h => ?_) (fun h => ?_)
  · refine go_iload_n (pc := 10) C dX3_owner_10 rfl 2 rfl ?_
    by_cases c11_0 : v2 = (0 : Int32)
    · have h := (if_pos c11_0).symm.trans h
      refine go_tableK (pc := 11) (tgt := 40) C c11_0 dX3_owner_11 (by decide) (by decide) rfl (by decide) ?_
      refine go_aload_n (pc := 40) C dX3_owner_40 rfl 0 rfl ?_
      refine x3gr_2 (pc := 41) C dX3_owner_41 ?_
      refine go_iload_n (pc := 44) C dX3_owner_44 rfl 1 rfl ?_
      refine go_iald (pc := 45) C x3aA_2 h dX3_owner_45 (fun h => ?_)
      exact (hE 0 0 _ _ _ (Nat.zero_le _) (Nat.zero_le _)).1 _ rfl dX3_owner_46 ⟨congrArg (fun z => some (Value.int z)) (some1 h), rfl⟩
    have h := (if_neg c11_0).symm.trans h
    by_cases c11_1 : v2 = (1 : Int32)
    · have h := (if_pos c11_1).symm.trans h
      refine go_tableK (pc := 11) (tgt := 47) C c11_1 dX3_owner_11 (by decide) (by decide) rfl (by decide) ?_
      refine go_aload_n (pc := 47) C dX3_owner_47 rfl 0 rfl ?_
      refine x3gr_3 (pc := 48) C dX3_owner_48 ?_
      refine go_iload_n (pc := 51) C dX3_owner_51 rfl 1 rfl ?_
      refine go_iald (pc := 52) C x3aA_3 h dX3_owner_52 (fun h => ?_)
      exact (hE 0 0 _ _ _ (Nat.zero_le _) (Nat.zero_le _)).1 _ rfl dX3_owner_53 ⟨congrArg (fun z => some (Value.int z)) (some1 h), rfl⟩
    have h := (if_neg c11_1).symm.trans h
    by_cases c11_2 : v2 = (2 : Int32)
    · have h := (if_pos c11_2).symm.trans h
      refine go_tableK (pc := 11) (tgt := 54) C c11_2 dX3_owner_11 (by decide) (by decide) rfl (by decide) ?_
      refine go_aload_n (pc := 54) C dX3_owner_54 rfl 0 rfl ?_
      refine x3gr_4 (pc := 55) C dX3_owner_55 ?_
      refine go_iload_n (pc := 58) C dX3_owner_58 rfl 1 rfl ?_
      refine go_iald (pc := 59) C x3aA_4 h dX3_owner_59 (fun h => ?_)
      exact (hE 0 0 _ _ _ (Nat.zero_le _) (Nat.zero_le _)).1 _ rfl dX3_owner_60 ⟨congrArg (fun z => some (Value.int z)) (some1 h), rfl⟩
    have h := (if_neg c11_2).symm.trans h
    by_cases c11_3 : v2 = (3 : Int32)
    · have h := (if_pos c11_3).symm.trans h
      refine go_tableK (pc := 11) (tgt := 61) C c11_3 dX3_owner_11 (by decide) (by decide) rfl (by decide) ?_
      refine go_aload_n (pc := 61) C dX3_owner_61 rfl 0 rfl ?_
      refine go_iload_n (pc := 62) C dX3_owner_62 rfl 1 rfl ?_
      refine go_aload_n (pc := 63) C dX3_owner_63 rfl 0 rfl ?_
      obtain ⟨r6, e6, h⟩ := bnd_some h
      refine go_callVi (pc := 64) C [] (m3_allRopes e6) q1670 q1672 qs85 q144 q1673 x3pd_allRopes (by decide) (by decide) bW_O x3c rfl (Nat.le_of_ble_eq_true rfl) ⟨Nat.zero_le _, Nat.zero_le _⟩ dX3_owner_64 rfl ?_
      obtain ⟨r7, e7, h⟩ := bnd_some h
      refine go_callVi (pc := 67) C [.int v1, .int r6] (m3_riddenBy e7) q1674 q1676 qs86 q144 q1677 x3pd_riddenBy (by decide) (by decide) bW_O x3c rfl (Nat.le_of_ble_eq_true rfl) ⟨Nat.zero_le _, Nat.zero_le _⟩ dX3_owner_67 rfl ?_
      refine go_istore_n (pc := 70) C hN dX3_owner_70 rfl (by decide) rfl ?_
      refine go_iload_n (pc := 71) C dX3_owner_71 rfl 0 rfl ?_
      refine go_if_ne (pc := 72) (tgt := 79) C dX3_owner_72 (by decide) h (fun h => ?_) (fun h => ?_)
      · refine go_iload_n (pc := 79) C dX3_owner_79 rfl 0 rfl ?_
        obtain ⟨r8, e8, h⟩ := bnd_some h
        refine go_callSi (pc := 80) C [.int r7] (m3_least e8) q1689 q1690 q144 q1691 x3pd_least (by decide) (by decide) rfl (Nat.le_of_ble_eq_true rfl) ⟨Nat.zero_le _, Nat.zero_le _⟩ dX3_owner_80 rfl ?_
        exact (hE 0 0 _ _ _ (Nat.zero_le _) (Nat.zero_le _)).1 _ rfl dX3_owner_83 ⟨congrArg (fun z => some (Value.int z)) (some1 h), rfl⟩
      · refine go_iconst (pc := 75) (v := (-1 : Int32)) C dX3_owner_75 (by decide) ?_
        refine go_goto (pc := 76) (tgt := 83) C dX3_owner_76 (by decide) ?_
        exact (hE 0 0 _ _ _ (Nat.zero_le _) (Nat.zero_le _)).1 _ rfl dX3_owner_83 ⟨congrArg (fun z => some (Value.int z)) (some1 h), rfl⟩
    have h := (if_neg c11_3).symm.trans h
    refine go_tableD (pc := 11) (tgt := 84) C [(0 : Int32), (1 : Int32), (2 : Int32), (3 : Int32)] (List.forall_mem_cons.mpr ⟨c11_0, List.forall_mem_cons.mpr ⟨c11_1, List.forall_mem_cons.mpr ⟨c11_2, List.forall_mem_cons.mpr ⟨c11_3, fun _ h9 => absurd h9 List.not_mem_nil⟩⟩⟩⟩) dX3_owner_11 (by decide) (by decide +kernel) (by decide) (by decide) (by decide) ?_
    refine go_iconst (pc := 84) (v := (-1 : Int32)) C dX3_owner_84 (by decide) ?_
    exact (hE 0 0 _ _ _ (Nat.zero_le _) (Nat.zero_le _)).1 _ rfl dX3_owner_85 ⟨congrArg (fun z => some (Value.int z)) (some1 h), rfl⟩
  · refine go_iconst (pc := 8) (v := (-1 : Int32)) C dX3_owner_8 (by decide) ?_
    exact (hE 0 0 _ _ _ (Nat.zero_le _) (Nat.zero_le _)).1 _ rfl dX3_owner_9 ⟨congrArg (fun z => some (Value.int z)) (some1 h), rfl⟩
theorem m3_isThing {l : Launch} {d : gD} {a : Nat → Nat} {s0 : Bl} {v1 : Int32} {r9 : Int32} (h : f3_isThing s0 v1 = some r9) : Mt l d yX3_isThing cX3_isThing 2 (some .boolean) (1, 0, 0) 25 (bW d 3 FK3 a s0) [.ref (a 0), .int v1] (fun v w => v = some (.int r9) ∧ w = (bW d 3 FK3 a s0)) := by
  refine Mt.of x3pn (Nat.le_of_ble_eq_true rfl) ?_
  intro Γ hl hd hN C hE
  subst hl; subst hd
  show Go Γ 0 0 (bW Γ.d 3 FK3 a s0) 0 [(0, .ref (a 0)), (1, .int v1)] []
  dsimp only [f3_isThing] at h
  refine go_iload_n (pc := 0) C dX3_isThing_0 rfl 1 rfl ?_
  refine go_i2l (pc := 1) C dX3_isThing_1 ?_
  refine go_lconst (pc := 2) (v := (0 : Int64)) C dX3_isThing_2 (by decide) ?_
  refine go_aload_n (pc := 3) C dX3_isThing_3 rfl 0 rfl ?_
  refine x3gr_1 (pc := 4) C dX3_isThing_4 ?_
  refine go_iconst (pc := 7) (v := (3 : Int32)) C dX3_isThing_7 (by decide) ?_
  refine go_ialdK (pc := 8) (j := 3) C x3aA_1 (by decide) (by decide) dX3_isThing_8 ?_
  refine go_iconst (pc := 9) (v := (1 : Int32)) C dX3_isThing_9 (by decide) ?_
  refine go_isub (pc := 10) C dX3_isThing_10 ?_
  refine go_i2l (pc := 11) C dX3_isThing_11 ?_
  obtain ⟨r1, e1, h⟩ := bnd_some h
  refine go_callSi (pc := 12) C [.long (v1).toInt64, .long (0 : Int64), .long (((s0.2.1 1 3) - (1 : Int32))).toInt64] (m3_in e1) q1564 q1565 q144 q1566 x3pd_in (by decide) (by decide) rfl (Nat.le_of_ble_eq_true rfl) ⟨Nat.zero_le _, Nat.zero_le _⟩ dX3_isThing_12 rfl ?_
  obtain ⟨hz, h⟩ := chk_some h
  exact (hE 0 0 _ _ _ (Nat.zero_le _) (Nat.zero_le _)).2.1 _ rfl (isB_or hz) dX3_isThing_15 ⟨congrArg (fun z => some (Value.int z)) (some1 h), rfl⟩
theorem m3_pieceOf {l : Launch} {d : gD} {a : Nat → Nat} {s0 : Bl} {v1 : Int32} {r9 : Int32} (h : f3_pieceOf s0 v1 = some r9) : Mt l d yX3_pieceOf cX3_pieceOf 2 (some .int) (2, 0, 0) 49 (bW d 3 FK3 a s0) [.ref (a 0), .int v1] (fun v w => v = some (.int r9) ∧ w = (bW d 3 FK3 a s0)) := by
  refine Mt.of x3pn (Nat.le_of_ble_eq_true rfl) ?_
  intro Γ hl hd hN C hE
  subst hl; subst hd
  show Go Γ 0 0 (bW Γ.d 3 FK3 a s0) 0 [(0, .ref (a 0)), (1, .int v1)] []
  dsimp only [f3_pieceOf] at h
  refine go_aload_n (pc := 0) C dX3_pieceOf_0 rfl 0 rfl ?_
  refine go_iload_n (pc := 1) C dX3_pieceOf_1 rfl 1 rfl ?_
  refine go_aload_n (pc := 2) C dX3_pieceOf_2 rfl 0 rfl ?_
  obtain ⟨r1, e1, h⟩ := bnd_some h
  refine go_callVi (pc := 3) C [] (m3_afloat e1) q1678 q1680 qs87 q144 q1681 x3pd_afloat (by decide) (by decide) bW_O x3c rfl (Nat.le_of_ble_eq_true rfl) ⟨Nat.zero_le _, Nat.zero_le _⟩ dX3_pieceOf_3 rfl ?_
  refine go_aload_n (pc := 6) C dX3_pieceOf_6 rfl 0 rfl ?_
  obtain ⟨r2, e2, h⟩ := bnd_some h
  refine go_callVi (pc := 7) C [] (m3_allRopes e2) q1670 q1672 qs85 q144 q1673 x3pd_allRopes (by decide) (by decide) bW_O x3c rfl (Nat.le_of_ble_eq_true rfl) ⟨Nat.zero_le _, Nat.zero_le _⟩ dX3_pieceOf_7 rfl ?_
  obtain ⟨r3, e3, h⟩ := bnd_some h
  refine go_callVi (pc := 10) C [.int v1, .int r1, .int r2] (m3_hangsWith e3) q1685 q1687 qs88 q144 q1688 x3pd_hangsWith (by decide) (by decide) bW_O x3c rfl (Nat.le_of_ble_eq_true rfl) ⟨Nat.zero_le _, Nat.zero_le _⟩ dX3_pieceOf_10 rfl ?_
  exact (hE 0 0 _ _ _ (Nat.zero_le _) (Nat.zero_le _)).1 _ rfl dX3_pieceOf_13 ⟨congrArg (fun z => some (Value.int z)) (some1 h), rfl⟩
theorem m3_thing {l : Launch} {d : gD} {a : Nat → Nat} {s0 : Bl} {v1 : Int32} {v2 : Int32} {r9 : Int32} (h : f3_thing s0 v1 v2 = some r9) : Mt l d yX3_thing cX3_thing 3 (some .int) (3, 0, 0) 70 (bW d 3 FK3 a s0) [.ref (a 0), .int v1, .int v2] (fun v w => v = some (.int r9) ∧ w = (bW d 3 FK3 a s0)) := by
  refine Mt.of x3pn (Nat.le_of_ble_eq_true rfl) ?_
  intro Γ hl hd hN C hE
  subst hl; subst hd
  show Go Γ 0 0 (bW Γ.d 3 FK3 a s0) 0 [(0, .ref (a 0)), (1, .int v1), (2, .int v2)] []
  dsimp only [f3_thing] at h
  refine go_aload_n (pc := 0) C dX3_thing_0 rfl 0 rfl ?_
  refine go_iload_n (pc := 1) C dX3_thing_1 rfl 1 rfl ?_
  obtain ⟨r1, e1, h⟩ := bnd_some h
  refine go_callVi (pc := 2) C [.int v1] (m3_isThing e1) q1696 q1698 qs89 q144 q1699 x3pd_isThing (by decide) (by decide) bW_O x3c rfl (Nat.le_of_ble_eq_true rfl) ⟨Nat.zero_le _, Nat.zero_le _⟩ dX3_thing_2 rfl ?_
  refine go_if_ne (pc := 5) (tgt := 10) C dX3_thing_5 (by decide) h (fun h => ?_) (fun h => ?_)
  · refine go_iload_n (pc := 10) C dX3_thing_10 rfl 2 rfl ?_
    by_cases c11_0 : v2 = (0 : Int32)
    · have h := (if_pos c11_0).symm.trans h
      refine go_tableK (pc := 11) (tgt := 48) C c11_0 dX3_thing_11 (by decide) (by decide) rfl (by decide) ?_
      refine go_aload_n (pc := 48) C dX3_thing_48 rfl 0 rfl ?_
      refine x3gr_5 (pc := 49) C dX3_thing_49 ?_
      refine go_iload_n (pc := 52) C dX3_thing_52 rfl 1 rfl ?_
      refine go_iald (pc := 53) C x3aA_5 h dX3_thing_53 (fun h => ?_)
      exact (hE 0 0 _ _ _ (Nat.zero_le _) (Nat.zero_le _)).1 _ rfl dX3_thing_54 ⟨congrArg (fun z => some (Value.int z)) (some1 h), rfl⟩
    have h := (if_neg c11_0).symm.trans h
    by_cases c11_1 : v2 = (1 : Int32)
    · have h := (if_pos c11_1).symm.trans h
      refine go_tableK (pc := 11) (tgt := 55) C c11_1 dX3_thing_11 (by decide) (by decide) rfl (by decide) ?_
      refine go_aload_n (pc := 55) C dX3_thing_55 rfl 0 rfl ?_
      refine x3gr_6 (pc := 56) C dX3_thing_56 ?_
      refine go_iload_n (pc := 59) C dX3_thing_59 rfl 1 rfl ?_
      refine go_iald (pc := 60) C x3aA_6 h dX3_thing_60 (fun h => ?_)
      exact (hE 0 0 _ _ _ (Nat.zero_le _) (Nat.zero_le _)).1 _ rfl dX3_thing_61 ⟨congrArg (fun z => some (Value.int z)) (some1 h), rfl⟩
    have h := (if_neg c11_1).symm.trans h
    by_cases c11_2 : v2 = (2 : Int32)
    · have h := (if_pos c11_2).symm.trans h
      refine go_tableK (pc := 11) (tgt := 62) C c11_2 dX3_thing_11 (by decide) (by decide) rfl (by decide) ?_
      refine go_aload_n (pc := 62) C dX3_thing_62 rfl 0 rfl ?_
      refine x3gr_7 (pc := 63) C dX3_thing_63 ?_
      refine go_iload_n (pc := 66) C dX3_thing_66 rfl 1 rfl ?_
      refine go_iald (pc := 67) C x3aA_7 h dX3_thing_67 (fun h => ?_)
      exact (hE 0 0 _ _ _ (Nat.zero_le _) (Nat.zero_le _)).1 _ rfl dX3_thing_68 ⟨congrArg (fun z => some (Value.int z)) (some1 h), rfl⟩
    have h := (if_neg c11_2).symm.trans h
    by_cases c11_3 : v2 = (3 : Int32)
    · have h := (if_pos c11_3).symm.trans h
      refine go_tableK (pc := 11) (tgt := 69) C c11_3 dX3_thing_11 (by decide) (by decide) rfl (by decide) ?_
      refine go_aload_n (pc := 69) C dX3_thing_69 rfl 0 rfl ?_
      refine x3gr_8 (pc := 70) C dX3_thing_70 ?_
      refine go_iload_n (pc := 73) C dX3_thing_73 rfl 1 rfl ?_
      refine go_iald (pc := 74) C x3aA_8 h dX3_thing_74 (fun h => ?_)
      exact (hE 0 0 _ _ _ (Nat.zero_le _) (Nat.zero_le _)).1 _ rfl dX3_thing_75 ⟨congrArg (fun z => some (Value.int z)) (some1 h), rfl⟩
    have h := (if_neg c11_3).symm.trans h
    by_cases c11_4 : v2 = (4 : Int32)
    · have h := (if_pos c11_4).symm.trans h
      refine go_tableK (pc := 11) (tgt := 76) C c11_4 dX3_thing_11 (by decide) (by decide) rfl (by decide) ?_
      refine go_aload_n (pc := 76) C dX3_thing_76 rfl 0 rfl ?_
      refine x3gr_9 (pc := 77) C dX3_thing_77 ?_
      refine go_iload_n (pc := 80) C dX3_thing_80 rfl 1 rfl ?_
      refine go_iald (pc := 81) C x3aA_9 h dX3_thing_81 (fun h => ?_)
      exact (hE 0 0 _ _ _ (Nat.zero_le _) (Nat.zero_le _)).1 _ rfl dX3_thing_82 ⟨congrArg (fun z => some (Value.int z)) (some1 h), rfl⟩
    have h := (if_neg c11_4).symm.trans h
    by_cases c11_5 : v2 = (5 : Int32)
    · have h := (if_pos c11_5).symm.trans h
      refine go_tableK (pc := 11) (tgt := 83) C c11_5 dX3_thing_11 (by decide) (by decide) rfl (by decide) ?_
      refine go_aload_n (pc := 83) C dX3_thing_83 rfl 0 rfl ?_
      refine x3gr_9 (pc := 84) C dX3_thing_84 ?_
      refine go_iload_n (pc := 87) C dX3_thing_87 rfl 1 rfl ?_
      refine go_iald (pc := 88) C x3aA_9 h dX3_thing_88 (fun h => ?_)
      refine go_if_ne (pc := 89) (tgt := 100) C dX3_thing_89 (by decide) h (fun h => ?_) (fun h => ?_)
      · refine go_iconst (pc := 100) (v := (0 : Int32)) C dX3_thing_100 (by decide) ?_
        exact (hE 0 0 _ _ _ (Nat.zero_le _) (Nat.zero_le _)).1 _ rfl dX3_thing_101 ⟨congrArg (fun z => some (Value.int z)) (some1 h), rfl⟩
      · refine go_aload_n (pc := 92) C dX3_thing_92 rfl 0 rfl ?_
        refine go_iload_n (pc := 93) C dX3_thing_93 rfl 1 rfl ?_
        obtain ⟨r8, e8, h⟩ := bnd_some h
        refine go_callVi (pc := 94) C [.int v1] (m3_pieceOf e8) q1700 q1702 qs90 q144 q1703 x3pd_pieceOf (by decide) (by decide) bW_O x3c rfl (Nat.le_of_ble_eq_true rfl) ⟨Nat.zero_le _, Nat.zero_le _⟩ dX3_thing_94 rfl ?_
        refine go_goto (pc := 97) (tgt := 101) C dX3_thing_97 (by decide) ?_
        exact (hE 0 0 _ _ _ (Nat.zero_le _) (Nat.zero_le _)).1 _ rfl dX3_thing_101 ⟨congrArg (fun z => some (Value.int z)) (some1 h), rfl⟩
    have h := (if_neg c11_5).symm.trans h
    refine go_tableD (pc := 11) (tgt := 102) C [(0 : Int32), (1 : Int32), (2 : Int32), (3 : Int32), (4 : Int32), (5 : Int32)] (List.forall_mem_cons.mpr ⟨c11_0, List.forall_mem_cons.mpr ⟨c11_1, List.forall_mem_cons.mpr ⟨c11_2, List.forall_mem_cons.mpr ⟨c11_3, List.forall_mem_cons.mpr ⟨c11_4, List.forall_mem_cons.mpr ⟨c11_5, fun _ h9 => absurd h9 List.not_mem_nil⟩⟩⟩⟩⟩⟩) dX3_thing_11 (by decide) (by decide +kernel) (by decide) (by decide) (by decide) ?_
    refine go_iconst (pc := 102) (v := (-1 : Int32)) C dX3_thing_102 (by decide) ?_
    exact (hE 0 0 _ _ _ (Nat.zero_le _) (Nat.zero_le _)).1 _ rfl dX3_thing_103 ⟨congrArg (fun z => some (Value.int z)) (some1 h), rfl⟩
  · refine go_iconst (pc := 8) (v := (-1 : Int32)) C dX3_thing_8 (by decide) ?_
    exact (hE 0 0 _ _ _ (Nat.zero_le _) (Nat.zero_le _)).1 _ rfl dX3_thing_9 ⟨congrArg (fun z => some (Value.int z)) (some1 h), rfl⟩
theorem m3_isRope {l : Launch} {d : gD} {a : Nat → Nat} {s0 : Bl} {v1 : Int32} {r9 : Int32} (h : f3_isRope s0 v1 = some r9) : Mt l d yX3_isRope cX3_isRope 2 (some .boolean) (1, 0, 0) 25 (bW d 3 FK3 a s0) [.ref (a 0), .int v1] (fun v w => v = some (.int r9) ∧ w = (bW d 3 FK3 a s0)) := by
  refine Mt.of x3pn (Nat.le_of_ble_eq_true rfl) ?_
  intro Γ hl hd hN C hE
  subst hl; subst hd
  show Go Γ 0 0 (bW Γ.d 3 FK3 a s0) 0 [(0, .ref (a 0)), (1, .int v1)] []
  dsimp only [f3_isRope] at h
  refine go_iload_n (pc := 0) C dX3_isRope_0 rfl 1 rfl ?_
  refine go_i2l (pc := 1) C dX3_isRope_1 ?_
  refine go_lconst (pc := 2) (v := (0 : Int64)) C dX3_isRope_2 (by decide) ?_
  refine go_aload_n (pc := 3) C dX3_isRope_3 rfl 0 rfl ?_
  refine x3gr_1 (pc := 4) C dX3_isRope_4 ?_
  refine go_iconst (pc := 7) (v := (4 : Int32)) C dX3_isRope_7 (by decide) ?_
  refine go_ialdK (pc := 8) (j := 4) C x3aA_1 (by decide) (by decide) dX3_isRope_8 ?_
  refine go_iconst (pc := 9) (v := (1 : Int32)) C dX3_isRope_9 (by decide) ?_
  refine go_isub (pc := 10) C dX3_isRope_10 ?_
  refine go_i2l (pc := 11) C dX3_isRope_11 ?_
  obtain ⟨r1, e1, h⟩ := bnd_some h
  refine go_callSi (pc := 12) C [.long (v1).toInt64, .long (0 : Int64), .long (((s0.2.1 1 4) - (1 : Int32))).toInt64] (m3_in e1) q1564 q1565 q144 q1566 x3pd_in (by decide) (by decide) rfl (Nat.le_of_ble_eq_true rfl) ⟨Nat.zero_le _, Nat.zero_le _⟩ dX3_isRope_12 rfl ?_
  obtain ⟨hz, h⟩ := chk_some h
  exact (hE 0 0 _ _ _ (Nat.zero_le _) (Nat.zero_le _)).2.1 _ rfl (isB_or hz) dX3_isRope_15 ⟨congrArg (fun z => some (Value.int z)) (some1 h), rfl⟩
theorem m3_rope {l : Launch} {d : gD} {a : Nat → Nat} {s0 : Bl} {v1 : Int32} {v2 : Int32} {r9 : Int32} (h : f3_rope s0 v1 v2 = some r9) : Mt l d yX3_rope cX3_rope 3 (some .int) (2, 0, 0) 46 (bW d 3 FK3 a s0) [.ref (a 0), .int v1, .int v2] (fun v w => v = some (.int r9) ∧ w = (bW d 3 FK3 a s0)) := by
  refine Mt.of x3pn (Nat.le_of_ble_eq_true rfl) ?_
  intro Γ hl hd hN C hE
  subst hl; subst hd
  show Go Γ 0 0 (bW Γ.d 3 FK3 a s0) 0 [(0, .ref (a 0)), (1, .int v1), (2, .int v2)] []
  dsimp only [f3_rope] at h
  refine go_aload_n (pc := 0) C dX3_rope_0 rfl 0 rfl ?_
  refine go_iload_n (pc := 1) C dX3_rope_1 rfl 1 rfl ?_
  obtain ⟨r1, e1, h⟩ := bnd_some h
  refine go_callVi (pc := 2) C [.int v1] (m3_isRope e1) q1708 q1710 qs91 q144 q1711 x3pd_isRope (by decide) (by decide) bW_O x3c rfl (Nat.le_of_ble_eq_true rfl) ⟨Nat.zero_le _, Nat.zero_le _⟩ dX3_rope_2 rfl ?_
  refine go_if_ne (pc := 5) (tgt := 10) C dX3_rope_5 (by decide) h (fun h => ?_) (fun h => ?_)
  · refine go_iload_n (pc := 10) C dX3_rope_10 rfl 2 rfl ?_
    by_cases c11_0 : v2 = (0 : Int32)
    · have h := (if_pos c11_0).symm.trans h
      refine go_tableK (pc := 11) (tgt := 36) C c11_0 dX3_rope_11 (by decide) (by decide) rfl (by decide) ?_
      refine go_aload_n (pc := 36) C dX3_rope_36 rfl 0 rfl ?_
      refine x3gr_11 (pc := 37) C dX3_rope_37 ?_
      refine go_iload_n (pc := 40) C dX3_rope_40 rfl 1 rfl ?_
      refine go_iald (pc := 41) C x3aA_11 h dX3_rope_41 (fun h => ?_)
      exact (hE 0 0 _ _ _ (Nat.zero_le _) (Nat.zero_le _)).1 _ rfl dX3_rope_42 ⟨congrArg (fun z => some (Value.int z)) (some1 h), rfl⟩
    have h := (if_neg c11_0).symm.trans h
    by_cases c11_1 : v2 = (1 : Int32)
    · have h := (if_pos c11_1).symm.trans h
      refine go_tableK (pc := 11) (tgt := 43) C c11_1 dX3_rope_11 (by decide) (by decide) rfl (by decide) ?_
      refine go_aload_n (pc := 43) C dX3_rope_43 rfl 0 rfl ?_
      refine x3gr_12 (pc := 44) C dX3_rope_44 ?_
      refine go_iload_n (pc := 47) C dX3_rope_47 rfl 1 rfl ?_
      refine go_iald (pc := 48) C x3aA_12 h dX3_rope_48 (fun h => ?_)
      exact (hE 0 0 _ _ _ (Nat.zero_le _) (Nat.zero_le _)).1 _ rfl dX3_rope_49 ⟨congrArg (fun z => some (Value.int z)) (some1 h), rfl⟩
    have h := (if_neg c11_1).symm.trans h
    by_cases c11_2 : v2 = (2 : Int32)
    · have h := (if_pos c11_2).symm.trans h
      refine go_tableK (pc := 11) (tgt := 50) C c11_2 dX3_rope_11 (by decide) (by decide) rfl (by decide) ?_
      refine go_aload_n (pc := 50) C dX3_rope_50 rfl 0 rfl ?_
      refine x3gr_13 (pc := 51) C dX3_rope_51 ?_
      refine go_iload_n (pc := 54) C dX3_rope_54 rfl 1 rfl ?_
      refine go_iald (pc := 55) C x3aA_13 h dX3_rope_55 (fun h => ?_)
      exact (hE 0 0 _ _ _ (Nat.zero_le _) (Nat.zero_le _)).1 _ rfl dX3_rope_56 ⟨congrArg (fun z => some (Value.int z)) (some1 h), rfl⟩
    have h := (if_neg c11_2).symm.trans h
    refine go_tableD (pc := 11) (tgt := 57) C [(0 : Int32), (1 : Int32), (2 : Int32)] (List.forall_mem_cons.mpr ⟨c11_0, List.forall_mem_cons.mpr ⟨c11_1, List.forall_mem_cons.mpr ⟨c11_2, fun _ h9 => absurd h9 List.not_mem_nil⟩⟩⟩) dX3_rope_11 (by decide) (by decide +kernel) (by decide) (by decide) (by decide) ?_
    refine go_iconst (pc := 57) (v := (-1 : Int32)) C dX3_rope_57 (by decide) ?_
    exact (hE 0 0 _ _ _ (Nat.zero_le _) (Nat.zero_le _)).1 _ rfl dX3_rope_58 ⟨congrArg (fun z => some (Value.int z)) (some1 h), rfl⟩
  · refine go_iconst (pc := 8) (v := (-1 : Int32)) C dX3_rope_8 (by decide) ?_
    exact (hE 0 0 _ _ _ (Nat.zero_le _) (Nat.zero_le _)).1 _ rfl dX3_rope_9 ⟨congrArg (fun z => some (Value.int z)) (some1 h), rfl⟩
theorem m3_isRiver {l : Launch} {d : gD} {a : Nat → Nat} {s0 : Bl} {r9 : Int32} (h : f3_isRiver s0 = some r9) : Mt l d yX3_isRiver cX3_isRiver 1 (some .boolean) (0, 0, 0) 0 (bW d 3 FK3 a s0) [.ref (a 0)] (fun v w => v = some (.int r9) ∧ w = (bW d 3 FK3 a s0)) := by
  refine Mt.of x3pn (Nat.le_of_ble_eq_true rfl) ?_
  intro Γ hl hd hN C hE
  subst hl; subst hd
  show Go Γ 0 0 (bW Γ.d 3 FK3 a s0) 0 [(0, .ref (a 0))] []
  dsimp only [f3_isRiver] at h
  refine go_aload_n (pc := 0) C dX3_isRiver_0 rfl 0 rfl ?_
  refine x3gr_1 (pc := 1) C dX3_isRiver_1 ?_
  refine go_iconst (pc := 4) (v := (0 : Int32)) C dX3_isRiver_4 (by decide) ?_
  refine go_ialdK (pc := 5) (j := 0) C x3aA_1 (by decide) (by decide) dX3_isRiver_5 ?_
  refine go_if_le (pc := 6) (tgt := 13) C dX3_isRiver_6 (by decide) h (fun h => ?_) (fun h => ?_)
  · refine go_iconst (pc := 13) (v := (0 : Int32)) C dX3_isRiver_13 (by decide) ?_
    exact (hE 0 0 _ _ _ (Nat.zero_le _) (Nat.zero_le _)).2.1 _ rfl (Or.inl rfl) dX3_isRiver_14 ⟨congrArg (fun z => some (Value.int z)) (some1 h), rfl⟩
  · refine go_iconst (pc := 9) (v := (1 : Int32)) C dX3_isRiver_9 (by decide) ?_
    refine go_goto (pc := 10) (tgt := 14) C dX3_isRiver_10 (by decide) ?_
    exact (hE 0 0 _ _ _ (Nat.zero_le _) (Nat.zero_le _)).2.1 _ rfl (Or.inr rfl) dX3_isRiver_14 ⟨congrArg (fun z => some (Value.int z)) (some1 h), rfl⟩
theorem w3_forceAt_2 {Γ : Gam} {a : Nat → Nat} {s0 : Bl} {v1 : Int32} {r9 : Int32} (hN : Γ.nL = 3) (C : Cx Γ cX3_forceAt RX3 (0, 0, 0) 0) (hE : Rets Γ cX3_forceAt (some .int) 0 0 (fun v w => v = some (.int r9) ∧ w = (bW Γ.d 3 FK3 a s0))) : ∀ (n : Nat) (s : Int32), loop (g3_forceAt_2 s0 v1) n s = some r9 → (fun s : Int32 => Go Γ 0 0 (bW Γ.d 3 FK3 a s0) 2 [(0, .ref (a 0)), (1, .int v1), (2, .int s)] []) s := by
  refine loop_walk (P := fun s : Int32 => Go Γ 0 0 (bW Γ.d 3 FK3 a s0) 2 [(0, .ref (a 0)), (1, .int v1), (2, .int s)] []) ?_
  intro K2 hK2 s h
  obtain ⟨v2, rfl⟩ : ∃ z, z = s := ⟨_, rfl⟩
  dsimp only [g3_forceAt_2] at h
  show Go Γ 0 0 (bW Γ.d 3 FK3 a s0) 2 [(0, .ref (a 0)), (1, .int v1), (2, .int v2)] []
  refine go_iload_n (pc := 2) C dX3_forceAt_2 rfl 2 rfl ?_
  refine go_aload_n (pc := 3) C dX3_forceAt_3 rfl 0 rfl ?_
  refine x3gr_1 (pc := 4) C dX3_forceAt_4 ?_
  refine go_iconst (pc := 7) (v := (5 : Int32)) C dX3_forceAt_7 (by decide) ?_
  refine go_ialdK (pc := 8) (j := 5) C x3aA_1 (by decide) (by decide) dX3_forceAt_8 ?_
  refine go_icmp_ge (pc := 9) (tgt := 35) C dX3_forceAt_9 (by decide) h (fun h => ?_) (fun h => ?_)
  · refine go_iconst (pc := 35) (v := (0 : Int32)) C dX3_forceAt_35 (by decide) ?_
    exact (hE 0 0 _ _ _ (Nat.zero_le _) (Nat.zero_le _)).1 _ rfl dX3_forceAt_36 ⟨congrArg (fun z => some (Value.int z)) (some1 h), rfl⟩
  · refine go_aload_n (pc := 12) C dX3_forceAt_12 rfl 0 rfl ?_
    refine x3gr_14 (pc := 13) C dX3_forceAt_13 ?_
    refine go_iload_n (pc := 16) C dX3_forceAt_16 rfl 2 rfl ?_
    refine go_iald (pc := 17) C x3aA_14 h dX3_forceAt_17 (fun h => ?_)
    refine go_iload_n (pc := 18) C dX3_forceAt_18 rfl 1 rfl ?_
    refine go_icmp_ne (pc := 19) (tgt := 29) C dX3_forceAt_19 (by decide) h (fun h => ?_) (fun h => ?_)
    · refine go_iinc (pc := 29) (v := (v2 + (1 : Int32))) C hN dX3_forceAt_29 (q := 2) rfl rfl (by decide) rfl ?_
      refine go_goto (pc := 32) (tgt := 2) C dX3_forceAt_32 (by decide) ?_
      refine go_sub [1, 2, 0] rfl ?_
      exact hK2 (v2 + (1 : Int32)) h
    · refine go_aload_n (pc := 22) C dX3_forceAt_22 rfl 0 rfl ?_
      refine x3gr_15 (pc := 23) C dX3_forceAt_23 ?_
      refine go_iload_n (pc := 26) C dX3_forceAt_26 rfl 2 rfl ?_
      refine go_iald (pc := 27) C x3aA_15 h dX3_forceAt_27 (fun h => ?_)
      exact (hE 0 0 _ _ _ (Nat.zero_le _) (Nat.zero_le _)).1 _ rfl dX3_forceAt_28 ⟨congrArg (fun z => some (Value.int z)) (some1 h), rfl⟩
theorem m3_forceAt {l : Launch} {d : gD} {a : Nat → Nat} {s0 : Bl} {v1 : Int32} {r9 : Int32} (h : f3_forceAt s0 v1 = some r9) : Mt l d yX3_forceAt cX3_forceAt 3 (some .int) (0, 0, 0) 0 (bW d 3 FK3 a s0) [.ref (a 0), .int v1] (fun v w => v = some (.int r9) ∧ w = (bW d 3 FK3 a s0)) := by
  refine Mt.of x3pn (Nat.le_of_ble_eq_true rfl) ?_
  intro Γ hl hd hN C hE
  subst hl; subst hd
  show Go Γ 0 0 (bW Γ.d 3 FK3 a s0) 0 [(0, .ref (a 0)), (1, .int v1)] []
  dsimp only [f3_forceAt] at h
  refine go_iconst (pc := 0) (v := (0 : Int32)) C dX3_forceAt_0 (by decide) ?_
  refine go_istore_n (pc := 1) C hN dX3_forceAt_1 rfl (by decide) rfl ?_
  refine go_sub [1, 2, 0] rfl ?_
  exact w3_forceAt_2 hN C hE FU (0 : Int32) h
theorem m3_rapid {l : Launch} {d : gD} {a : Nat → Nat} {s0 : Bl} {v1 : Int32} {r9 : Int32} (h : f3_rapid s0 v1 = some r9) : Mt l d yX3_rapid cX3_rapid 2 (some .int) (1, 0, 0) 25 (bW d 3 FK3 a s0) [.ref (a 0), .int v1] (fun v w => v = some (.int r9) ∧ w = (bW d 3 FK3 a s0)) := by
  refine Mt.of x3pn (Nat.le_of_ble_eq_true rfl) ?_
  intro Γ hl hd hN C hE
  subst hl; subst hd
  show Go Γ 0 0 (bW Γ.d 3 FK3 a s0) 0 [(0, .ref (a 0)), (1, .int v1)] []
  dsimp only [f3_rapid] at h
  refine go_aload_n (pc := 0) C dX3_rapid_0 rfl 0 rfl ?_
  obtain ⟨r1, e1, h⟩ := bnd_some h
  refine go_callVi (pc := 1) C [] (m3_isRiver e1) q1716 q1718 qs92 q144 q1719 x3pd_isRiver (by decide) (by decide) bW_O x3c rfl (Nat.le_of_ble_eq_true rfl) ⟨Nat.zero_le _, Nat.zero_le _⟩ dX3_rapid_1 rfl ?_
  refine go_if_eq (pc := 4) (tgt := 31) C dX3_rapid_4 (by decide) h (fun h => ?_) (fun h => ?_)
  · refine go_iconst (pc := 31) (v := (-1 : Int32)) C dX3_rapid_31 (by decide) ?_
    exact (hE 0 0 _ _ _ (Nat.zero_le _) (Nat.zero_le _)).1 _ rfl dX3_rapid_32 ⟨congrArg (fun z => some (Value.int z)) (some1 h), rfl⟩
  · refine go_iload_n (pc := 7) C dX3_rapid_7 rfl 1 rfl ?_
    refine go_i2l (pc := 8) C dX3_rapid_8 ?_
    refine go_lconst (pc := 9) (v := (0 : Int64)) C dX3_rapid_9 (by decide) ?_
    refine go_aload_n (pc := 10) C dX3_rapid_10 rfl 0 rfl ?_
    refine x3gr_1 (pc := 11) C dX3_rapid_11 ?_
    refine go_iconst (pc := 14) (v := (0 : Int32)) C dX3_rapid_14 (by decide) ?_
    refine go_ialdK (pc := 15) (j := 0) C x3aA_1 (by decide) (by decide) dX3_rapid_15 ?_
    refine go_i2l (pc := 16) C dX3_rapid_16 ?_
    obtain ⟨r2, e2, h⟩ := bnd_some h
    refine go_callSi (pc := 17) C [.long (v1).toInt64, .long (0 : Int64), .long ((s0.2.1 1 0)).toInt64] (m3_in e2) q1564 q1565 q144 q1566 x3pd_in (by decide) (by decide) rfl (Nat.le_of_ble_eq_true rfl) ⟨Nat.zero_le _, Nat.zero_le _⟩ dX3_rapid_17 rfl ?_
    refine go_if_eq (pc := 20) (tgt := 31) C dX3_rapid_20 (by decide) h (fun h => ?_) (fun h => ?_)
    · refine go_iconst (pc := 31) (v := (-1 : Int32)) C dX3_rapid_31 (by decide) ?_
      exact (hE 0 0 _ _ _ (Nat.zero_le _) (Nat.zero_le _)).1 _ rfl dX3_rapid_32 ⟨congrArg (fun z => some (Value.int z)) (some1 h), rfl⟩
    · refine go_aload_n (pc := 23) C dX3_rapid_23 rfl 0 rfl ?_
      refine go_iload_n (pc := 24) C dX3_rapid_24 rfl 1 rfl ?_
      obtain ⟨r3, e3, h⟩ := bnd_some h
      refine go_callVi (pc := 25) C [.int v1] (m3_forceAt e3) q1720 q1722 qs93 q144 q1723 x3pd_forceAt (by decide) (by decide) bW_O x3c rfl (Nat.le_of_ble_eq_true rfl) ⟨Nat.zero_le _, Nat.zero_le _⟩ dX3_rapid_25 rfl ?_
      refine go_goto (pc := 28) (tgt := 32) C dX3_rapid_28 (by decide) ?_
      exact (hE 0 0 _ _ _ (Nat.zero_le _) (Nat.zero_le _)).1 _ rfl dX3_rapid_32 ⟨congrArg (fun z => some (Value.int z)) (some1 h), rfl⟩
theorem m3_isAfloat {l : Launch} {d : gD} {a : Nat → Nat} {s0 : Bl} {v1 : Int32} {r9 : Int32} (h : f3_isAfloat s0 v1 = some r9) : Mt l d yX3_isAfloat cX3_isAfloat 2 (some .boolean) (2, 0, 0) 46 (bW d 3 FK3 a s0) [.ref (a 0), .int v1] (fun v w => v = some (.int r9) ∧ w = (bW d 3 FK3 a s0)) := by
  refine Mt.of x3pn (Nat.le_of_ble_eq_true rfl) ?_
  intro Γ hl hd hN C hE
  subst hl; subst hd
  show Go Γ 0 0 (bW Γ.d 3 FK3 a s0) 0 [(0, .ref (a 0)), (1, .int v1)] []
  dsimp only [f3_isAfloat] at h
  refine go_aload_n (pc := 0) C dX3_isAfloat_0 rfl 0 rfl ?_
  refine go_iload_n (pc := 1) C dX3_isAfloat_1 rfl 1 rfl ?_
  obtain ⟨r1, e1, h⟩ := bnd_some h
  refine go_callVi (pc := 2) C [.int v1] (m3_isThing e1) q1696 q1698 qs89 q144 q1699 x3pd_isThing (by decide) (by decide) bW_O x3c rfl (Nat.le_of_ble_eq_true rfl) ⟨Nat.zero_le _, Nat.zero_le _⟩ dX3_isAfloat_2 rfl ?_
  refine go_if_eq (pc := 5) (tgt := 21) C dX3_isAfloat_5 (by decide) h (fun h => ?_) (fun h => ?_)
  · refine go_iconst (pc := 21) (v := (0 : Int32)) C dX3_isAfloat_21 (by decide) ?_
    exact (hE 0 0 _ _ _ (Nat.zero_le _) (Nat.zero_le _)).2.1 _ rfl (Or.inl rfl) dX3_isAfloat_22 ⟨congrArg (fun z => some (Value.int z)) (some1 h), rfl⟩
  · refine go_aload_n (pc := 8) C dX3_isAfloat_8 rfl 0 rfl ?_
    refine x3gr_9 (pc := 9) C dX3_isAfloat_9 ?_
    refine go_iload_n (pc := 12) C dX3_isAfloat_12 rfl 1 rfl ?_
    refine go_iald (pc := 13) C x3aA_9 h dX3_isAfloat_13 (fun h => ?_)
    refine go_if_ne (pc := 14) (tgt := 21) C dX3_isAfloat_14 (by decide) h (fun h => ?_) (fun h => ?_)
    · refine go_iconst (pc := 21) (v := (0 : Int32)) C dX3_isAfloat_21 (by decide) ?_
      exact (hE 0 0 _ _ _ (Nat.zero_le _) (Nat.zero_le _)).2.1 _ rfl (Or.inl rfl) dX3_isAfloat_22 ⟨congrArg (fun z => some (Value.int z)) (some1 h), rfl⟩
    · refine go_iconst (pc := 17) (v := (1 : Int32)) C dX3_isAfloat_17 (by decide) ?_
      refine go_goto (pc := 18) (tgt := 22) C dX3_isAfloat_18 (by decide) ?_
      exact (hE 0 0 _ _ _ (Nat.zero_le _) (Nat.zero_le _)).2.1 _ rfl (Or.inr rfl) dX3_isAfloat_22 ⟨congrArg (fun z => some (Value.int z)) (some1 h), rfl⟩
theorem w3_floatOf_4 {Γ : Gam} {a : Nat → Nat} {s0 : Bl} {v1 : Int32} {r9 : Int32} (hN : Γ.nL = 4) (C : Cx Γ cX3_floatOf RX3 (1, 0, 0) 21) (hE : Rets Γ cX3_floatOf (some .int) 0 0 (fun v w => v = some (.int r9) ∧ w = (bW Γ.d 3 FK3 a s0))) : ∀ (n : Nat) (s : Int32 × Int32), loop (g3_floatOf_4 s0 v1) n s = some r9 → (fun s : Int32 × Int32 => Go Γ 0 0 (bW Γ.d 3 FK3 a s0) 4 [(0, .ref (a 0)), (1, .int v1), (2, .int s.1), (3, .int s.2)] []) s := by
  refine loop_walk (P := fun s : Int32 × Int32 => Go Γ 0 0 (bW Γ.d 3 FK3 a s0) 4 [(0, .ref (a 0)), (1, .int v1), (2, .int s.1), (3, .int s.2)] []) ?_
  intro K4 hK4 s h
  obtain ⟨v2, v3⟩ := s
  dsimp only [g3_floatOf_4] at h
  show Go Γ 0 0 (bW Γ.d 3 FK3 a s0) 4 [(0, .ref (a 0)), (1, .int v1), (2, .int v2), (3, .int v3)] []
  refine go_iload_n (pc := 4) C dX3_floatOf_4 rfl 3 rfl ?_
  refine go_aload_n (pc := 5) C dX3_floatOf_5 rfl 0 rfl ?_
  refine x3gr_1 (pc := 6) C dX3_floatOf_6 ?_
  refine go_iconst (pc := 9) (v := (3 : Int32)) C dX3_floatOf_9 (by decide) ?_
  refine go_ialdK (pc := 10) (j := 3) C x3aA_1 (by decide) (by decide) dX3_floatOf_10 ?_
  refine go_icmp_ge (pc := 11) (tgt := 41) C dX3_floatOf_11 (by decide) h (fun h => ?_) (fun h => ?_)
  · refine go_iload_n (pc := 41) C dX3_floatOf_41 rfl 2 rfl ?_
    exact (hE 0 0 _ _ _ (Nat.zero_le _) (Nat.zero_le _)).1 _ rfl dX3_floatOf_42 ⟨congrArg (fun z => some (Value.int z)) (some1 h), rfl⟩
  · refine go_iload_n (pc := 14) C dX3_floatOf_14 rfl 2 rfl ?_
    refine go_iload_n (pc := 15) C dX3_floatOf_15 rfl 1 rfl ?_
    refine go_iload_n (pc := 16) C dX3_floatOf_16 rfl 3 rfl ?_
    obtain ⟨r1, e1, h⟩ := bnd_some h
    refine go_callSi (pc := 17) C [.int v1, .int v3] (m3_has e1) q1682 q1683 q144 q1684 x3pd_has (by decide) (by decide) rfl (Nat.le_of_ble_eq_true rfl) ⟨Nat.zero_le _, Nat.zero_le _⟩ dX3_floatOf_17 rfl ?_
    refine go_if_eq (pc := 20) (tgt := 32) C dX3_floatOf_20 (by decide) h (fun h => ?_) (fun h => ?_)
    · refine go_iconst (pc := 32) (v := (0 : Int32)) C dX3_floatOf_32 (by decide) ?_
      refine go_iadd (pc := 33) C dX3_floatOf_33 ?_
      refine go_istore_n (pc := 34) C hN dX3_floatOf_34 rfl (by decide) rfl ?_
      refine go_iinc (pc := 35) (v := (v3 + (1 : Int32))) C hN dX3_floatOf_35 (q := 3) rfl rfl (by decide) rfl ?_
      refine go_goto (pc := 38) (tgt := 4) C dX3_floatOf_38 (by decide) ?_
      refine go_sub [2, 3, 1, 0] rfl ?_
      exact hK4 ((v2 + (0 : Int32)), (v3 + (1 : Int32))) h
    · refine go_aload_n (pc := 23) C dX3_floatOf_23 rfl 0 rfl ?_
      refine x3gr_7 (pc := 24) C dX3_floatOf_24 ?_
      refine go_iload_n (pc := 27) C dX3_floatOf_27 rfl 3 rfl ?_
      refine go_iald (pc := 28) C x3aA_7 h dX3_floatOf_28 (fun h => ?_)
      refine go_goto (pc := 29) (tgt := 33) C dX3_floatOf_29 (by decide) ?_
      refine go_iadd (pc := 33) C dX3_floatOf_33 ?_
      refine go_istore_n (pc := 34) C hN dX3_floatOf_34 rfl (by decide) rfl ?_
      refine go_iinc (pc := 35) (v := (v3 + (1 : Int32))) C hN dX3_floatOf_35 (q := 3) rfl rfl (by decide) rfl ?_
      refine go_goto (pc := 38) (tgt := 4) C dX3_floatOf_38 (by decide) ?_
      refine go_sub [2, 3, 1, 0] rfl ?_
      exact hK4 ((v2 + (s0.2.1 7 (v3).toNatClampNeg)), (v3 + (1 : Int32))) h
theorem m3_floatOf {l : Launch} {d : gD} {a : Nat → Nat} {s0 : Bl} {v1 : Int32} {r9 : Int32} (h : f3_floatOf s0 v1 = some r9) : Mt l d yX3_floatOf cX3_floatOf 4 (some .int) (1, 0, 0) 21 (bW d 3 FK3 a s0) [.ref (a 0), .int v1] (fun v w => v = some (.int r9) ∧ w = (bW d 3 FK3 a s0)) := by
  refine Mt.of x3pn (Nat.le_of_ble_eq_true rfl) ?_
  intro Γ hl hd hN C hE
  subst hl; subst hd
  show Go Γ 0 0 (bW Γ.d 3 FK3 a s0) 0 [(0, .ref (a 0)), (1, .int v1)] []
  dsimp only [f3_floatOf] at h
  refine go_iconst (pc := 0) (v := (0 : Int32)) C dX3_floatOf_0 (by decide) ?_
  refine go_istore_n (pc := 1) C hN dX3_floatOf_1 rfl (by decide) rfl ?_
  refine go_iconst (pc := 2) (v := (0 : Int32)) C dX3_floatOf_2 (by decide) ?_
  refine go_istore_n (pc := 3) C hN dX3_floatOf_3 rfl (by decide) rfl ?_
  refine go_sub [2, 3, 1, 0] rfl ?_
  exact w3_floatOf_4 hN C hE FU ((0 : Int32), (0 : Int32)) h
theorem w3_weightOf_4 {Γ : Gam} {a : Nat → Nat} {s0 : Bl} {v1 : Int32} {r9 : Int32} (hN : Γ.nL = 4) (C : Cx Γ cX3_weightOf RX3 (1, 0, 0) 21) (hE : Rets Γ cX3_weightOf (some .int) 0 0 (fun v w => v = some (.int r9) ∧ w = (bW Γ.d 3 FK3 a s0))) : ∀ (n : Nat) (s : Int32 × Int32), loop (g3_weightOf_4 s0 v1) n s = some r9 → (fun s : Int32 × Int32 => Go Γ 0 0 (bW Γ.d 3 FK3 a s0) 4 [(0, .ref (a 0)), (1, .int v1), (2, .int s.1), (3, .int s.2)] []) s := by
  refine loop_walk (P := fun s : Int32 × Int32 => Go Γ 0 0 (bW Γ.d 3 FK3 a s0) 4 [(0, .ref (a 0)), (1, .int v1), (2, .int s.1), (3, .int s.2)] []) ?_
  intro K4 hK4 s h
  obtain ⟨v2, v3⟩ := s
  dsimp only [g3_weightOf_4] at h
  show Go Γ 0 0 (bW Γ.d 3 FK3 a s0) 4 [(0, .ref (a 0)), (1, .int v1), (2, .int v2), (3, .int v3)] []
  refine go_iload_n (pc := 4) C dX3_weightOf_4 rfl 3 rfl ?_
  refine go_aload_n (pc := 5) C dX3_weightOf_5 rfl 0 rfl ?_
  refine x3gr_1 (pc := 6) C dX3_weightOf_6 ?_
  refine go_iconst (pc := 9) (v := (3 : Int32)) C dX3_weightOf_9 (by decide) ?_
  refine go_ialdK (pc := 10) (j := 3) C x3aA_1 (by decide) (by decide) dX3_weightOf_10 ?_
  refine go_icmp_ge (pc := 11) (tgt := 41) C dX3_weightOf_11 (by decide) h (fun h => ?_) (fun h => ?_)
  · refine go_iload_n (pc := 41) C dX3_weightOf_41 rfl 2 rfl ?_
    exact (hE 0 0 _ _ _ (Nat.zero_le _) (Nat.zero_le _)).1 _ rfl dX3_weightOf_42 ⟨congrArg (fun z => some (Value.int z)) (some1 h), rfl⟩
  · refine go_iload_n (pc := 14) C dX3_weightOf_14 rfl 2 rfl ?_
    refine go_iload_n (pc := 15) C dX3_weightOf_15 rfl 1 rfl ?_
    refine go_iload_n (pc := 16) C dX3_weightOf_16 rfl 3 rfl ?_
    obtain ⟨r1, e1, h⟩ := bnd_some h
    refine go_callSi (pc := 17) C [.int v1, .int v3] (m3_has e1) q1682 q1683 q144 q1684 x3pd_has (by decide) (by decide) rfl (Nat.le_of_ble_eq_true rfl) ⟨Nat.zero_le _, Nat.zero_le _⟩ dX3_weightOf_17 rfl ?_
    refine go_if_eq (pc := 20) (tgt := 32) C dX3_weightOf_20 (by decide) h (fun h => ?_) (fun h => ?_)
    · refine go_iconst (pc := 32) (v := (0 : Int32)) C dX3_weightOf_32 (by decide) ?_
      refine go_iadd (pc := 33) C dX3_weightOf_33 ?_
      refine go_istore_n (pc := 34) C hN dX3_weightOf_34 rfl (by decide) rfl ?_
      refine go_iinc (pc := 35) (v := (v3 + (1 : Int32))) C hN dX3_weightOf_35 (q := 3) rfl rfl (by decide) rfl ?_
      refine go_goto (pc := 38) (tgt := 4) C dX3_weightOf_38 (by decide) ?_
      refine go_sub [2, 3, 1, 0] rfl ?_
      exact hK4 ((v2 + (0 : Int32)), (v3 + (1 : Int32))) h
    · refine go_aload_n (pc := 23) C dX3_weightOf_23 rfl 0 rfl ?_
      refine x3gr_6 (pc := 24) C dX3_weightOf_24 ?_
      refine go_iload_n (pc := 27) C dX3_weightOf_27 rfl 3 rfl ?_
      refine go_iald (pc := 28) C x3aA_6 h dX3_weightOf_28 (fun h => ?_)
      refine go_goto (pc := 29) (tgt := 33) C dX3_weightOf_29 (by decide) ?_
      refine go_iadd (pc := 33) C dX3_weightOf_33 ?_
      refine go_istore_n (pc := 34) C hN dX3_weightOf_34 rfl (by decide) rfl ?_
      refine go_iinc (pc := 35) (v := (v3 + (1 : Int32))) C hN dX3_weightOf_35 (q := 3) rfl rfl (by decide) rfl ?_
      refine go_goto (pc := 38) (tgt := 4) C dX3_weightOf_38 (by decide) ?_
      refine go_sub [2, 3, 1, 0] rfl ?_
      exact hK4 ((v2 + (s0.2.1 6 (v3).toNatClampNeg)), (v3 + (1 : Int32))) h
theorem m3_weightOf {l : Launch} {d : gD} {a : Nat → Nat} {s0 : Bl} {v1 : Int32} {r9 : Int32} (h : f3_weightOf s0 v1 = some r9) : Mt l d yX3_weightOf cX3_weightOf 4 (some .int) (1, 0, 0) 21 (bW d 3 FK3 a s0) [.ref (a 0), .int v1] (fun v w => v = some (.int r9) ∧ w = (bW d 3 FK3 a s0)) := by
  refine Mt.of x3pn (Nat.le_of_ble_eq_true rfl) ?_
  intro Γ hl hd hN C hE
  subst hl; subst hd
  show Go Γ 0 0 (bW Γ.d 3 FK3 a s0) 0 [(0, .ref (a 0)), (1, .int v1)] []
  dsimp only [f3_weightOf] at h
  refine go_iconst (pc := 0) (v := (0 : Int32)) C dX3_weightOf_0 (by decide) ?_
  refine go_istore_n (pc := 1) C hN dX3_weightOf_1 rfl (by decide) rfl ?_
  refine go_iconst (pc := 2) (v := (0 : Int32)) C dX3_weightOf_2 (by decide) ?_
  refine go_istore_n (pc := 3) C hN dX3_weightOf_3 rfl (by decide) rfl ?_
  refine go_sub [2, 3, 1, 0] rfl ?_
  exact w3_weightOf_4 hN C hE FU ((0 : Int32), (0 : Int32)) h
theorem w3_ridersOf_5 {Γ : Gam} {a : Nat → Nat} {s0 : Bl} {v1 : Int32} {v2 : Int32} {r9 : Int32} (hN : Γ.nL = 5) (C : Cx Γ cX3_ridersOf RX3 (3, 0, 0) 79) (hE : Rets Γ cX3_ridersOf (some .int) 0 0 (fun v w => v = some (.int r9) ∧ w = (bW Γ.d 3 FK3 a s0))) : ∀ (n : Nat) (s : Int32 × Int32), loop (g3_ridersOf_5 s0 v1 v2) n s = some r9 → (fun s : Int32 × Int32 => Go Γ 0 0 (bW Γ.d 3 FK3 a s0) 5 [(0, .ref (a 0)), (1, .int v1), (2, .int v2), (3, .int s.1), (4, .int s.2)] []) s := by
  refine loop_walk (P := fun s : Int32 × Int32 => Go Γ 0 0 (bW Γ.d 3 FK3 a s0) 5 [(0, .ref (a 0)), (1, .int v1), (2, .int v2), (3, .int s.1), (4, .int s.2)] []) ?_
  intro K5 hK5 s h
  obtain ⟨v3, v4⟩ := s
  dsimp only [g3_ridersOf_5] at h
  show Go Γ 0 0 (bW Γ.d 3 FK3 a s0) 5 [(0, .ref (a 0)), (1, .int v1), (2, .int v2), (3, .int v3), (4, .int v4)] []
  refine go_iload (pc := 5) C dX3_ridersOf_5 4 rfl ?_
  refine go_aload_n (pc := 7) C dX3_ridersOf_7 rfl 0 rfl ?_
  refine x3gr_1 (pc := 8) C dX3_ridersOf_8 ?_
  refine go_iconst (pc := 11) (v := (2 : Int32)) C dX3_ridersOf_11 (by decide) ?_
  refine go_ialdK (pc := 12) (j := 2) C x3aA_1 (by decide) (by decide) dX3_ridersOf_12 ?_
  refine go_icmp_ge (pc := 13) (tgt := 47) C dX3_ridersOf_13 (by decide) h (fun h => ?_) (fun h => ?_)
  · refine go_iload_n (pc := 47) C dX3_ridersOf_47 rfl 3 rfl ?_
    exact (hE 0 0 _ _ _ (Nat.zero_le _) (Nat.zero_le _)).1 _ rfl dX3_ridersOf_48 ⟨congrArg (fun z => some (Value.int z)) (some1 h), rfl⟩
  · refine go_iload_n (pc := 16) C dX3_ridersOf_16 rfl 3 rfl ?_
    refine go_aload_n (pc := 17) C dX3_ridersOf_17 rfl 0 rfl ?_
    refine go_iload (pc := 18) C dX3_ridersOf_18 4 rfl ?_
    refine go_iload_n (pc := 20) C dX3_ridersOf_20 rfl 2 rfl ?_
    obtain ⟨r1, e1, h⟩ := bnd_some h
    refine go_callVi (pc := 21) C [.int v4, .int v2] (m3_riddenBy e1) q1674 q1676 qs86 q144 q1677 x3pd_riddenBy (by decide) (by decide) bW_O x3c rfl (Nat.le_of_ble_eq_true rfl) ⟨Nat.zero_le _, Nat.zero_le _⟩ dX3_ridersOf_21 rfl ?_
    refine go_iload_n (pc := 24) C dX3_ridersOf_24 rfl 1 rfl ?_
    refine go_icmp_ne (pc := 25) (tgt := 38) C dX3_ridersOf_25 (by decide) h (fun h => ?_) (fun h => ?_)
    · refine go_iconst (pc := 38) (v := (0 : Int32)) C dX3_ridersOf_38 (by decide) ?_
      refine go_iadd (pc := 39) C dX3_ridersOf_39 ?_
      refine go_istore_n (pc := 40) C hN dX3_ridersOf_40 rfl (by decide) rfl ?_
      refine go_iinc (pc := 41) (v := (v4 + (1 : Int32))) C hN dX3_ridersOf_41 (q := 4) rfl rfl (by decide) rfl ?_
      refine go_goto (pc := 44) (tgt := 5) C dX3_ridersOf_44 (by decide) ?_
      refine go_sub [2, 3, 4, 1, 0] rfl ?_
      exact hK5 ((v3 + (0 : Int32)), (v4 + (1 : Int32))) h
    · refine go_aload_n (pc := 28) C dX3_ridersOf_28 rfl 0 rfl ?_
      refine x3gr_3 (pc := 29) C dX3_ridersOf_29 ?_
      refine go_iload (pc := 32) C dX3_ridersOf_32 4 rfl ?_
      refine go_iald (pc := 34) C x3aA_3 h dX3_ridersOf_34 (fun h => ?_)
      refine go_goto (pc := 35) (tgt := 39) C dX3_ridersOf_35 (by decide) ?_
      refine go_iadd (pc := 39) C dX3_ridersOf_39 ?_
      refine go_istore_n (pc := 40) C hN dX3_ridersOf_40 rfl (by decide) rfl ?_
      refine go_iinc (pc := 41) (v := (v4 + (1 : Int32))) C hN dX3_ridersOf_41 (q := 4) rfl rfl (by decide) rfl ?_
      refine go_goto (pc := 44) (tgt := 5) C dX3_ridersOf_44 (by decide) ?_
      refine go_sub [2, 3, 4, 1, 0] rfl ?_
      exact hK5 ((v3 + (s0.2.1 3 (v4).toNatClampNeg)), (v4 + (1 : Int32))) h
theorem m3_ridersOf {l : Launch} {d : gD} {a : Nat → Nat} {s0 : Bl} {v1 : Int32} {v2 : Int32} {r9 : Int32} (h : f3_ridersOf s0 v1 v2 = some r9) : Mt l d yX3_ridersOf cX3_ridersOf 5 (some .int) (3, 0, 0) 79 (bW d 3 FK3 a s0) [.ref (a 0), .int v1, .int v2] (fun v w => v = some (.int r9) ∧ w = (bW d 3 FK3 a s0)) := by
  refine Mt.of x3pn (Nat.le_of_ble_eq_true rfl) ?_
  intro Γ hl hd hN C hE
  subst hl; subst hd
  show Go Γ 0 0 (bW Γ.d 3 FK3 a s0) 0 [(0, .ref (a 0)), (1, .int v1), (2, .int v2)] []
  dsimp only [f3_ridersOf] at h
  refine go_iconst (pc := 0) (v := (0 : Int32)) C dX3_ridersOf_0 (by decide) ?_
  refine go_istore_n (pc := 1) C hN dX3_ridersOf_1 rfl (by decide) rfl ?_
  refine go_iconst (pc := 2) (v := (0 : Int32)) C dX3_ridersOf_2 (by decide) ?_
  refine go_istore (pc := 3) C hN dX3_ridersOf_3 (by decide) rfl ?_
  refine go_sub [2, 3, 4, 1, 0] rfl ?_
  exact w3_ridersOf_5 hN C hE FU ((0 : Int32), (0 : Int32)) h
theorem m3_marginOf {l : Launch} {d : gD} {a : Nat → Nat} {s0 : Bl} {v1 : Int32} {v2 : Int32} {r9 : Int32} (h : f3_marginOf s0 v1 v2 = some r9) : Mt l d yX3_marginOf cX3_marginOf 3 (some .int) (4, 0, 0) 103 (bW d 3 FK3 a s0) [.ref (a 0), .int v1, .int v2] (fun v w => v = some (.int r9) ∧ w = (bW d 3 FK3 a s0)) := by
  refine Mt.of x3pn (Nat.le_of_ble_eq_true rfl) ?_
  intro Γ hl hd hN C hE
  subst hl; subst hd
  show Go Γ 0 0 (bW Γ.d 3 FK3 a s0) 0 [(0, .ref (a 0)), (1, .int v1), (2, .int v2)] []
  dsimp only [f3_marginOf] at h
  refine go_aload_n (pc := 0) C dX3_marginOf_0 rfl 0 rfl ?_
  refine go_iload_n (pc := 1) C dX3_marginOf_1 rfl 1 rfl ?_
  obtain ⟨r1, e1, h⟩ := bnd_some h
  refine go_callVi (pc := 2) C [.int v1] (m3_floatOf e1) q1736 q1738 qs96 q144 q1739 x3pd_floatOf (by decide) (by decide) bW_O x3c rfl (Nat.le_of_ble_eq_true rfl) ⟨Nat.zero_le _, Nat.zero_le _⟩ dX3_marginOf_2 rfl ?_
  refine go_aload_n (pc := 5) C dX3_marginOf_5 rfl 0 rfl ?_
  refine go_iload_n (pc := 6) C dX3_marginOf_6 rfl 1 rfl ?_
  obtain ⟨r2, e2, h⟩ := bnd_some h
  refine go_callVi (pc := 7) C [.int v1] (m3_weightOf e2) q1740 q1742 qs97 q144 q1743 x3pd_weightOf (by decide) (by decide) bW_O x3c rfl (Nat.le_of_ble_eq_true rfl) ⟨Nat.zero_le _, Nat.zero_le _⟩ dX3_marginOf_7 rfl ?_
  refine go_isub (pc := 10) C dX3_marginOf_10 ?_
  refine go_aload_n (pc := 11) C dX3_marginOf_11 rfl 0 rfl ?_
  refine go_iload_n (pc := 12) C dX3_marginOf_12 rfl 1 rfl ?_
  refine go_iload_n (pc := 13) C dX3_marginOf_13 rfl 2 rfl ?_
  obtain ⟨r3, e3, h⟩ := bnd_some h
  refine go_callVi (pc := 14) C [.int v1, .int v2] (m3_ridersOf e3) q1744 q1746 qs98 q144 q1747 x3pd_ridersOf (by decide) (by decide) bW_O x3c rfl (Nat.le_of_ble_eq_true rfl) ⟨Nat.zero_le _, Nat.zero_le _⟩ dX3_marginOf_14 rfl ?_
  refine go_isub (pc := 17) C dX3_marginOf_17 ?_
  exact (hE 0 0 _ _ _ (Nat.zero_le _) (Nat.zero_le _)).1 _ rfl dX3_marginOf_18 ⟨congrArg (fun z => some (Value.int z)) (some1 h), rfl⟩
theorem m3_margin {l : Launch} {d : gD} {a : Nat → Nat} {s0 : Bl} {v1 : Int32} {r9 : Int32} (h : f3_margin s0 v1 = some r9) : Mt l d yX3_margin cX3_margin 2 (some .int) (5, 0, 0) 125 (bW d 3 FK3 a s0) [.ref (a 0), .int v1] (fun v w => v = some (.int r9) ∧ w = (bW d 3 FK3 a s0)) := by
  refine Mt.of x3pn (Nat.le_of_ble_eq_true rfl) ?_
  intro Γ hl hd hN C hE
  subst hl; subst hd
  show Go Γ 0 0 (bW Γ.d 3 FK3 a s0) 0 [(0, .ref (a 0)), (1, .int v1)] []
  dsimp only [f3_margin] at h
  refine go_aload_n (pc := 0) C dX3_margin_0 rfl 0 rfl ?_
  refine go_iload_n (pc := 1) C dX3_margin_1 rfl 1 rfl ?_
  obtain ⟨r1, e1, h⟩ := bnd_some h
  refine go_callVi (pc := 2) C [.int v1] (m3_isAfloat e1) q1728 q1730 qs94 q144 q1731 x3pd_isAfloat (by decide) (by decide) bW_O x3c rfl (Nat.le_of_ble_eq_true rfl) ⟨Nat.zero_le _, Nat.zero_le _⟩ dX3_margin_2 rfl ?_
  refine go_if_eq (pc := 5) (tgt := 24) C dX3_margin_5 (by decide) h (fun h => ?_) (fun h => ?_)
  · refine go_sipush (pc := 24) (v := (-10000 : Int32)) C dX3_margin_24 (by decide) ?_
    exact (hE 0 0 _ _ _ (Nat.zero_le _) (Nat.zero_le _)).1 _ rfl dX3_margin_27 ⟨congrArg (fun z => some (Value.int z)) (some1 h), rfl⟩
  · refine go_aload_n (pc := 8) C dX3_margin_8 rfl 0 rfl ?_
    refine go_aload_n (pc := 9) C dX3_margin_9 rfl 0 rfl ?_
    refine go_iload_n (pc := 10) C dX3_margin_10 rfl 1 rfl ?_
    obtain ⟨r2, e2, h⟩ := bnd_some h
    refine go_callVi (pc := 11) C [.int v1] (m3_pieceOf e2) q1700 q1702 qs90 q144 q1703 x3pd_pieceOf (by decide) (by decide) bW_O x3c rfl (Nat.le_of_ble_eq_true rfl) ⟨Nat.zero_le _, Nat.zero_le _⟩ dX3_margin_11 rfl ?_
    refine go_aload_n (pc := 14) C dX3_margin_14 rfl 0 rfl ?_
    obtain ⟨r3, e3, h⟩ := bnd_some h
    refine go_callVi (pc := 15) C [] (m3_allRopes e3) q1670 q1672 qs85 q144 q1673 x3pd_allRopes (by decide) (by decide) bW_O x3c rfl (Nat.le_of_ble_eq_true rfl) ⟨Nat.zero_le _, Nat.zero_le _⟩ dX3_margin_15 rfl ?_
    obtain ⟨r4, e4, h⟩ := bnd_some h
    refine go_callVi (pc := 18) C [.int r2, .int r3] (m3_marginOf e4) q1732 q1734 qs95 q144 q1735 x3pd_marginOf (by decide) (by decide) bW_O x3c rfl (Nat.le_of_ble_eq_true rfl) ⟨Nat.zero_le _, Nat.zero_le _⟩ dX3_margin_18 rfl ?_
    refine go_goto (pc := 21) (tgt := 27) C dX3_margin_21 (by decide) ?_
    exact (hE 0 0 _ _ _ (Nat.zero_le _) (Nat.zero_le _)).1 _ rfl dX3_margin_27 ⟨congrArg (fun z => some (Value.int z)) (some1 h), rfl⟩
theorem m3_milesLeft {l : Launch} {d : gD} {a : Nat → Nat} {s0 : Bl} {r9 : Int32} (h : f3_milesLeft s0 = some r9) : Mt l d yX3_milesLeft cX3_milesLeft 1 (some .int) (0, 0, 0) 0 (bW d 3 FK3 a s0) [.ref (a 0)] (fun v w => v = some (.int r9) ∧ w = (bW d 3 FK3 a s0)) := by
  refine Mt.of x3pn (Nat.le_of_ble_eq_true rfl) ?_
  intro Γ hl hd hN C hE
  subst hl; subst hd
  show Go Γ 0 0 (bW Γ.d 3 FK3 a s0) 0 [(0, .ref (a 0))] []
  dsimp only [f3_milesLeft] at h
  refine go_aload_n (pc := 0) C dX3_milesLeft_0 rfl 0 rfl ?_
  refine x3gr_1 (pc := 1) C dX3_milesLeft_1 ?_
  refine go_iconst (pc := 4) (v := (0 : Int32)) C dX3_milesLeft_4 (by decide) ?_
  refine go_ialdK (pc := 5) (j := 0) C x3aA_1 (by decide) (by decide) dX3_milesLeft_5 ?_
  refine go_aload_n (pc := 6) C dX3_milesLeft_6 rfl 0 rfl ?_
  refine x3gr_1 (pc := 7) C dX3_milesLeft_7 ?_
  refine go_bipush (pc := 10) (v := (6 : Int32)) C dX3_milesLeft_10 (by decide) ?_
  refine go_ialdK (pc := 12) (j := 6) C x3aA_1 (by decide) (by decide) dX3_milesLeft_12 ?_
  refine go_isub (pc := 13) C dX3_milesLeft_13 ?_
  exact (hE 0 0 _ _ _ (Nat.zero_le _) (Nat.zero_le _)).1 _ rfl dX3_milesLeft_14 ⟨congrArg (fun z => some (Value.int z)) (some1 h), rfl⟩
theorem w3_moves_20 {Γ : Gam} {a : Nat → Nat} {s0 : Bl} {z0 : Int32} {r9 : Int32} {s9 : Bl} (hN : Γ.nL = 3) (C : Cx Γ cX3_moves RX3 (0, 0, 0) 0) (hE : Rets Γ cX3_moves (some .int) 0 0 (fun v w => v = some (.int r9) ∧ w = (bW Γ.d 3 FK3 a s9))) (h : g3_moves_20 s0 z0 = some (r9, s9)) : Go Γ 0 0 (bW Γ.d 3 FK3 a s0) 20 [(0, .ref (a 0))] [.int z0] := by
  dsimp only [g3_moves_20] at h
  refine go_istore_n (pc := 20) C hN dX3_moves_20 rfl (by decide) rfl ?_
  refine go_aload_n (pc := 21) C dX3_moves_21 rfl 1 rfl ?_
  refine x3gr_53 (pc := 22) C dX3_moves_22 ?_
  refine go_aload_n (pc := 25) C dX3_moves_25 rfl 1 rfl ?_
  refine x3gi_56 (pc := 26) C dX3_moves_26 ?_
  refine go_iload_n (pc := 29) C dX3_moves_29 rfl 0 rfl ?_
  refine go_iast (pc := 30) C x3pA_53 h dX3_moves_30 (fun h => ?_)
  refine go_aload_n (pc := 31) C dX3_moves_31 rfl 1 rfl ?_
  refine go_dup (pc := 32) C dX3_moves_32 rfl ?_
  refine x3gi_56 (pc := 33) C dX3_moves_33 ?_
  refine go_iconst (pc := 36) (v := (1 : Int32)) C dX3_moves_36 (by decide) ?_
  refine go_iadd (pc := 37) C dX3_moves_37 ?_
  refine x3pi_56 (pc := 38) C dX3_moves_38 ?_
  refine go_iload_n (pc := 41) C dX3_moves_41 rfl 0 rfl ?_
  exact (hE 0 0 _ _ _ (Nat.zero_le _) (Nat.zero_le _)).1 _ rfl dX3_moves_42 ⟨congrArg (fun z => some (Value.int z)) (some2 h).1, congrArg (fun z => bW Γ.d 3 FK3 a z) (some2 h).2⟩
theorem m3_moves {l : Launch} {d : gD} {a : Nat → Nat} {s0 : Bl} {v1 : Int32} {r9 : Int32} {s9 : Bl} (h : f3_moves s0 v1 = some (r9, s9)) : Mt l d yX3_moves cX3_moves 3 (some .int) (0, 0, 0) 0 (bW d 3 FK3 a s0) [.ref (a 0), .int v1] (fun v w => v = some (.int r9) ∧ w = (bW d 3 FK3 a s9)) := by
  refine Mt.of x3pn (Nat.le_of_ble_eq_true rfl) ?_
  intro Γ hl hd hN C hE
  subst hl; subst hd
  show Go Γ 0 0 (bW Γ.d 3 FK3 a s0) 0 [(0, .ref (a 0)), (1, .int v1)] []
  dsimp only [f3_moves] at h
  refine go_aload_n (pc := 0) C dX3_moves_0 rfl 0 rfl ?_
  refine x3gi_57 (pc := 1) C dX3_moves_1 ?_
  refine go_if_eq (pc := 4) (tgt := 19) C dX3_moves_4 (by decide) h (fun h => ?_) (fun h => ?_)
  · refine go_iload_n (pc := 19) C dX3_moves_19 rfl 1 rfl ?_
    refine go_sub [0] rfl ?_
    exact w3_moves_20 hN C hE h
  · refine go_aload_n (pc := 7) C dX3_moves_7 rfl 0 rfl ?_
    refine x3gr_53 (pc := 8) C dX3_moves_8 ?_
    refine go_aload_n (pc := 11) C dX3_moves_11 rfl 0 rfl ?_
    refine x3gi_56 (pc := 12) C dX3_moves_12 ?_
    refine go_iald (pc := 15) C x3aA_53 h dX3_moves_15 (fun h => ?_)
    refine go_goto (pc := 16) (tgt := 20) C dX3_moves_16 (by decide) ?_
    refine go_sub [0] rfl ?_
    exact w3_moves_20 hN C hE h
theorem w3_movesRow_2 {Γ : Gam} {a : Nat → Nat} {k1 : Nat} {n1 : Nat} {s9 : Bl} (hN : Γ.nL = 3) (C : Cx Γ cX3_movesRow RX3 (1, 0, 0) 22) (hE : Rets Γ cX3_movesRow none 0 0 (fun v w => v = none ∧ w = (bW Γ.d 3 FK3 a s9))) (hk1 : FK3[k1]? = some (1, n1)) : ∀ (n : Nat) (s : Bl × Int32), loop (g3_movesRow_2 k1 n1) n s = some s9 → (fun s : Bl × Int32 => Go Γ 0 0 (bW Γ.d 3 FK3 a s.1) 2 [(0, .ref (a 0)), (1, .ref (a (k1 + 1))), (2, .int s.2)] []) s := by
  refine loop_walk (P := fun s : Bl × Int32 => Go Γ 0 0 (bW Γ.d 3 FK3 a s.1) 2 [(0, .ref (a 0)), (1, .ref (a (k1 + 1))), (2, .int s.2)] []) ?_
  intro K2 hK2 s h
  obtain ⟨s0, v2⟩ := s
  dsimp only [g3_movesRow_2] at h
  show Go Γ 0 0 (bW Γ.d 3 FK3 a s0) 2 [(0, .ref (a 0)), (1, .ref (a (k1 + 1))), (2, .int v2)] []
  refine go_iload_n (pc := 2) C dX3_movesRow_2 rfl 2 rfl ?_
  refine go_aload_n (pc := 3) C dX3_movesRow_3 rfl 1 rfl ?_
  refine go_alen (pc := 4) (t := 0) C (bW_A hk1 (by decide)) rfl rfl dX3_movesRow_4 ?_
  refine go_icmp_ge (pc := 5) (tgt := 24) C dX3_movesRow_5 (by decide) h (fun h => ?_) (fun h => ?_)
  · exact (hE 0 0 _ _ _ (Nat.zero_le _) (Nat.zero_le _)).2.2.2.1 rfl dX3_movesRow_24 ⟨rfl, congrArg (fun z => bW Γ.d 3 FK3 a z) (some1 h)⟩
  · refine go_aload_n (pc := 8) C dX3_movesRow_8 rfl 1 rfl ?_
    refine go_iload_n (pc := 9) C dX3_movesRow_9 rfl 2 rfl ?_
    refine go_aload_n (pc := 10) C dX3_movesRow_10 rfl 0 rfl ?_
    refine go_aload_n (pc := 11) C dX3_movesRow_11 rfl 1 rfl ?_
    refine go_iload_n (pc := 12) C dX3_movesRow_12 rfl 2 rfl ?_
    refine go_iald (pc := 13) C (bW_A hk1 (by decide)) h dX3_movesRow_13 (fun h => ?_)
    obtain ⟨r1, s1, e1, h⟩ := bnd2_some h
    refine go_callVi (pc := 14) C [.int (s0.2.1 k1 (v2).toNatClampNeg)] (m3_moves e1) q1756 q1758 qs100 q144 q1759 x3pd_moves (by decide) (by decide) bW_O x3c rfl (Nat.le_of_ble_eq_true rfl) ⟨Nat.zero_le _, Nat.zero_le _⟩ dX3_movesRow_14 rfl ?_
    refine go_iast (pc := 17) C (bW_putA hk1 (by decide)) h dX3_movesRow_17 (fun h => ?_)
    refine go_iinc (pc := 18) (v := (v2 + (1 : Int32))) C hN dX3_movesRow_18 (q := 2) rfl rfl (by decide) rfl ?_
    refine go_goto (pc := 21) (tgt := 2) C dX3_movesRow_21 (by decide) ?_
    refine go_sub [1, 2, 0] rfl ?_
    exact hK2 ((bA s1 k1 (v2).toNatClampNeg r1), (v2 + (1 : Int32))) h
theorem m3_movesRow {l : Launch} {d : gD} {a : Nat → Nat} {s0 : Bl} {k1 : Nat} {n1 : Nat} {s9 : Bl} (h : f3_movesRow s0 k1 n1 = some s9) (hk1 : FK3[k1]? = some (1, n1)) : Mt l d yX3_movesRow cX3_movesRow 3 none (1, 0, 0) 22 (bW d 3 FK3 a s0) [.ref (a 0), .ref (a (k1 + 1))] (fun v w => v = none ∧ w = (bW d 3 FK3 a s9)) := by
  refine Mt.of x3pn (Nat.le_of_ble_eq_true rfl) ?_
  intro Γ hl hd hN C hE
  subst hl; subst hd
  show Go Γ 0 0 (bW Γ.d 3 FK3 a s0) 0 [(0, .ref (a 0)), (1, .ref (a (k1 + 1)))] []
  dsimp only [f3_movesRow] at h
  refine go_iconst (pc := 0) (v := (0 : Int32)) C dX3_movesRow_0 (by decide) ?_
  refine go_istore_n (pc := 1) C hN dX3_movesRow_1 rfl (by decide) rfl ?_
  refine go_sub [1, 2, 0] rfl ?_
  exact w3_movesRow_2 hN C hE hk1 FU (s0, (0 : Int32)) h
theorem m3_movesAll {l : Launch} {d : gD} {a : Nat → Nat} {s0 : Bl} {v1 : Int32} {v2 : Int32} {s9 : Bl} (h : f3_movesAll s0 v1 v2 = some s9) : Mt l d yX3_movesAll cX3_movesAll 3 none (2, 0, 0) 44 (bW d 3 FK3 a s0) [.ref (a 0), .int v1, .int v2] (fun v w => v = none ∧ w = (bW d 3 FK3 a s9)) := by
  refine Mt.of x3pn (Nat.le_of_ble_eq_true rfl) ?_
  intro Γ hl hd hN C hE
  subst hl; subst hd
  show Go Γ 0 0 (bW Γ.d 3 FK3 a s0) 0 [(0, .ref (a 0)), (1, .int v1), (2, .int v2)] []
  dsimp only [f3_movesAll] at h
  refine go_aload_n (pc := 0) C dX3_movesAll_0 rfl 0 rfl ?_
  refine go_bipush (pc := 1) (v := (77 : Int32)) C dX3_movesAll_1 (by decide) ?_
  refine go_iload_n (pc := 3) C dX3_movesAll_3 rfl 1 rfl ?_
  refine go_imul (pc := 4) C dX3_movesAll_4 ?_
  refine x3pi_56 (pc := 5) C dX3_movesAll_5 ?_
  refine go_aload_n (pc := 8) C dX3_movesAll_8 rfl 0 rfl ?_
  refine go_iload_n (pc := 9) C dX3_movesAll_9 rfl 2 rfl ?_
  obtain ⟨hz, h⟩ := chk_some h
  refine x3pz_57 (pc := 10) C dX3_movesAll_10 hz ?_
  refine go_aload_n (pc := 13) C dX3_movesAll_13 rfl 0 rfl ?_
  refine x3gr_1 (pc := 14) C dX3_movesAll_14 ?_
  refine go_bipush (pc := 17) (v := (6 : Int32)) C dX3_movesAll_17 (by decide) ?_
  refine go_aload_n (pc := 19) C dX3_movesAll_19 rfl 0 rfl ?_
  refine go_aload_n (pc := 20) C dX3_movesAll_20 rfl 0 rfl ?_
  refine x3gr_1 (pc := 21) C dX3_movesAll_21 ?_
  refine go_bipush (pc := 24) (v := (6 : Int32)) C dX3_movesAll_24 (by decide) ?_
  refine go_ialdK (pc := 26) (j := 6) C x3aA_1 (by decide) (by decide) dX3_movesAll_26 ?_
  obtain ⟨r1, s1, e1, h⟩ := bnd2_some h
  refine go_callVi (pc := 27) C [.int ((bI (bI s0 56 ((77 : Int32) * v1)) 57 v2).2.1 1 6)] (m3_moves e1) q1756 q1758 qs100 q144 q1759 x3pd_moves (by decide) (by decide) bW_O x3c rfl (Nat.le_of_ble_eq_true rfl) ⟨Nat.zero_le _, Nat.zero_le _⟩ dX3_movesAll_27 rfl ?_
  refine go_iastK (pc := 30) (j := 6) C x3pA_1 (by decide) (by decide) dX3_movesAll_30 ?_
  refine go_aload_n (pc := 31) C dX3_movesAll_31 rfl 0 rfl ?_
  refine x3gr_1 (pc := 32) C dX3_movesAll_32 ?_
  refine go_iconst (pc := 35) (v := (1 : Int32)) C dX3_movesAll_35 (by decide) ?_
  refine go_aload_n (pc := 36) C dX3_movesAll_36 rfl 0 rfl ?_
  refine go_aload_n (pc := 37) C dX3_movesAll_37 rfl 0 rfl ?_
  refine x3gr_1 (pc := 38) C dX3_movesAll_38 ?_
  refine go_iconst (pc := 41) (v := (1 : Int32)) C dX3_movesAll_41 (by decide) ?_
  refine go_ialdK (pc := 42) (j := 1) C x3aA_1 (by decide) (by decide) dX3_movesAll_42 ?_
  obtain ⟨r2, s2, e2, h⟩ := bnd2_some h
  refine go_callVi (pc := 43) C [.int ((bA s1 1 6 r1).2.1 1 1)] (m3_moves e2) q1756 q1758 qs100 q144 q1759 x3pd_moves (by decide) (by decide) bW_O x3c rfl (Nat.le_of_ble_eq_true rfl) ⟨Nat.zero_le _, Nat.zero_le _⟩ dX3_movesAll_43 rfl ?_
  refine go_iastK (pc := 46) (j := 1) C x3pA_1 (by decide) (by decide) dX3_movesAll_46 ?_
  refine go_aload_n (pc := 47) C dX3_movesAll_47 rfl 0 rfl ?_
  refine x3gr_1 (pc := 48) C dX3_movesAll_48 ?_
  refine go_iconst (pc := 51) (v := (4 : Int32)) C dX3_movesAll_51 (by decide) ?_
  refine go_aload_n (pc := 52) C dX3_movesAll_52 rfl 0 rfl ?_
  refine go_aload_n (pc := 53) C dX3_movesAll_53 rfl 0 rfl ?_
  refine x3gr_1 (pc := 54) C dX3_movesAll_54 ?_
  refine go_iconst (pc := 57) (v := (4 : Int32)) C dX3_movesAll_57 (by decide) ?_
  refine go_ialdK (pc := 58) (j := 4) C x3aA_1 (by decide) (by decide) dX3_movesAll_58 ?_
  obtain ⟨r3, s3, e3, h⟩ := bnd2_some h
  refine go_callVi (pc := 59) C [.int ((bA s2 1 1 r2).2.1 1 4)] (m3_moves e3) q1756 q1758 qs100 q144 q1759 x3pd_moves (by decide) (by decide) bW_O x3c rfl (Nat.le_of_ble_eq_true rfl) ⟨Nat.zero_le _, Nat.zero_le _⟩ dX3_movesAll_59 rfl ?_
  refine go_iastK (pc := 62) (j := 4) C x3pA_1 (by decide) (by decide) dX3_movesAll_62 ?_
  refine go_aload_n (pc := 63) C dX3_movesAll_63 rfl 0 rfl ?_
  refine go_aload_n (pc := 64) C dX3_movesAll_64 rfl 0 rfl ?_
  refine x3gr_4 (pc := 65) C dX3_movesAll_65 ?_
  obtain ⟨s4, e4, h⟩ := bnd_some h
  refine go_callVv (pc := 68) C [.ref (a (4 + 1))] (m3_movesRow e4 x3fk_4) q1760 q1762 qs101 q144 q1763 x3pd_movesRow (by decide) (by decide) bW_O x3c rfl (Nat.le_of_ble_eq_true rfl) ⟨Nat.zero_le _, Nat.zero_le _⟩ dX3_movesAll_68 rfl ?_
  refine go_aload_n (pc := 71) C dX3_movesAll_71 rfl 0 rfl ?_
  refine go_aload_n (pc := 72) C dX3_movesAll_72 rfl 0 rfl ?_
  refine x3gr_5 (pc := 73) C dX3_movesAll_73 ?_
  obtain ⟨s5, e5, h⟩ := bnd_some h
  refine go_callVv (pc := 76) C [.ref (a (5 + 1))] (m3_movesRow e5 x3fk_5) q1760 q1762 qs101 q144 q1763 x3pd_movesRow (by decide) (by decide) bW_O x3c rfl (Nat.le_of_ble_eq_true rfl) ⟨Nat.zero_le _, Nat.zero_le _⟩ dX3_movesAll_76 rfl ?_
  refine go_aload_n (pc := 79) C dX3_movesAll_79 rfl 0 rfl ?_
  refine go_aload_n (pc := 80) C dX3_movesAll_80 rfl 0 rfl ?_
  refine x3gr_7 (pc := 81) C dX3_movesAll_81 ?_
  obtain ⟨s6, e6, h⟩ := bnd_some h
  refine go_callVv (pc := 84) C [.ref (a (7 + 1))] (m3_movesRow e6 x3fk_7) q1760 q1762 qs101 q144 q1763 x3pd_movesRow (by decide) (by decide) bW_O x3c rfl (Nat.le_of_ble_eq_true rfl) ⟨Nat.zero_le _, Nat.zero_le _⟩ dX3_movesAll_84 rfl ?_
  refine go_aload_n (pc := 87) C dX3_movesAll_87 rfl 0 rfl ?_
  refine go_aload_n (pc := 88) C dX3_movesAll_88 rfl 0 rfl ?_
  refine x3gr_9 (pc := 89) C dX3_movesAll_89 ?_
  obtain ⟨s7, e7, h⟩ := bnd_some h
  refine go_callVv (pc := 92) C [.ref (a (9 + 1))] (m3_movesRow e7 x3fk_9) q1760 q1762 qs101 q144 q1763 x3pd_movesRow (by decide) (by decide) bW_O x3c rfl (Nat.le_of_ble_eq_true rfl) ⟨Nat.zero_le _, Nat.zero_le _⟩ dX3_movesAll_92 rfl ?_
  refine go_aload_n (pc := 95) C dX3_movesAll_95 rfl 0 rfl ?_
  refine go_aload_n (pc := 96) C dX3_movesAll_96 rfl 0 rfl ?_
  refine x3gr_10 (pc := 97) C dX3_movesAll_97 ?_
  obtain ⟨s8, e8, h⟩ := bnd_some h
  refine go_callVv (pc := 100) C [.ref (a (10 + 1))] (m3_movesRow e8 x3fk_10) q1760 q1762 qs101 q144 q1763 x3pd_movesRow (by decide) (by decide) bW_O x3c rfl (Nat.le_of_ble_eq_true rfl) ⟨Nat.zero_le _, Nat.zero_le _⟩ dX3_movesAll_100 rfl ?_
  refine go_aload_n (pc := 103) C dX3_movesAll_103 rfl 0 rfl ?_
  refine go_aload_n (pc := 104) C dX3_movesAll_104 rfl 0 rfl ?_
  refine x3gr_11 (pc := 105) C dX3_movesAll_105 ?_
  obtain ⟨s9, e9, h⟩ := bnd_some h
  refine go_callVv (pc := 108) C [.ref (a (11 + 1))] (m3_movesRow e9 x3fk_11) q1760 q1762 qs101 q144 q1763 x3pd_movesRow (by decide) (by decide) bW_O x3c rfl (Nat.le_of_ble_eq_true rfl) ⟨Nat.zero_le _, Nat.zero_le _⟩ dX3_movesAll_108 rfl ?_
  refine go_aload_n (pc := 111) C dX3_movesAll_111 rfl 0 rfl ?_
  refine go_aload_n (pc := 112) C dX3_movesAll_112 rfl 0 rfl ?_
  refine x3gr_12 (pc := 113) C dX3_movesAll_113 ?_
  obtain ⟨s10, e10, h⟩ := bnd_some h
  refine go_callVv (pc := 116) C [.ref (a (12 + 1))] (m3_movesRow e10 x3fk_12) q1760 q1762 qs101 q144 q1763 x3pd_movesRow (by decide) (by decide) bW_O x3c rfl (Nat.le_of_ble_eq_true rfl) ⟨Nat.zero_le _, Nat.zero_le _⟩ dX3_movesAll_116 rfl ?_
  refine go_aload_n (pc := 119) C dX3_movesAll_119 rfl 0 rfl ?_
  refine go_aload_n (pc := 120) C dX3_movesAll_120 rfl 0 rfl ?_
  refine x3gr_13 (pc := 121) C dX3_movesAll_121 ?_
  obtain ⟨s11, e11, h⟩ := bnd_some h
  refine go_callVv (pc := 124) C [.ref (a (13 + 1))] (m3_movesRow e11 x3fk_13) q1760 q1762 qs101 q144 q1763 x3pd_movesRow (by decide) (by decide) bW_O x3c rfl (Nat.le_of_ble_eq_true rfl) ⟨Nat.zero_le _, Nat.zero_le _⟩ dX3_movesAll_124 rfl ?_
  exact (hE 0 0 _ _ _ (Nat.zero_le _) (Nat.zero_le _)).2.2.2.1 rfl dX3_movesAll_127 ⟨rfl, congrArg (fun z => bW Γ.d 3 FK3 a z) (some1 h)⟩
theorem w3_keepsAct_12 {Γ : Gam} {a : Nat → Nat} {s9 : Bl} (hN : Γ.nL = 2) (C : Cx Γ cX3_keepsAct RX3 (3, 0, 0) 66) (hE : Rets Γ cX3_keepsAct none 0 0 (fun v w => v = none ∧ w = (bW Γ.d 3 FK3 a s9))) : ∀ (n : Nat) (s : Bl × Int32), loop (g3_keepsAct_12) n s = some s9 → (fun s : Bl × Int32 => Go Γ 0 0 (bW Γ.d 3 FK3 a s.1) 12 [(0, .ref (a 0)), (1, .int s.2)] []) s := by
  refine loop_walk (P := fun s : Bl × Int32 => Go Γ 0 0 (bW Γ.d 3 FK3 a s.1) 12 [(0, .ref (a 0)), (1, .int s.2)] []) ?_
  intro K12 hK12 s h
  obtain ⟨s0, v1⟩ := s
  dsimp only [g3_keepsAct_12] at h
  show Go Γ 0 0 (bW Γ.d 3 FK3 a s0) 12 [(0, .ref (a 0)), (1, .int v1)] []
  refine go_iload_n (pc := 12) C dX3_keepsAct_12 rfl 1 rfl ?_
  refine go_sipush (pc := 13) (v := (1540 : Int32)) C dX3_keepsAct_13 (by decide) ?_
  refine go_icmp_ge (pc := 16) (tgt := 40) C dX3_keepsAct_16 (by decide) h (fun h => ?_) (fun h => ?_)
  · refine go_aload_n (pc := 40) C dX3_keepsAct_40 rfl 0 rfl ?_
    refine go_dup (pc := 41) C dX3_keepsAct_41 rfl ?_
    refine x3gi_55 (pc := 42) C dX3_keepsAct_42 ?_
    refine go_iconst (pc := 45) (v := (1 : Int32)) C dX3_keepsAct_45 (by decide) ?_
    refine go_isub (pc := 46) C dX3_keepsAct_46 ?_
    refine x3pi_55 (pc := 47) C dX3_keepsAct_47 ?_
    refine go_aload_n (pc := 50) C dX3_keepsAct_50 rfl 0 rfl ?_
    refine go_aload_n (pc := 51) C dX3_keepsAct_51 rfl 0 rfl ?_
    refine x3gi_55 (pc := 52) C dX3_keepsAct_52 ?_
    refine go_iconst (pc := 55) (v := (0 : Int32)) C dX3_keepsAct_55 (by decide) ?_
    obtain ⟨s2, e2, h⟩ := bnd_some h
    refine go_callVv (pc := 56) C [.int ((bI s0 55 ((s0.1 55) - (1 : Int32))).1 55), .int (0 : Int32)] (m3_movesAll e2) q1752 q1754 qs99 q144 q1755 x3pd_movesAll (by decide) (by decide) bW_O x3c rfl (Nat.le_of_ble_eq_true rfl) ⟨Nat.zero_le _, Nat.zero_le _⟩ dX3_keepsAct_56 rfl ?_
    refine go_aload_n (pc := 59) C dX3_keepsAct_59 rfl 0 rfl ?_
    refine go_dup (pc := 60) C dX3_keepsAct_60 rfl ?_
    refine x3gi_55 (pc := 61) C dX3_keepsAct_61 ?_
    refine go_iconst (pc := 64) (v := (1 : Int32)) C dX3_keepsAct_64 (by decide) ?_
    refine go_iadd (pc := 65) C dX3_keepsAct_65 ?_
    refine x3pi_55 (pc := 66) C dX3_keepsAct_66 ?_
    exact (hE 0 0 _ _ _ (Nat.zero_le _) (Nat.zero_le _)).2.2.2.1 rfl dX3_keepsAct_69 ⟨rfl, congrArg (fun z => bW Γ.d 3 FK3 a z) (some1 h)⟩
  · refine go_aload_n (pc := 19) C dX3_keepsAct_19 rfl 0 rfl ?_
    refine x3gr_53 (pc := 20) C dX3_keepsAct_20 ?_
    refine go_iload_n (pc := 23) C dX3_keepsAct_23 rfl 1 rfl ?_
    refine go_bipush (pc := 24) (v := (77 : Int32)) C dX3_keepsAct_24 (by decide) ?_
    refine go_isub (pc := 26) C dX3_keepsAct_26 ?_
    refine go_aload_n (pc := 27) C dX3_keepsAct_27 rfl 0 rfl ?_
    refine x3gr_53 (pc := 28) C dX3_keepsAct_28 ?_
    refine go_iload_n (pc := 31) C dX3_keepsAct_31 rfl 1 rfl ?_
    refine go_iald (pc := 32) C x3aA_53 h dX3_keepsAct_32 (fun h => ?_)
    refine go_iast (pc := 33) C x3pA_53 h dX3_keepsAct_33 (fun h => ?_)
    refine go_iinc (pc := 34) (v := (v1 + (1 : Int32))) C hN dX3_keepsAct_34 (q := 1) rfl rfl (by decide) rfl ?_
    refine go_goto (pc := 37) (tgt := 12) C dX3_keepsAct_37 (by decide) ?_
    refine go_sub [1, 0] rfl ?_
    exact hK12 ((bA s0 53 ((v1 - (77 : Int32))).toNatClampNeg (s0.2.1 53 (v1).toNatClampNeg)), (v1 + (1 : Int32))) h
theorem m3_keepsAct {l : Launch} {d : gD} {a : Nat → Nat} {s0 : Bl} {s9 : Bl} (h : f3_keepsAct s0 = some s9) : Mt l d yX3_keepsAct cX3_keepsAct 2 none (3, 0, 0) 66 (bW d 3 FK3 a s0) [.ref (a 0)] (fun v w => v = none ∧ w = (bW d 3 FK3 a s9)) := by
  refine Mt.of x3pn (Nat.le_of_ble_eq_true rfl) ?_
  intro Γ hl hd hN C hE
  subst hl; subst hd
  show Go Γ 0 0 (bW Γ.d 3 FK3 a s0) 0 [(0, .ref (a 0))] []
  dsimp only [f3_keepsAct] at h
  refine go_aload_n (pc := 0) C dX3_keepsAct_0 rfl 0 rfl ?_
  refine x3gi_55 (pc := 1) C dX3_keepsAct_1 ?_
  refine go_bipush (pc := 4) (v := (20 : Int32)) C dX3_keepsAct_4 (by decide) ?_
  refine go_icmp_ne (pc := 6) (tgt := 50) C dX3_keepsAct_6 (by decide) h (fun h => ?_) (fun h => ?_)
  · refine go_aload_n (pc := 50) C dX3_keepsAct_50 rfl 0 rfl ?_
    refine go_aload_n (pc := 51) C dX3_keepsAct_51 rfl 0 rfl ?_
    refine x3gi_55 (pc := 52) C dX3_keepsAct_52 ?_
    refine go_iconst (pc := 55) (v := (0 : Int32)) C dX3_keepsAct_55 (by decide) ?_
    obtain ⟨s1, e1, h⟩ := bnd_some h
    refine go_callVv (pc := 56) C [.int (s0.1 55), .int (0 : Int32)] (m3_movesAll e1) q1752 q1754 qs99 q144 q1755 x3pd_movesAll (by decide) (by decide) bW_O x3c rfl (Nat.le_of_ble_eq_true rfl) ⟨Nat.zero_le _, Nat.zero_le _⟩ dX3_keepsAct_56 rfl ?_
    refine go_aload_n (pc := 59) C dX3_keepsAct_59 rfl 0 rfl ?_
    refine go_dup (pc := 60) C dX3_keepsAct_60 rfl ?_
    refine x3gi_55 (pc := 61) C dX3_keepsAct_61 ?_
    refine go_iconst (pc := 64) (v := (1 : Int32)) C dX3_keepsAct_64 (by decide) ?_
    refine go_iadd (pc := 65) C dX3_keepsAct_65 ?_
    refine x3pi_55 (pc := 66) C dX3_keepsAct_66 ?_
    exact (hE 0 0 _ _ _ (Nat.zero_le _) (Nat.zero_le _)).2.2.2.1 rfl dX3_keepsAct_69 ⟨rfl, congrArg (fun z => bW Γ.d 3 FK3 a z) (some1 h)⟩
  · refine go_bipush (pc := 9) (v := (77 : Int32)) C dX3_keepsAct_9 (by decide) ?_
    refine go_istore_n (pc := 11) C hN dX3_keepsAct_11 rfl (by decide) rfl ?_
    refine go_sub [1, 0] rfl ?_
    exact w3_keepsAct_12 hN C hE FU (s0, (77 : Int32)) h
theorem w3_ropeGoes_2 {Γ : Gam} {a : Nat → Nat} {s9 : Bl} (hN : Γ.nL = 3) (C : Cx Γ cX3_ropeGoes RX3 (0, 0, 0) 0) (hE : Rets Γ cX3_ropeGoes none 0 0 (fun v w => v = none ∧ w = (bW Γ.d 3 FK3 a s9))) : ∀ (n : Nat) (s : Bl × Int32), loop (g3_ropeGoes_2) n s = some s9 → (fun s : Bl × Int32 => Go Γ 0 0 (bW Γ.d 3 FK3 a s.1) 2 [(0, .ref (a 0)), (2, .int s.2)] []) s := by
  refine loop_walk (P := fun s : Bl × Int32 => Go Γ 0 0 (bW Γ.d 3 FK3 a s.1) 2 [(0, .ref (a 0)), (2, .int s.2)] []) ?_
  intro K2 hK2 s h
  obtain ⟨s0, v2⟩ := s
  dsimp only [g3_ropeGoes_2] at h
  show Go Γ 0 0 (bW Γ.d 3 FK3 a s0) 2 [(0, .ref (a 0)), (2, .int v2)] []
  refine go_iload_n (pc := 2) C dX3_ropeGoes_2 rfl 1 rfl ?_
  refine go_iconst (pc := 3) (v := (1 : Int32)) C dX3_ropeGoes_3 (by decide) ?_
  refine go_iadd (pc := 4) C dX3_ropeGoes_4 ?_
  refine go_aload_n (pc := 5) C dX3_ropeGoes_5 rfl 0 rfl ?_
  refine x3gr_1 (pc := 6) C dX3_ropeGoes_6 ?_
  refine go_iconst (pc := 9) (v := (4 : Int32)) C dX3_ropeGoes_9 (by decide) ?_
  refine go_ialdK (pc := 10) (j := 4) C x3aA_1 (by decide) (by decide) dX3_ropeGoes_10 ?_
  refine go_icmp_ge (pc := 11) (tgt := 62) C dX3_ropeGoes_11 (by decide) h (fun h => ?_) (fun h => ?_)
  · refine go_aload_n (pc := 62) C dX3_ropeGoes_62 rfl 0 rfl ?_
    refine x3gr_1 (pc := 63) C dX3_ropeGoes_63 ?_
    refine go_iconst (pc := 66) (v := (4 : Int32)) C dX3_ropeGoes_66 (by decide) ?_
    refine go_dup2 (pc := 67) C dX3_ropeGoes_67 rfl rfl ?_
    refine go_ialdK (pc := 68) (j := 4) C x3aA_1 (by decide) (by decide) dX3_ropeGoes_68 ?_
    refine go_iconst (pc := 69) (v := (1 : Int32)) C dX3_ropeGoes_69 (by decide) ?_
    refine go_isub (pc := 70) C dX3_ropeGoes_70 ?_
    refine go_iastK (pc := 71) (j := 4) C x3pA_1 (by decide) (by decide) dX3_ropeGoes_71 ?_
    exact (hE 0 0 _ _ _ (Nat.zero_le _) (Nat.zero_le _)).2.2.2.1 rfl dX3_ropeGoes_72 ⟨rfl, congrArg (fun z => bW Γ.d 3 FK3 a z) (some1 h)⟩
  · refine go_aload_n (pc := 14) C dX3_ropeGoes_14 rfl 0 rfl ?_
    refine x3gr_11 (pc := 15) C dX3_ropeGoes_15 ?_
    refine go_iload_n (pc := 18) C dX3_ropeGoes_18 rfl 1 rfl ?_
    refine go_aload_n (pc := 19) C dX3_ropeGoes_19 rfl 0 rfl ?_
    refine x3gr_11 (pc := 20) C dX3_ropeGoes_20 ?_
    refine go_iload_n (pc := 23) C dX3_ropeGoes_23 rfl 1 rfl ?_
    refine go_iconst (pc := 24) (v := (1 : Int32)) C dX3_ropeGoes_24 (by decide) ?_
    refine go_iadd (pc := 25) C dX3_ropeGoes_25 ?_
    refine go_iald (pc := 26) C x3aA_11 h dX3_ropeGoes_26 (fun h => ?_)
    refine go_iast (pc := 27) C x3pA_11 h dX3_ropeGoes_27 (fun h => ?_)
    refine go_aload_n (pc := 28) C dX3_ropeGoes_28 rfl 0 rfl ?_
    refine x3gr_12 (pc := 29) C dX3_ropeGoes_29 ?_
    refine go_iload_n (pc := 32) C dX3_ropeGoes_32 rfl 1 rfl ?_
    refine go_aload_n (pc := 33) C dX3_ropeGoes_33 rfl 0 rfl ?_
    refine x3gr_12 (pc := 34) C dX3_ropeGoes_34 ?_
    refine go_iload_n (pc := 37) C dX3_ropeGoes_37 rfl 1 rfl ?_
    refine go_iconst (pc := 38) (v := (1 : Int32)) C dX3_ropeGoes_38 (by decide) ?_
    refine go_iadd (pc := 39) C dX3_ropeGoes_39 ?_
    refine go_iald (pc := 40) C x3aA_12 h dX3_ropeGoes_40 (fun h => ?_)
    refine go_iast (pc := 41) C x3pA_12 h dX3_ropeGoes_41 (fun h => ?_)
    refine go_nm (pc := 42) (fun z9 => (bW Γ.d 3 FK3 a z9)) (fun s1 es1 => ?_)
    have h := ltv_eq es1 h
    refine go_aload_n (pc := 42) C dX3_ropeGoes_42 rfl 0 rfl ?_
    refine x3gr_13 (pc := 43) C dX3_ropeGoes_43 ?_
    refine go_iload_n (pc := 46) C dX3_ropeGoes_46 rfl 1 rfl ?_
    refine go_aload_n (pc := 47) C dX3_ropeGoes_47 rfl 0 rfl ?_
    refine x3gr_13 (pc := 48) C dX3_ropeGoes_48 ?_
    refine go_iload_n (pc := 51) C dX3_ropeGoes_51 rfl 1 rfl ?_
    refine go_iconst (pc := 52) (v := (1 : Int32)) C dX3_ropeGoes_52 (by decide) ?_
    refine go_iadd (pc := 53) C dX3_ropeGoes_53 ?_
    refine go_iald (pc := 54) C x3aA_13 h dX3_ropeGoes_54 (fun h => ?_)
    refine go_iast (pc := 55) C x3pA_13 h dX3_ropeGoes_55 (fun h => ?_)
    refine go_iinc (pc := 56) (v := (v2 + (1 : Int32))) C hN dX3_ropeGoes_56 (q := 1) rfl rfl (by decide) rfl ?_
    refine go_goto (pc := 59) (tgt := 2) C dX3_ropeGoes_59 (by decide) ?_
    refine go_sub [1, 0] rfl ?_
    exact hK2 ((bA s1 13 (v2).toNatClampNeg (s1.2.1 13 ((v2 + (1 : Int32))).toNatClampNeg)), (v2 + (1 : Int32))) h
theorem m3_ropeGoes {l : Launch} {d : gD} {a : Nat → Nat} {s0 : Bl} {v1 : Int32} {s9 : Bl} (h : f3_ropeGoes s0 v1 = some s9) : Mt l d yX3_ropeGoes cX3_ropeGoes 3 none (0, 0, 0) 0 (bW d 3 FK3 a s0) [.ref (a 0), .int v1] (fun v w => v = none ∧ w = (bW d 3 FK3 a s9)) := by
  refine Mt.of x3pn (Nat.le_of_ble_eq_true rfl) ?_
  intro Γ hl hd hN C hE
  subst hl; subst hd
  show Go Γ 0 0 (bW Γ.d 3 FK3 a s0) 0 [(0, .ref (a 0)), (1, .int v1)] []
  dsimp only [f3_ropeGoes] at h
  refine go_iload_n (pc := 0) C dX3_ropeGoes_0 rfl 1 rfl ?_
  refine go_istore_n (pc := 1) C hN dX3_ropeGoes_1 rfl (by decide) rfl ?_
  refine go_sub [1, 0] rfl ?_
  exact w3_ropeGoes_2 hN C hE FU (s0, v1) h
theorem w3_ropesGoOf_45 {Γ : Gam} {a : Nat → Nat} {v1 : Int32} {v2 : Int32} {s0 : Bl} {v3 : Int32} {v4 : Int32} {r9 : Int32} {s9 : Bl} {K12 : Bl × Int32 × Int32 → Option (Int32 × Bl)} (hN : Γ.nL = 5) (C : Cx Γ cX3_ropesGoOf RX3 (1, 0, 0) 22) (hE : Rets Γ cX3_ropesGoOf (some .int) 0 0 (fun v w => v = some (.int r9) ∧ w = (bW Γ.d 3 FK3 a s9)))
    (hK12 : ∀ s, K12 s = some (r9, s9) → (fun s : Bl × Int32 × Int32 => Go Γ 0 0 (bW Γ.d 3 FK3 a s.1) 12 [(0, .ref (a 0)), (1, .int v1), (2, .int v2), (3, .int s.2.1), (4, .int s.2.2)] []) s) (h : g3_ropesGoOf_45 K12 s0 v1 v2 v3 v4 = some (r9, s9)) : Go Γ 0 0 (bW Γ.d 3 FK3 a s0) 45 [(0, .ref (a 0)), (1, .int v1), (2, .int v2), (3, .int v3), (4, .int v4)] [] := by
  dsimp only [g3_ropesGoOf_45] at h
  refine go_aload_n (pc := 45) C dX3_ropesGoOf_45 rfl 0 rfl ?_
  refine x3gr_1 (pc := 46) C dX3_ropesGoOf_46 ?_
  refine go_iconst (pc := 49) (v := (1 : Int32)) C dX3_ropesGoOf_49 (by decide) ?_
  refine go_dup2 (pc := 50) C dX3_ropesGoOf_50 rfl rfl ?_
  refine go_ialdK (pc := 51) (j := 1) C x3aA_1 (by decide) (by decide) dX3_ropesGoOf_51 ?_
  refine go_iload_n (pc := 52) C dX3_ropesGoOf_52 rfl 2 rfl ?_
  refine go_if_eq (pc := 53) (tgt := 66) C dX3_ropesGoOf_53 (by decide) h (fun h => ?_) (fun h => ?_)
  · refine go_iconst (pc := 66) (v := (0 : Int32)) C dX3_ropesGoOf_66 (by decide) ?_
    refine go_iadd (pc := 67) C dX3_ropesGoOf_67 ?_
    refine go_iastK (pc := 68) (j := 1) C x3pA_1 (by decide) (by decide) dX3_ropesGoOf_68 ?_
    refine go_aload_n (pc := 69) C dX3_ropesGoOf_69 rfl 0 rfl ?_
    refine go_iload (pc := 70) C dX3_ropesGoOf_70 4 rfl ?_
    obtain ⟨s2, e2, h⟩ := bnd_some h
    refine go_callVv (pc := 72) C [.int v4] (m3_ropeGoes e2) q1784 q1786 qs106 q144 q1787 x3pd_ropeGoes (by decide) (by decide) bW_O x3c rfl (Nat.le_of_ble_eq_true rfl) ⟨Nat.zero_le _, Nat.zero_le _⟩ dX3_ropesGoOf_72 rfl ?_
    refine go_iinc (pc := 75) (v := (v3 + (1 : Int32))) C hN dX3_ropesGoOf_75 (q := 3) rfl rfl (by decide) rfl ?_
    refine go_iinc (pc := 78) (v := (v4 + (-1 : Int32))) C hN dX3_ropesGoOf_78 (q := 4) rfl rfl (by decide) rfl ?_
    refine go_goto (pc := 81) (tgt := 12) C dX3_ropesGoOf_81 (by decide) ?_
    refine go_sub [2, 3, 4, 1, 0] rfl ?_
    exact hK12 (s2, (v3 + (1 : Int32)), (v4 + (-1 : Int32))) h
  · refine go_aload_n (pc := 56) C dX3_ropesGoOf_56 rfl 0 rfl ?_
    refine x3gr_13 (pc := 57) C dX3_ropesGoOf_57 ?_
    refine go_iload (pc := 60) C dX3_ropesGoOf_60 4 rfl ?_
    refine go_iald (pc := 62) C x3aA_13 h dX3_ropesGoOf_62 (fun h => ?_)
    refine go_goto (pc := 63) (tgt := 67) C dX3_ropesGoOf_63 (by decide) ?_
    refine go_iadd (pc := 67) C dX3_ropesGoOf_67 ?_
    refine go_iastK (pc := 68) (j := 1) C x3pA_1 (by decide) (by decide) dX3_ropesGoOf_68 ?_
    refine go_aload_n (pc := 69) C dX3_ropesGoOf_69 rfl 0 rfl ?_
    refine go_iload (pc := 70) C dX3_ropesGoOf_70 4 rfl ?_
    obtain ⟨s3, e3, h⟩ := bnd_some h
    refine go_callVv (pc := 72) C [.int v4] (m3_ropeGoes e3) q1784 q1786 qs106 q144 q1787 x3pd_ropeGoes (by decide) (by decide) bW_O x3c rfl (Nat.le_of_ble_eq_true rfl) ⟨Nat.zero_le _, Nat.zero_le _⟩ dX3_ropesGoOf_72 rfl ?_
    refine go_iinc (pc := 75) (v := (v3 + (1 : Int32))) C hN dX3_ropesGoOf_75 (q := 3) rfl rfl (by decide) rfl ?_
    refine go_iinc (pc := 78) (v := (v4 + (-1 : Int32))) C hN dX3_ropesGoOf_78 (q := 4) rfl rfl (by decide) rfl ?_
    refine go_goto (pc := 81) (tgt := 12) C dX3_ropesGoOf_81 (by decide) ?_
    refine go_sub [2, 3, 4, 1, 0] rfl ?_
    exact hK12 (s3, (v3 + (1 : Int32)), (v4 + (-1 : Int32))) h
theorem w3_ropesGoOf_12 {Γ : Gam} {a : Nat → Nat} {v1 : Int32} {v2 : Int32} {r9 : Int32} {s9 : Bl} (hN : Γ.nL = 5) (C : Cx Γ cX3_ropesGoOf RX3 (1, 0, 0) 22) (hE : Rets Γ cX3_ropesGoOf (some .int) 0 0 (fun v w => v = some (.int r9) ∧ w = (bW Γ.d 3 FK3 a s9))) : ∀ (n : Nat) (s : Bl × Int32 × Int32), loop (g3_ropesGoOf_12 v1 v2) n s = some (r9, s9) → (fun s : Bl × Int32 × Int32 => Go Γ 0 0 (bW Γ.d 3 FK3 a s.1) 12 [(0, .ref (a 0)), (1, .int v1), (2, .int v2), (3, .int s.2.1), (4, .int s.2.2)] []) s := by
  refine loop_walk (P := fun s : Bl × Int32 × Int32 => Go Γ 0 0 (bW Γ.d 3 FK3 a s.1) 12 [(0, .ref (a 0)), (1, .int v1), (2, .int v2), (3, .int s.2.1), (4, .int s.2.2)] []) ?_
  intro K12 hK12 s h
  obtain ⟨s0, v3, v4⟩ := s
  dsimp only [g3_ropesGoOf_12] at h
  show Go Γ 0 0 (bW Γ.d 3 FK3 a s0) 12 [(0, .ref (a 0)), (1, .int v1), (2, .int v2), (3, .int v3), (4, .int v4)] []
  refine go_iload (pc := 12) C dX3_ropesGoOf_12 4 rfl ?_
  refine go_if_lt (pc := 14) (tgt := 84) C dX3_ropesGoOf_14 (by decide) h (fun h => ?_) (fun h => ?_)
  · refine go_iload_n (pc := 84) C dX3_ropesGoOf_84 rfl 3 rfl ?_
    exact (hE 0 0 _ _ _ (Nat.zero_le _) (Nat.zero_le _)).1 _ rfl dX3_ropesGoOf_85 ⟨congrArg (fun z => some (Value.int z)) (some2 h).1, congrArg (fun z => bW Γ.d 3 FK3 a z) (some2 h).2⟩
  · refine go_iload_n (pc := 17) C dX3_ropesGoOf_17 rfl 1 rfl ?_
    refine go_aload_n (pc := 18) C dX3_ropesGoOf_18 rfl 0 rfl ?_
    refine x3gr_11 (pc := 19) C dX3_ropesGoOf_19 ?_
    refine go_iload (pc := 22) C dX3_ropesGoOf_22 4 rfl ?_
    refine go_iald (pc := 24) C x3aA_11 h dX3_ropesGoOf_24 (fun h => ?_)
    obtain ⟨r1, e1, h⟩ := bnd_some h
    refine go_callSi (pc := 25) C [.int v1, .int (s0.2.1 11 (v4).toNatClampNeg)] (m3_has e1) q1682 q1683 q144 q1684 x3pd_has (by decide) (by decide) rfl (Nat.le_of_ble_eq_true rfl) ⟨Nat.zero_le _, Nat.zero_le _⟩ dX3_ropesGoOf_25 rfl ?_
    refine go_if_ne (pc := 28) (tgt := 45) C dX3_ropesGoOf_28 (by decide) h (fun h => ?_) (fun h => ?_)
    · exact w3_ropesGoOf_45 hN C hE hK12 h
    · refine go_iload_n (pc := 31) C dX3_ropesGoOf_31 rfl 1 rfl ?_
      refine go_aload_n (pc := 32) C dX3_ropesGoOf_32 rfl 0 rfl ?_
      refine x3gr_12 (pc := 33) C dX3_ropesGoOf_33 ?_
      refine go_iload (pc := 36) C dX3_ropesGoOf_36 4 rfl ?_
      refine go_iald (pc := 38) C x3aA_12 h dX3_ropesGoOf_38 (fun h => ?_)
      obtain ⟨r4, e4, h⟩ := bnd_some h
      refine go_callSi (pc := 39) C [.int v1, .int (s0.2.1 12 (v4).toNatClampNeg)] (m3_has e4) q1682 q1683 q144 q1684 x3pd_has (by decide) (by decide) rfl (Nat.le_of_ble_eq_true rfl) ⟨Nat.zero_le _, Nat.zero_le _⟩ dX3_ropesGoOf_39 rfl ?_
      refine go_if_eq (pc := 42) (tgt := 78) C dX3_ropesGoOf_42 (by decide) h (fun h => ?_) (fun h => ?_)
      · refine go_iinc (pc := 78) (v := (v4 + (-1 : Int32))) C hN dX3_ropesGoOf_78 (q := 4) rfl rfl (by decide) rfl ?_
        refine go_goto (pc := 81) (tgt := 12) C dX3_ropesGoOf_81 (by decide) ?_
        refine go_sub [1, 2, 3, 4, 0] rfl ?_
        exact hK12 (s0, v3, (v4 + (-1 : Int32))) h
      · exact w3_ropesGoOf_45 hN C hE hK12 h
theorem m3_ropesGoOf {l : Launch} {d : gD} {a : Nat → Nat} {s0 : Bl} {v1 : Int32} {v2 : Int32} {r9 : Int32} {s9 : Bl} (h : f3_ropesGoOf s0 v1 v2 = some (r9, s9)) : Mt l d yX3_ropesGoOf cX3_ropesGoOf 5 (some .int) (1, 0, 0) 22 (bW d 3 FK3 a s0) [.ref (a 0), .int v1, .int v2] (fun v w => v = some (.int r9) ∧ w = (bW d 3 FK3 a s9)) := by
  refine Mt.of x3pn (Nat.le_of_ble_eq_true rfl) ?_
  intro Γ hl hd hN C hE
  subst hl; subst hd
  show Go Γ 0 0 (bW Γ.d 3 FK3 a s0) 0 [(0, .ref (a 0)), (1, .int v1), (2, .int v2)] []
  dsimp only [f3_ropesGoOf] at h
  refine go_iconst (pc := 0) (v := (0 : Int32)) C dX3_ropesGoOf_0 (by decide) ?_
  refine go_istore_n (pc := 1) C hN dX3_ropesGoOf_1 rfl (by decide) rfl ?_
  refine go_aload_n (pc := 2) C dX3_ropesGoOf_2 rfl 1 rfl ?_
  refine x3gr_1 (pc := 3) C dX3_ropesGoOf_3 ?_
  refine go_iconst (pc := 6) (v := (4 : Int32)) C dX3_ropesGoOf_6 (by decide) ?_
  refine go_ialdK (pc := 7) (j := 4) C x3aA_1 (by decide) (by decide) dX3_ropesGoOf_7 ?_
  refine go_iconst (pc := 8) (v := (1 : Int32)) C dX3_ropesGoOf_8 (by decide) ?_
  refine go_isub (pc := 9) C dX3_ropesGoOf_9 ?_
  refine go_istore (pc := 10) C hN dX3_ropesGoOf_10 (by decide) rfl ?_
  refine go_sub [2, 3, 4, 1, 0] rfl ?_
  exact w3_ropesGoOf_12 hN C hE FU (s0, (0 : Int32), ((s0.2.1 1 4) - (1 : Int32))) h
theorem w3_bits_4 {Γ : Gam} {ws : va_W} {v0 : Int32} {r9 : Int32} (hN : Γ.nL = 3) (C : Cx Γ cX3_bits RX3 (0, 0, 0) 0) (hE : Rets Γ cX3_bits (some .int) 0 0 (fun v w => v = some (.int r9) ∧ w = ws)) : ∀ (n : Nat) (s : Int32 × Int32), loop (g3_bits_4 v0) n s = some r9 → (fun s : Int32 × Int32 => Go Γ 0 0 ws 4 [(0, .int v0), (1, .int s.1), (2, .int s.2)] []) s := by
  refine loop_walk (P := fun s : Int32 × Int32 => Go Γ 0 0 ws 4 [(0, .int v0), (1, .int s.1), (2, .int s.2)] []) ?_
  intro K4 hK4 s h
  obtain ⟨v1, v2⟩ := s
  dsimp only [g3_bits_4] at h
  show Go Γ 0 0 ws 4 [(0, .int v0), (1, .int v1), (2, .int v2)] []
  refine go_iload_n (pc := 4) C dX3_bits_4 rfl 2 rfl ?_
  refine go_bipush (pc := 5) (v := (16 : Int32)) C dX3_bits_5 (by decide) ?_
  refine go_icmp_ge (pc := 7) (tgt := 24) C dX3_bits_7 (by decide) h (fun h => ?_) (fun h => ?_)
  · refine go_iload_n (pc := 24) C dX3_bits_24 rfl 1 rfl ?_
    exact (hE 0 0 _ _ _ (Nat.zero_le _) (Nat.zero_le _)).1 _ rfl dX3_bits_25 ⟨congrArg (fun z => some (Value.int z)) (some1 h), rfl⟩
  · refine go_iload_n (pc := 10) C dX3_bits_10 rfl 1 rfl ?_
    refine go_iload_n (pc := 11) C dX3_bits_11 rfl 0 rfl ?_
    refine go_iload_n (pc := 12) C dX3_bits_12 rfl 2 rfl ?_
    refine go_ishr (pc := 13) C dX3_bits_13 ?_
    refine go_iconst (pc := 14) (v := (1 : Int32)) C dX3_bits_14 (by decide) ?_
    refine go_iand (pc := 15) C dX3_bits_15 ?_
    refine go_iadd (pc := 16) C dX3_bits_16 ?_
    refine go_istore_n (pc := 17) C hN dX3_bits_17 rfl (by decide) rfl ?_
    refine go_iinc (pc := 18) (v := (v2 + (1 : Int32))) C hN dX3_bits_18 (q := 2) rfl rfl (by decide) rfl ?_
    refine go_goto (pc := 21) (tgt := 4) C dX3_bits_21 (by decide) ?_
    refine go_sub [2, 1, 0] rfl ?_
    exact hK4 ((v1 + ((v0 >>> (v2 &&& 31)) &&& (1 : Int32))), (v2 + (1 : Int32))) h
theorem m3_bits {l : Launch} {d : gD} {ws : va_W} {v0 : Int32} {r9 : Int32} (h : f3_bits v0 = some r9) : Mt l d yX3_bits cX3_bits 3 (some .int) (0, 0, 0) 0 ws [.int v0] (fun v w => v = some (.int r9) ∧ w = ws) := by
  refine Mt.of x3pn (Nat.le_of_ble_eq_true rfl) ?_
  intro Γ hl hd hN C hE
  subst hl; subst hd
  show Go Γ 0 0 ws 0 [(0, .int v0)] []
  dsimp only [f3_bits] at h
  refine go_iconst (pc := 0) (v := (0 : Int32)) C dX3_bits_0 (by decide) ?_
  refine go_istore_n (pc := 1) C hN dX3_bits_1 rfl (by decide) rfl ?_
  refine go_iconst (pc := 2) (v := (0 : Int32)) C dX3_bits_2 (by decide) ?_
  refine go_istore_n (pc := 3) C hN dX3_bits_3 rfl (by decide) rfl ?_
  refine go_sub [2, 1, 0] rfl ?_
  exact w3_bits_4 hN C hE FU ((0 : Int32), (0 : Int32)) h
theorem w3_lands_108 {Γ : Gam} {a : Nat → Nat} {v1 : Int32} {s9 : Bl} (hN : Γ.nL = 4) (C : Cx Γ cX3_lands RX3 (2, 0, 0) 46) (hE : Rets Γ cX3_lands none 0 0 (fun v w => v = none ∧ w = (bW Γ.d 3 FK3 a s9))) : ∀ (n : Nat) (s : Bl × Int32), loop (g3_lands_108 v1) n s = some s9 → (fun s : Bl × Int32 => Go Γ 0 0 (bW Γ.d 3 FK3 a s.1) 108 [(0, .ref (a 0)), (1, .int v1), (2, .int s.2)] []) s := by
  refine loop_walk (P := fun s : Bl × Int32 => Go Γ 0 0 (bW Γ.d 3 FK3 a s.1) 108 [(0, .ref (a 0)), (1, .int v1), (2, .int s.2)] []) ?_
  intro K108 hK108 s h
  obtain ⟨s0, v2⟩ := s
  dsimp only [g3_lands_108] at h
  show Go Γ 0 0 (bW Γ.d 3 FK3 a s0) 108 [(0, .ref (a 0)), (1, .int v1), (2, .int v2)] []
  refine go_iload_n (pc := 108) C dX3_lands_108 rfl 2 rfl ?_
  refine go_aload_n (pc := 109) C dX3_lands_109 rfl 0 rfl ?_
  refine x3gr_1 (pc := 110) C dX3_lands_110 ?_
  refine go_iconst (pc := 113) (v := (3 : Int32)) C dX3_lands_113 (by decide) ?_
  refine go_ialdK (pc := 114) (j := 3) C x3aA_1 (by decide) (by decide) dX3_lands_114 ?_
  refine go_icmp_ge (pc := 115) (tgt := 148) C dX3_lands_115 (by decide) h (fun h => ?_) (fun h => ?_)
  · refine go_aload_n (pc := 148) C dX3_lands_148 rfl 0 rfl ?_
    refine go_iload_n (pc := 149) C dX3_lands_149 rfl 1 rfl ?_
    obtain ⟨r2, e2, h⟩ := bnd_some h
    refine go_callSi (pc := 150) C [.int v1] (m3_bits e2) q1796 q1797 q144 q1798 x3pd_bits (by decide) (by decide) rfl (Nat.le_of_ble_eq_true rfl) ⟨Nat.zero_le _, Nat.zero_le _⟩ dX3_lands_150 rfl ?_
    refine x3pi_51 (pc := 153) C dX3_lands_153 ?_
    exact (hE 0 0 _ _ _ (Nat.zero_le _) (Nat.zero_le _)).2.2.2.1 rfl dX3_lands_156 ⟨rfl, congrArg (fun z => bW Γ.d 3 FK3 a z) (some1 h)⟩
  · refine go_aload_n (pc := 118) C dX3_lands_118 rfl 0 rfl ?_
    refine x3gr_9 (pc := 119) C dX3_lands_119 ?_
    refine go_iload_n (pc := 122) C dX3_lands_122 rfl 2 rfl ?_
    refine go_iload_n (pc := 123) C dX3_lands_123 rfl 1 rfl ?_
    refine go_iload_n (pc := 124) C dX3_lands_124 rfl 2 rfl ?_
    obtain ⟨r3, e3, h⟩ := bnd_some h
    refine go_callSi (pc := 125) C [.int v1, .int v2] (m3_has e3) q1682 q1683 q144 q1684 x3pd_has (by decide) (by decide) rfl (Nat.le_of_ble_eq_true rfl) ⟨Nat.zero_le _, Nat.zero_le _⟩ dX3_lands_125 rfl ?_
    refine go_if_eq (pc := 128) (tgt := 135) C dX3_lands_128 (by decide) h (fun h => ?_) (fun h => ?_)
    · refine go_aload_n (pc := 135) C dX3_lands_135 rfl 0 rfl ?_
      refine x3gr_9 (pc := 136) C dX3_lands_136 ?_
      refine go_iload_n (pc := 139) C dX3_lands_139 rfl 2 rfl ?_
      refine go_iald (pc := 140) C x3aA_9 h dX3_lands_140 (fun h => ?_)
      refine go_iast (pc := 141) C x3pA_9 h dX3_lands_141 (fun h => ?_)
      refine go_iinc (pc := 142) (v := (v2 + (1 : Int32))) C hN dX3_lands_142 (q := 2) rfl rfl (by decide) rfl ?_
      refine go_goto (pc := 145) (tgt := 108) C dX3_lands_145 (by decide) ?_
      refine go_sub [1, 2, 0] rfl ?_
      exact hK108 ((bA s0 9 (v2).toNatClampNeg (s0.2.1 9 (v2).toNatClampNeg)), (v2 + (1 : Int32))) h
    · refine go_iconst (pc := 131) (v := (1 : Int32)) C dX3_lands_131 (by decide) ?_
      refine go_goto (pc := 132) (tgt := 141) C dX3_lands_132 (by decide) ?_
      refine go_iast (pc := 141) C x3pA_9 h dX3_lands_141 (fun h => ?_)
      refine go_iinc (pc := 142) (v := (v2 + (1 : Int32))) C hN dX3_lands_142 (q := 2) rfl rfl (by decide) rfl ?_
      refine go_goto (pc := 145) (tgt := 108) C dX3_lands_145 (by decide) ?_
      refine go_sub [1, 2, 0] rfl ?_
      exact hK108 ((bA s0 9 (v2).toNatClampNeg (1 : Int32)), (v2 + (1 : Int32))) h
theorem w3_lands_48 {Γ : Gam} {a : Nat → Nat} {s0 : Bl} {v2 : Int32} {s9 : Bl} {K4 : Bl × Int32 × Int32 → Option Bl} (hN : Γ.nL = 4) (C : Cx Γ cX3_lands RX3 (2, 0, 0) 46) (hE : Rets Γ cX3_lands none 0 0 (fun v w => v = none ∧ w = (bW Γ.d 3 FK3 a s9)))
    (hK4 : ∀ s, K4 s = some s9 → (fun s : Bl × Int32 × Int32 => Go Γ 0 0 (bW Γ.d 3 FK3 a s.1) 4 [(0, .ref (a 0)), (1, .int s.2.1), (2, .int s.2.2)] []) s) : ∀ (n : Nat) (s : Int32 × Int32), loop (g3_lands_48 s0 v2 K4) n s = some s9 → (fun s : Int32 × Int32 => Go Γ 0 0 (bW Γ.d 3 FK3 a s0) 48 [(0, .ref (a 0)), (1, .int s.1), (2, .int v2), (3, .int s.2)] []) s := by
  refine loop_walk (P := fun s : Int32 × Int32 => Go Γ 0 0 (bW Γ.d 3 FK3 a s0) 48 [(0, .ref (a 0)), (1, .int s.1), (2, .int v2), (3, .int s.2)] []) ?_
  intro K48 hK48 s h
  obtain ⟨v1, v3⟩ := s
  dsimp only [g3_lands_48] at h
  show Go Γ 0 0 (bW Γ.d 3 FK3 a s0) 48 [(0, .ref (a 0)), (1, .int v1), (2, .int v2), (3, .int v3)] []
  refine go_iload_n (pc := 48) C dX3_lands_48 rfl 3 rfl ?_
  refine go_aload_n (pc := 49) C dX3_lands_49 rfl 0 rfl ?_
  refine x3gr_1 (pc := 50) C dX3_lands_50 ?_
  refine go_iconst (pc := 53) (v := (3 : Int32)) C dX3_lands_53 (by decide) ?_
  refine go_ialdK (pc := 54) (j := 3) C x3aA_1 (by decide) (by decide) dX3_lands_54 ?_
  refine go_icmp_ge (pc := 55) (tgt := 93) C dX3_lands_55 (by decide) h (fun h => ?_) (fun h => ?_)
  · refine go_iinc (pc := 93) (v := (v2 + (1 : Int32))) C hN dX3_lands_93 (q := 2) rfl rfl (by decide) rfl ?_
    refine go_goto (pc := 96) (tgt := 4) C dX3_lands_96 (by decide) ?_
    refine go_sub [1, 2, 0] rfl ?_
    exact hK4 (s0, v1, (v2 + (1 : Int32))) h
  · refine go_iload_n (pc := 58) C dX3_lands_58 rfl 1 rfl ?_
    refine go_aload_n (pc := 59) C dX3_lands_59 rfl 0 rfl ?_
    refine x3gr_9 (pc := 60) C dX3_lands_60 ?_
    refine go_iload_n (pc := 63) C dX3_lands_63 rfl 3 rfl ?_
    refine go_iald (pc := 64) C x3aA_9 h dX3_lands_64 (fun h => ?_)
    refine go_if_ne (pc := 65) (tgt := 84) C dX3_lands_65 (by decide) h (fun h => ?_) (fun h => ?_)
    · refine go_iconst (pc := 84) (v := (0 : Int32)) C dX3_lands_84 (by decide) ?_
      refine go_ior (pc := 85) C dX3_lands_85 ?_
      refine go_istore_n (pc := 86) C hN dX3_lands_86 rfl (by decide) rfl ?_
      refine go_iinc (pc := 87) (v := (v3 + (1 : Int32))) C hN dX3_lands_87 (q := 3) rfl rfl (by decide) rfl ?_
      refine go_goto (pc := 90) (tgt := 48) C dX3_lands_90 (by decide) ?_
      refine go_sub [2, 1, 3, 0] rfl ?_
      exact hK48 ((v1 ||| (0 : Int32)), (v3 + (1 : Int32))) h
    · refine go_aload_n (pc := 68) C dX3_lands_68 rfl 0 rfl ?_
      refine x3gr_5 (pc := 69) C dX3_lands_69 ?_
      refine go_iload_n (pc := 72) C dX3_lands_72 rfl 3 rfl ?_
      refine go_iald (pc := 73) C x3aA_5 h dX3_lands_73 (fun h => ?_)
      refine go_iload_n (pc := 74) C dX3_lands_74 rfl 2 rfl ?_
      refine go_icmp_ne (pc := 75) (tgt := 84) C dX3_lands_75 (by decide) h (fun h => ?_) (fun h => ?_)
      · refine go_iconst (pc := 84) (v := (0 : Int32)) C dX3_lands_84 (by decide) ?_
        refine go_ior (pc := 85) C dX3_lands_85 ?_
        refine go_istore_n (pc := 86) C hN dX3_lands_86 rfl (by decide) rfl ?_
        refine go_iinc (pc := 87) (v := (v3 + (1 : Int32))) C hN dX3_lands_87 (q := 3) rfl rfl (by decide) rfl ?_
        refine go_goto (pc := 90) (tgt := 48) C dX3_lands_90 (by decide) ?_
        refine go_sub [2, 1, 3, 0] rfl ?_
        exact hK48 ((v1 ||| (0 : Int32)), (v3 + (1 : Int32))) h
      · refine go_iconst (pc := 78) (v := (1 : Int32)) C dX3_lands_78 (by decide) ?_
        refine go_iload_n (pc := 79) C dX3_lands_79 rfl 3 rfl ?_
        refine go_ishl (pc := 80) C dX3_lands_80 ?_
        refine go_goto (pc := 81) (tgt := 85) C dX3_lands_81 (by decide) ?_
        refine go_ior (pc := 85) C dX3_lands_85 ?_
        refine go_istore_n (pc := 86) C hN dX3_lands_86 rfl (by decide) rfl ?_
        refine go_iinc (pc := 87) (v := (v3 + (1 : Int32))) C hN dX3_lands_87 (q := 3) rfl rfl (by decide) rfl ?_
        refine go_goto (pc := 90) (tgt := 48) C dX3_lands_90 (by decide) ?_
        refine go_sub [2, 1, 3, 0] rfl ?_
        exact hK48 ((v1 ||| ((1 : Int32) <<< (v3 &&& 31))), (v3 + (1 : Int32))) h
theorem w3_lands_4 {Γ : Gam} {a : Nat → Nat} {s9 : Bl} (hN : Γ.nL = 4) (C : Cx Γ cX3_lands RX3 (2, 0, 0) 46) (hE : Rets Γ cX3_lands none 0 0 (fun v w => v = none ∧ w = (bW Γ.d 3 FK3 a s9))) : ∀ (n : Nat) (s : Bl × Int32 × Int32), loop (g3_lands_4) n s = some s9 → (fun s : Bl × Int32 × Int32 => Go Γ 0 0 (bW Γ.d 3 FK3 a s.1) 4 [(0, .ref (a 0)), (1, .int s.2.1), (2, .int s.2.2)] []) s := by
  refine loop_walk (P := fun s : Bl × Int32 × Int32 => Go Γ 0 0 (bW Γ.d 3 FK3 a s.1) 4 [(0, .ref (a 0)), (1, .int s.2.1), (2, .int s.2.2)] []) ?_
  intro K4 hK4 s h
  obtain ⟨s0, v1, v2⟩ := s
  dsimp only [g3_lands_4] at h
  show Go Γ 0 0 (bW Γ.d 3 FK3 a s0) 4 [(0, .ref (a 0)), (1, .int v1), (2, .int v2)] []
  refine go_iload_n (pc := 4) C dX3_lands_4 rfl 2 rfl ?_
  refine go_aload_n (pc := 5) C dX3_lands_5 rfl 0 rfl ?_
  refine x3gr_1 (pc := 6) C dX3_lands_6 ?_
  refine go_iconst (pc := 9) (v := (2 : Int32)) C dX3_lands_9 (by decide) ?_
  refine go_ialdK (pc := 10) (j := 2) C x3aA_1 (by decide) (by decide) dX3_lands_10 ?_
  refine go_icmp_ge (pc := 11) (tgt := 99) C dX3_lands_11 (by decide) h (fun h => ?_) (fun h => ?_)
  · refine go_aload_n (pc := 99) C dX3_lands_99 rfl 0 rfl ?_
    refine go_iload_n (pc := 100) C dX3_lands_100 rfl 1 rfl ?_
    refine go_iconst (pc := 101) (v := (1 : Int32)) C dX3_lands_101 (by decide) ?_
    obtain ⟨r1, s1, e1, h⟩ := bnd2_some h
    refine go_callVi (pc := 102) C [.int v1, .int (1 : Int32)] (m3_ropesGoOf e1) q1792 q1794 qs108 q144 q1795 x3pd_ropesGoOf (by decide) (by decide) bW_O x3c rfl (Nat.le_of_ble_eq_true rfl) ⟨Nat.zero_le _, Nat.zero_le _⟩ dX3_lands_102 rfl ?_
    refine go_pop (pc := 105) C dX3_lands_105 rfl ?_
    refine go_iconst (pc := 106) (v := (0 : Int32)) C dX3_lands_106 (by decide) ?_
    refine go_istore_n (pc := 107) C hN dX3_lands_107 rfl (by decide) rfl ?_
    refine go_sub [1, 2, 0] rfl ?_
    exact w3_lands_108 hN C hE FU (s1, (0 : Int32)) h
  · refine go_aload_n (pc := 14) C dX3_lands_14 rfl 0 rfl ?_
    refine x3gr_4 (pc := 15) C dX3_lands_15 ?_
    refine go_iload_n (pc := 18) C dX3_lands_18 rfl 2 rfl ?_
    refine go_iald (pc := 19) C x3aA_4 h dX3_lands_19 (fun h => ?_)
    refine go_if_ne (pc := 20) (tgt := 93) C dX3_lands_20 (by decide) h (fun h => ?_) (fun h => ?_)
    · refine go_iinc (pc := 93) (v := (v2 + (1 : Int32))) C hN dX3_lands_93 (q := 2) rfl rfl (by decide) rfl ?_
      refine go_goto (pc := 96) (tgt := 4) C dX3_lands_96 (by decide) ?_
      refine go_sub [1, 2, 0] rfl ?_
      exact hK4 (s0, v1, (v2 + (1 : Int32))) h
    · refine go_aload_n (pc := 23) C dX3_lands_23 rfl 0 rfl ?_
      refine x3gr_2 (pc := 24) C dX3_lands_24 ?_
      refine go_iload_n (pc := 27) C dX3_lands_27 rfl 2 rfl ?_
      refine go_iald (pc := 28) C x3aA_2 h dX3_lands_28 (fun h => ?_)
      refine go_aload_n (pc := 29) C dX3_lands_29 rfl 0 rfl ?_
      refine x3gr_1 (pc := 30) C dX3_lands_30 ?_
      refine go_bipush (pc := 33) (v := (6 : Int32)) C dX3_lands_33 (by decide) ?_
      refine go_ialdK (pc := 35) (j := 6) C x3aA_1 (by decide) (by decide) dX3_lands_35 ?_
      refine go_icmp_ne (pc := 36) (tgt := 93) C dX3_lands_36 (by decide) h (fun h => ?_) (fun h => ?_)
      · refine go_iinc (pc := 93) (v := (v2 + (1 : Int32))) C hN dX3_lands_93 (q := 2) rfl rfl (by decide) rfl ?_
        refine go_goto (pc := 96) (tgt := 4) C dX3_lands_96 (by decide) ?_
        refine go_sub [1, 2, 0] rfl ?_
        exact hK4 (s0, v1, (v2 + (1 : Int32))) h
      · refine go_aload_n (pc := 39) C dX3_lands_39 rfl 0 rfl ?_
        refine x3gr_4 (pc := 40) C dX3_lands_40 ?_
        refine go_iload_n (pc := 43) C dX3_lands_43 rfl 2 rfl ?_
        refine go_iconst (pc := 44) (v := (1 : Int32)) C dX3_lands_44 (by decide) ?_
        refine go_iast (pc := 45) C x3pA_4 h dX3_lands_45 (fun h => ?_)
        refine go_iconst (pc := 46) (v := (0 : Int32)) C dX3_lands_46 (by decide) ?_
        refine go_istore_n (pc := 47) C hN dX3_lands_47 rfl (by decide) rfl ?_
        refine go_sub [1, 2, 3, 0] rfl ?_
        exact w3_lands_48 hN C hE hK4 FU (v1, (0 : Int32)) h
theorem m3_lands {l : Launch} {d : gD} {a : Nat → Nat} {s0 : Bl} {s9 : Bl} (h : f3_lands s0 = some s9) : Mt l d yX3_lands cX3_lands 4 none (2, 0, 0) 46 (bW d 3 FK3 a s0) [.ref (a 0)] (fun v w => v = none ∧ w = (bW d 3 FK3 a s9)) := by
  refine Mt.of x3pn (Nat.le_of_ble_eq_true rfl) ?_
  intro Γ hl hd hN C hE
  subst hl; subst hd
  show Go Γ 0 0 (bW Γ.d 3 FK3 a s0) 0 [(0, .ref (a 0))] []
  dsimp only [f3_lands] at h
  refine go_iconst (pc := 0) (v := (0 : Int32)) C dX3_lands_0 (by decide) ?_
  refine go_istore_n (pc := 1) C hN dX3_lands_1 rfl (by decide) rfl ?_
  refine go_iconst (pc := 2) (v := (0 : Int32)) C dX3_lands_2 (by decide) ?_
  refine go_istore_n (pc := 3) C hN dX3_lands_3 rfl (by decide) rfl ?_
  refine go_sub [2, 1, 0] rfl ?_
  exact w3_lands_4 hN C hE FU (s0, (0 : Int32), (0 : Int32)) h
theorem w3_sinking_13 {Γ : Gam} {a : Nat → Nat} {s0 : Bl} {v1 : Int32} {v2 : Int32} {r9 : Int32} (hN : Γ.nL = 7) (C : Cx Γ cX3_sinking RX3 (5, 0, 0) 125) (hE : Rets Γ cX3_sinking (some .int) 0 0 (fun v w => v = some (.int r9) ∧ w = (bW Γ.d 3 FK3 a s0))) : ∀ (n : Nat) (s : Int32 × Int32 × Int32), loop (g3_sinking_13 s0 v1 v2) n s = some r9 → (fun s : Int32 × Int32 × Int32 => Go Γ 0 0 (bW Γ.d 3 FK3 a s0) 13 [(0, .ref (a 0)), (1, .int v1), (2, .int v2), (3, .int s.1), (4, .int s.2.1), (5, .int s.2.2)] []) s := by
  refine loop_walk (P := fun s : Int32 × Int32 × Int32 => Go Γ 0 0 (bW Γ.d 3 FK3 a s0) 13 [(0, .ref (a 0)), (1, .int v1), (2, .int v2), (3, .int s.1), (4, .int s.2.1), (5, .int s.2.2)] []) ?_
  intro K13 hK13 s h
  obtain ⟨v3, v4, v5⟩ := s
  dsimp only [g3_sinking_13] at h
  show Go Γ 0 0 (bW Γ.d 3 FK3 a s0) 13 [(0, .ref (a 0)), (1, .int v1), (2, .int v2), (3, .int v3), (4, .int v4), (5, .int v5)] []
  refine go_iload (pc := 13) C dX3_sinking_13 5 rfl ?_
  refine go_aload_n (pc := 15) C dX3_sinking_15 rfl 0 rfl ?_
  refine x3gr_1 (pc := 16) C dX3_sinking_16 ?_
  refine go_iconst (pc := 19) (v := (3 : Int32)) C dX3_sinking_19 (by decide) ?_
  refine go_ialdK (pc := 20) (j := 3) C x3aA_1 (by decide) (by decide) dX3_sinking_20 ?_
  refine go_icmp_ge (pc := 21) (tgt := 85) C dX3_sinking_21 (by decide) h (fun h => ?_) (fun h => ?_)
  · refine go_iload_n (pc := 85) C dX3_sinking_85 rfl 3 rfl ?_
    exact (hE 0 0 _ _ _ (Nat.zero_le _) (Nat.zero_le _)).1 _ rfl dX3_sinking_86 ⟨congrArg (fun z => some (Value.int z)) (some1 h), rfl⟩
  · refine go_iload_n (pc := 24) C dX3_sinking_24 rfl 2 rfl ?_
    refine go_iload (pc := 25) C dX3_sinking_25 5 rfl ?_
    obtain ⟨r2, e2, h⟩ := bnd_some h
    refine go_callSi (pc := 27) C [.int v2, .int v5] (m3_has e2) q1682 q1683 q144 q1684 x3pd_has (by decide) (by decide) rfl (Nat.le_of_ble_eq_true rfl) ⟨Nat.zero_le _, Nat.zero_le _⟩ dX3_sinking_27 rfl ?_
    refine go_if_eq (pc := 30) (tgt := 79) C dX3_sinking_30 (by decide) h (fun h => ?_) (fun h => ?_)
    · refine go_iinc (pc := 79) (v := (v5 + (1 : Int32))) C hN dX3_sinking_79 (q := 5) rfl rfl (by decide) rfl ?_
      refine go_goto (pc := 82) (tgt := 13) C dX3_sinking_82 (by decide) ?_
      refine go_sub [1, 2, 3, 4, 5, 0] rfl ?_
      exact hK13 (v3, v4, (v5 + (1 : Int32))) h
    · refine go_iload (pc := 33) C dX3_sinking_33 4 rfl ?_
      refine go_iload (pc := 35) C dX3_sinking_35 5 rfl ?_
      obtain ⟨r3, e3, h⟩ := bnd_some h
      refine go_callSi (pc := 37) C [.int v4, .int v5] (m3_has e3) q1682 q1683 q144 q1684 x3pd_has (by decide) (by decide) rfl (Nat.le_of_ble_eq_true rfl) ⟨Nat.zero_le _, Nat.zero_le _⟩ dX3_sinking_37 rfl ?_
      refine go_if_ne (pc := 40) (tgt := 79) C dX3_sinking_40 (by decide) h (fun h => ?_) (fun h => ?_)
      · refine go_iinc (pc := 79) (v := (v5 + (1 : Int32))) C hN dX3_sinking_79 (q := 5) rfl rfl (by decide) rfl ?_
        refine go_goto (pc := 82) (tgt := 13) C dX3_sinking_82 (by decide) ?_
        refine go_sub [1, 2, 3, 4, 5, 0] rfl ?_
        exact hK13 (v3, v4, (v5 + (1 : Int32))) h
      · refine go_aload_n (pc := 43) C dX3_sinking_43 rfl 0 rfl ?_
        refine go_iload (pc := 44) C dX3_sinking_44 5 rfl ?_
        refine go_iload_n (pc := 46) C dX3_sinking_46 rfl 2 rfl ?_
        refine go_iload_n (pc := 47) C dX3_sinking_47 rfl 1 rfl ?_
        obtain ⟨r4, e4, h⟩ := bnd_some h
        refine go_callVi (pc := 48) C [.int v5, .int v2, .int v1] (m3_hangsWith e4) q1685 q1687 qs88 q144 q1688 x3pd_hangsWith (by decide) (by decide) bW_O x3c rfl (Nat.le_of_ble_eq_true rfl) ⟨Nat.zero_le _, Nat.zero_le _⟩ dX3_sinking_48 rfl ?_
        refine go_istore (pc := 51) C hN dX3_sinking_51 (by decide) rfl ?_
        refine go_iload (pc := 53) C dX3_sinking_53 5 rfl ?_
        refine go_iload (pc := 55) C dX3_sinking_55 0 rfl ?_
        refine go_ior (pc := 57) C dX3_sinking_57 ?_
        refine go_istore (pc := 58) C hN dX3_sinking_58 (by decide) rfl ?_
        refine go_iload_n (pc := 60) C dX3_sinking_60 rfl 5 rfl ?_
        refine go_aload_n (pc := 61) C dX3_sinking_61 rfl 2 rfl ?_
        refine go_iload (pc := 62) C dX3_sinking_62 1 rfl ?_
        refine go_iload_n (pc := 64) C dX3_sinking_64 rfl 3 rfl ?_
        obtain ⟨r5, e5, h⟩ := bnd_some h
        refine go_callVi (pc := 65) C [.int r4, .int v1] (m3_marginOf e5) q1732 q1734 qs95 q144 q1735 x3pd_marginOf (by decide) (by decide) bW_O x3c rfl (Nat.le_of_ble_eq_true rfl) ⟨Nat.zero_le _, Nat.zero_le _⟩ dX3_sinking_65 rfl ?_
        refine go_if_ge (pc := 68) (tgt := 76) C dX3_sinking_68 (by decide) h (fun h => ?_) (fun h => ?_)
        · refine go_iconst (pc := 76) (v := (0 : Int32)) C dX3_sinking_76 (by decide) ?_
          refine go_ior (pc := 77) C dX3_sinking_77 ?_
          refine go_istore_n (pc := 78) C hN dX3_sinking_78 rfl (by decide) rfl ?_
          refine go_iinc (pc := 79) (v := (v5 + (1 : Int32))) C hN dX3_sinking_79 (q := 6) rfl rfl (by decide) rfl ?_
          refine go_goto (pc := 82) (tgt := 13) C dX3_sinking_82 (by decide) ?_
          refine go_sub [4, 5, 6, 1, 2, 0] rfl ?_
          exact hK13 ((v3 ||| (0 : Int32)), (v4 ||| r4), (v5 + (1 : Int32))) h
        · refine go_iload (pc := 71) C dX3_sinking_71 1 rfl ?_
          refine go_goto (pc := 73) (tgt := 77) C dX3_sinking_73 (by decide) ?_
          refine go_ior (pc := 77) C dX3_sinking_77 ?_
          refine go_istore_n (pc := 78) C hN dX3_sinking_78 rfl (by decide) rfl ?_
          refine go_iinc (pc := 79) (v := (v5 + (1 : Int32))) C hN dX3_sinking_79 (q := 6) rfl rfl (by decide) rfl ?_
          refine go_goto (pc := 82) (tgt := 13) C dX3_sinking_82 (by decide) ?_
          refine go_sub [4, 5, 6, 1, 2, 0] rfl ?_
          exact hK13 ((v3 ||| r4), (v4 ||| r4), (v5 + (1 : Int32))) h
