/-! walks of the raft, printed by gen/raft.py -/
set_option maxRecDepth 100000
set_option maxHeartbeats 4000000
theorem m0_plan {l : Launch} {d : gD} {A : XA} {L : List Nat} {E : va_W} {s0 : (Nat → Bl)} {v1 : Int32} {r9 : Int32} {s9 : (Nat → Bl)} (hL : xOK L) (h : f0_plan s0 v1 = some (r9, s9)) : Mt l d yX0_plan cX0_plan 3 (some .int) (23, 0, 0) 528 (XW d A L E s0) [.ref (A.1 0 0), .int v1] (fun v w => v = some (.int r9) ∧ w = (XW d A L E s9)) := by
  refine Mt.of x0pn (Nat.le_of_ble_eq_true rfl) ?_
  intro Γ hl hd hN C hE
  subst hl; subst hd
  show Go Γ 0 0 (XW Γ.d A L E s0) 0 [(0, .ref (A.1 0 0)), (1, .int v1)] []
  dsimp only [f0_plan] at h
  refine go_aload_n (pc := 0) C dX0_plan_0 rfl 0 rfl ?_
  by_cases c4n : (s0 0).1 0 = 0
  · have h := (if_pos c4n).symm.trans h
    refine X0g_0_0N (pc := 1) C hL c4n dX0_plan_1 ?_
    refine go_ifnullN (pc := 4) (tgt := 21) C dX0_plan_4 (by decide) ?_
    refine go_bipush (pc := 21) (v := (-4 : Int32)) C dX0_plan_21 (by decide) ?_
    exact (hE 0 0 _ _ _ (Nat.zero_le _) (Nat.zero_le _)).1 _ rfl dX0_plan_23 ⟨congrArg (fun z => some (Value.int z)) (some2 h).1, congrArg (fun z => (XW Γ.d A L E z)) (some2 h).2⟩
  · have h := (if_neg c4n).symm.trans h
    refine X0g_0_0 (pc := 1) C hL c4n dX0_plan_1 ?_
    refine go_ifnull (pc := 4) C dX0_plan_4 ?_
    refine go_iload_n (pc := 7) C dX0_plan_7 rfl 1 rfl ?_
    refine go_i2l (pc := 8) C dX0_plan_8 ?_
    refine go_ldc2 (pc := 9) C dX0_plan_9 q1122 ?_
    refine go_ldc2 (pc := 12) C dX0_plan_12 q1123 ?_
    obtain ⟨r1, e1, h⟩ := bnd_some h
    refine go_callSi (pc := 15) C [.long (v1).toInt64, .long (-1 : Int64), .long (6 : Int64)] (m0_in e1) q939 q647 q138 q648 x0pd_in (by decide) (by decide) rfl (Nat.le_of_ble_eq_true rfl) ⟨Nat.zero_le _, Nat.zero_le _⟩ dX0_plan_15 rfl ?_
    refine go_if_ne (pc := 18) (tgt := 24) C dX0_plan_18 (by decide) h (fun h => ?_) (fun h => ?_)
    · refine go_aload_n (pc := 24) C dX0_plan_24 rfl 0 rfl ?_
      obtain ⟨hz9, h⟩ := chk_some h
      refine X0g_0_0 (pc := 25) C hL (of_decide_eq_true hz9) dX0_plan_25 ?_
      obtain ⟨r2, e2, h⟩ := bnd_some h
      refine go_callVi (pc := 28) C [] (Mt.x0 (hL.2 1 (by decide)) hL.1 (m1_afloat e2)) q1057 q1058 q1059 q139 q1060 x1pd_afloat (by decide) (by decide) (xO (hL.2 1 (by decide)) hL.1) xc1 rfl (Nat.le_of_ble_eq_true rfl) ⟨Nat.zero_le _, Nat.zero_le _⟩ dX0_plan_28 rfl ?_
      refine go_istore_n (pc := 31) C hN dX0_plan_31 rfl (by decide) rfl ?_
      refine go_aload_n (pc := 32) C dX0_plan_32 rfl 1 rfl ?_
      refine go_iload_n (pc := 33) C dX0_plan_33 rfl 0 rfl ?_
      obtain ⟨r3, e3, h⟩ := bnd_some h
      refine go_callSi (pc := 34) C [.int r2] (mJ8_bitCount e3) q1030 q901 q162 q902 j8pd_bitCount (by decide) (by decide) rfl (Nat.le_of_ble_eq_true rfl) ⟨Nat.zero_le _, Nat.zero_le _⟩ dX0_plan_34 rfl ?_
      refine X0p_0_19 (pc := 37) C hL dX0_plan_37 ?_
      refine go_aload_n (pc := 40) C dX0_plan_40 rfl 1 rfl ?_
      refine X0g_0_19 (pc := 41) C hL dX0_plan_41 ?_
      refine go_bipush (pc := 44) (v := (7 : Int32)) C dX0_plan_44 (by decide) ?_
      refine go_icmp_le (pc := 46) (tgt := 52) C dX0_plan_46 (by decide) h (fun h => ?_) (fun h => ?_)
      · refine go_aload_n (pc := 52) C dX0_plan_52 rfl 1 rfl ?_
        refine go_iconst (pc := 53) (v := (0 : Int32)) C dX0_plan_53 (by decide) ?_
        refine X0p_0_20 (pc := 54) C hL dX0_plan_54 ?_
        refine go_aload_n (pc := 57) C dX0_plan_57 rfl 1 rfl ?_
        refine go_iload_n (pc := 58) C dX0_plan_58 rfl 0 rfl ?_
        obtain ⟨r4, s4, e4, h⟩ := bnd2_some h
        refine go_callVi (pc := 59) C [.int r2] (m0_gathersTogether hL e4) q1124 q1126 qs42 q138 q1127 x0pd_gathersTogether (by decide) (by decide) (xO (hL.2 0 (by decide)) hL.1) xc0 rfl (Nat.le_of_ble_eq_true rfl) ⟨Nat.zero_le _, Nat.zero_le _⟩ dX0_plan_59 rfl ?_
        refine go_if_eq (pc := 62) (tgt := 71) C dX0_plan_62 (by decide) h (fun h => ?_) (fun h => ?_)
        · refine go_sub [1, 2] rfl ?_
          exact w0_plan_71 hN C hE hL h
        · refine go_aload_n (pc := 65) C dX0_plan_65 rfl 1 rfl ?_
          refine go_iconst (pc := 66) (v := (0 : Int32)) C dX0_plan_66 (by decide) ?_
          refine go_iload_n (pc := 67) C dX0_plan_67 rfl 0 rfl ?_
          obtain ⟨s5, e5, h⟩ := bnd_some h
          refine go_callVv (pc := 68) C [.int (0 : Int32), .int r2] (m0_triesRows hL 20 e5) q1133 q1135 qs44 q138 q1136 x0pd_triesRows (by decide) (by decide) (xO (hL.2 0 (by decide)) hL.1) xc0 rfl (Nat.le_of_ble_eq_true rfl) ⟨Nat.zero_le _, Nat.zero_le _⟩ dX0_plan_68 rfl ?_
          refine go_sub [1, 2] rfl ?_
          exact w0_plan_71 hN C hE hL h
      · refine go_bipush (pc := 49) (v := (-3 : Int32)) C dX0_plan_49 (by decide) ?_
        exact (hE 0 0 _ _ _ (Nat.zero_le _) (Nat.zero_le _)).1 _ rfl dX0_plan_51 ⟨congrArg (fun z => some (Value.int z)) (some2 h).1, congrArg (fun z => (XW Γ.d A L E z)) (some2 h).2⟩
    · refine go_bipush (pc := 21) (v := (-4 : Int32)) C dX0_plan_21 (by decide) ?_
      exact (hE 0 0 _ _ _ (Nat.zero_le _) (Nat.zero_le _)).1 _ rfl dX0_plan_23 ⟨congrArg (fun z => some (Value.int z)) (some2 h).1, congrArg (fun z => (XW Γ.d A L E z)) (some2 h).2⟩
theorem w0_sawn_31 {Γ : Gam} {A : XA} {L : List Nat} {E : va_W} {v1 : Int32} {v2 : Int32} {r9 : Int32} {s9 : (Nat → Bl)} (hN : Γ.nL = 6) (C : Cx Γ cX0_sawn RX0 (4, 0, 0) 97) (hE : Rets Γ cX0_sawn (some .int) 0 0 (fun v w => v = some (.int r9) ∧ w = (XW Γ.d A L E s9))) (hL : xOK L) : ∀ (n : Nat) (s : (Nat → Bl) × Int32 × Int32 × Int32), loop (g0_sawn_31 v1 v2) n s = some (r9, s9) → (fun s : (Nat → Bl) × Int32 × Int32 × Int32 => Go Γ 0 0 (XW Γ.d A L E s.1) 31 [(0, .ref (A.1 0 0)), (1, .int v1), (2, .int v2), (3, .int s.2.1), (4, .int s.2.2.1), (5, .int s.2.2.2)] []) s := by
  refine loop_walk (P := fun s : (Nat → Bl) × Int32 × Int32 × Int32 => Go Γ 0 0 (XW Γ.d A L E s.1) 31 [(0, .ref (A.1 0 0)), (1, .int v1), (2, .int v2), (3, .int s.2.1), (4, .int s.2.2.1), (5, .int s.2.2.2)] []) ?_
  intro K31 hK31 s h
  obtain ⟨s0, v3, v4, v5⟩ := s
  dsimp only [g0_sawn_31] at h
  show Go Γ 0 0 (XW Γ.d A L E s0) 31 [(0, .ref (A.1 0 0)), (1, .int v1), (2, .int v2), (3, .int v3), (4, .int v4), (5, .int v5)] []
  refine go_iload (pc := 31) C dX0_sawn_31 5 rfl ?_
  refine go_aload_n (pc := 33) C dX0_sawn_33 rfl 0 rfl ?_
  obtain ⟨hz9, h⟩ := chk_some h
  refine X0g_0_0 (pc := 34) C hL (of_decide_eq_true hz9) dX0_sawn_34 ?_
  obtain ⟨r3, e3, h⟩ := bnd_some h
  refine go_callVi (pc := 37) C [] (Mt.x0 (hL.2 1 (by decide)) hL.1 (m1_allRopes e3)) q877 q878 q879 q139 q880 x1pd_allRopes (by decide) (by decide) (xO (hL.2 1 (by decide)) hL.1) xc1 rfl (Nat.le_of_ble_eq_true rfl) ⟨Nat.zero_le _, Nat.zero_le _⟩ dX0_sawn_37 rfl ?_
  refine go_icmp_gt (pc := 40) (tgt := 99) C dX0_sawn_40 (by decide) h (fun h => ?_) (fun h => ?_)
  · refine go_iload_n (pc := 99) C dX0_sawn_99 rfl 2 rfl ?_
    refine go_iconst (pc := 100) (v := (2 : Int32)) C dX0_sawn_100 (by decide) ?_
    refine go_icmp_ne (pc := 101) (tgt := 109) C dX0_sawn_101 (by decide) h (fun h => ?_) (fun h => ?_)
    · refine go_iload_n (pc := 109) C dX0_sawn_109 rfl 3 rfl ?_
      refine go_bipush (pc := 110) (v := (-2 : Int32)) C dX0_sawn_110 (by decide) ?_
      refine go_icmp_eq (pc := 112) (tgt := 120) C dX0_sawn_112 (by decide) h (fun h => ?_) (fun h => ?_)
      · refine go_iload_n (pc := 120) C dX0_sawn_120 rfl 3 rfl ?_
        refine go_goto (pc := 121) (tgt := 128) C dX0_sawn_121 (by decide) ?_
        exact (hE 0 0 _ _ _ (Nat.zero_le _) (Nat.zero_le _)).1 _ rfl dX0_sawn_128 ⟨congrArg (fun z => some (Value.int z)) (some2 h).1, congrArg (fun z => (XW Γ.d A L E z)) (some2 h).2⟩
      · refine go_iload_n (pc := 115) C dX0_sawn_115 rfl 2 rfl ?_
        refine go_iconst (pc := 116) (v := (1 : Int32)) C dX0_sawn_116 (by decide) ?_
        refine go_icmp_ne (pc := 117) (tgt := 124) C dX0_sawn_117 (by decide) h (fun h => ?_) (fun h => ?_)
        · refine go_iload_n (pc := 124) C dX0_sawn_124 rfl 3 rfl ?_
          obtain ⟨r4, e4, h⟩ := bnd_some h
          refine go_callSi (pc := 125) C [.int v3] (mJ8_bitCount e4) q1030 q901 q162 q902 j8pd_bitCount (by decide) (by decide) rfl (Nat.le_of_ble_eq_true rfl) ⟨Nat.zero_le _, Nat.zero_le _⟩ dX0_sawn_125 rfl ?_
          exact (hE 0 0 _ _ _ (Nat.zero_le _) (Nat.zero_le _)).1 _ rfl dX0_sawn_128 ⟨congrArg (fun z => some (Value.int z)) (some2 h).1, congrArg (fun z => (XW Γ.d A L E z)) (some2 h).2⟩
        · refine go_iload_n (pc := 120) C dX0_sawn_120 rfl 3 rfl ?_
          refine go_goto (pc := 121) (tgt := 128) C dX0_sawn_121 (by decide) ?_
          exact (hE 0 0 _ _ _ (Nat.zero_le _) (Nat.zero_le _)).1 _ rfl dX0_sawn_128 ⟨congrArg (fun z => some (Value.int z)) (some2 h).1, congrArg (fun z => (XW Γ.d A L E z)) (some2 h).2⟩
    · refine go_iload (pc := 104) C dX0_sawn_104 4 rfl ?_
      refine go_goto (pc := 106) (tgt := 128) C dX0_sawn_106 (by decide) ?_
      exact (hE 0 0 _ _ _ (Nat.zero_le _) (Nat.zero_le _)).1 _ rfl dX0_sawn_128 ⟨congrArg (fun z => some (Value.int z)) (some2 h).1, congrArg (fun z => (XW Γ.d A L E z)) (some2 h).2⟩
  · refine go_aload_n (pc := 43) C dX0_sawn_43 rfl 0 rfl ?_
    obtain ⟨hz9, h⟩ := chk_some h
    refine X0g_0_0 (pc := 44) C hL (of_decide_eq_true hz9) dX0_sawn_44 ?_
    refine go_aload_n (pc := 47) C dX0_sawn_47 rfl 0 rfl ?_
    obtain ⟨hz9, h⟩ := chk_some h
    refine X0g_0_0 (pc := 48) C hL (of_decide_eq_true hz9) dX0_sawn_48 ?_
    obtain ⟨r5, e5, h⟩ := bnd_some h
    refine go_callVi (pc := 51) C [] (Mt.x0 (hL.2 1 (by decide)) hL.1 (m1_allRopes e5)) q877 q878 q879 q139 q880 x1pd_allRopes (by decide) (by decide) (xO (hL.2 1 (by decide)) hL.1) xc1 rfl (Nat.le_of_ble_eq_true rfl) ⟨Nat.zero_le _, Nat.zero_le _⟩ dX0_sawn_51 rfl ?_
    refine go_iload (pc := 54) C dX0_sawn_54 5 rfl ?_
    refine go_iconst (pc := 56) (v := (-1 : Int32)) C dX0_sawn_56 (by decide) ?_
    refine go_ixor (pc := 57) C dX0_sawn_57 ?_
    refine go_iand (pc := 58) C dX0_sawn_58 ?_
    obtain ⟨r6, s6, e6, h⟩ := bnd2_some h
    refine go_callVi (pc := 59) C [.int (r5 &&& (v5 ^^^ (-1 : Int32)))] (Mt.x1 (hL.2 1 (by decide)) hL.1 (m1_sinkingBy e6)) q1146 q1010 q1011 q139 q1012 x1pd_sinkingBy (by decide) (by decide) (xO (hL.2 1 (by decide)) hL.1) xc1 rfl (Nat.le_of_ble_eq_true rfl) ⟨Nat.zero_le _, Nat.zero_le _⟩ dX0_sawn_59 rfl ?_
    refine go_iload_n (pc := 62) C dX0_sawn_62 rfl 1 rfl ?_
    refine go_icmp_eq (pc := 63) (tgt := 69) C dX0_sawn_63 (by decide) h (fun h => ?_) (fun h => ?_)
    · refine go_iinc (pc := 69) (v := (v4 + (1 : Int32))) C hN dX0_sawn_69 (q := 4) rfl rfl (by decide) rfl ?_
      refine go_iload_n (pc := 72) C dX0_sawn_72 rfl 4 rfl ?_
      refine go_bipush (pc := 73) (v := (-2 : Int32)) C dX0_sawn_73 (by decide) ?_
      refine go_icmp_eq (pc := 75) (tgt := 90) C dX0_sawn_75 (by decide) h (fun h => ?_) (fun h => ?_)
      · refine go_iload (pc := 90) C dX0_sawn_90 5 rfl ?_
        refine go_istore_n (pc := 92) C hN dX0_sawn_92 rfl (by decide) rfl ?_
        refine go_iinc (pc := 93) (v := (v5 + (1 : Int32))) C hN dX0_sawn_93 (q := 5) rfl rfl (by decide) rfl ?_
        refine go_goto (pc := 96) (tgt := 31) C dX0_sawn_96 (by decide) ?_
        refine go_sub [3, 4, 5, 1, 2, 0] rfl ?_
        exact hK31 ((upX s0 1 s6), v5, (v4 + (1 : Int32)), (v5 + (1 : Int32))) h
      · refine go_iload (pc := 78) C dX0_sawn_78 5 rfl ?_
        obtain ⟨r7, e7, h⟩ := bnd_some h
        refine go_callSi (pc := 80) C [.int v5] (mJ8_bitCount e7) q1030 q901 q162 q902 j8pd_bitCount (by decide) (by decide) rfl (Nat.le_of_ble_eq_true rfl) ⟨Nat.zero_le _, Nat.zero_le _⟩ dX0_sawn_80 rfl ?_
        refine go_iload_n (pc := 83) C dX0_sawn_83 rfl 4 rfl ?_
        obtain ⟨r8, e8, h⟩ := bnd_some h
        refine go_callSi (pc := 84) C [.int v3] (mJ8_bitCount e8) q1030 q901 q162 q902 j8pd_bitCount (by decide) (by decide) rfl (Nat.le_of_ble_eq_true rfl) ⟨Nat.zero_le _, Nat.zero_le _⟩ dX0_sawn_84 rfl ?_
        refine go_icmp_ge (pc := 87) (tgt := 93) C dX0_sawn_87 (by decide) h (fun h => ?_) (fun h => ?_)
        · refine go_iinc (pc := 93) (v := (v5 + (1 : Int32))) C hN dX0_sawn_93 (q := 5) rfl rfl (by decide) rfl ?_
          refine go_goto (pc := 96) (tgt := 31) C dX0_sawn_96 (by decide) ?_
          refine go_sub [2, 3, 4, 5, 1, 0] rfl ?_
          exact hK31 ((upX s0 1 s6), v3, (v4 + (1 : Int32)), (v5 + (1 : Int32))) h
        · refine go_iload (pc := 90) C dX0_sawn_90 5 rfl ?_
          refine go_istore_n (pc := 92) C hN dX0_sawn_92 rfl (by decide) rfl ?_
          refine go_iinc (pc := 93) (v := (v5 + (1 : Int32))) C hN dX0_sawn_93 (q := 5) rfl rfl (by decide) rfl ?_
          refine go_goto (pc := 96) (tgt := 31) C dX0_sawn_96 (by decide) ?_
          refine go_sub [3, 4, 5, 1, 2, 0] rfl ?_
          exact hK31 ((upX s0 1 s6), v5, (v4 + (1 : Int32)), (v5 + (1 : Int32))) h
    · refine go_goto (pc := 66) (tgt := 93) C dX0_sawn_66 (by decide) ?_
      refine go_iinc (pc := 93) (v := (v5 + (1 : Int32))) C hN dX0_sawn_93 (q := 5) rfl rfl (by decide) rfl ?_
      refine go_goto (pc := 96) (tgt := 31) C dX0_sawn_96 (by decide) ?_
      refine go_sub [1, 2, 3, 4, 5, 0] rfl ?_
      exact hK31 ((upX s0 1 s6), v3, v4, (v5 + (1 : Int32))) h
theorem m0_sawn {l : Launch} {d : gD} {A : XA} {L : List Nat} {E : va_W} {s0 : (Nat → Bl)} {v1 : Int32} {v2 : Int32} {r9 : Int32} {s9 : (Nat → Bl)} (hL : xOK L) (h : f0_sawn s0 v1 v2 = some (r9, s9)) : Mt l d yX0_sawn cX0_sawn 6 (some .int) (4, 0, 0) 97 (XW d A L E s0) [.ref (A.1 0 0), .int v1, .int v2] (fun v w => v = some (.int r9) ∧ w = (XW d A L E s9)) := by
  refine Mt.of x0pn (Nat.le_of_ble_eq_true rfl) ?_
  intro Γ hl hd hN C hE
  subst hl; subst hd
  show Go Γ 0 0 (XW Γ.d A L E s0) 0 [(0, .ref (A.1 0 0)), (1, .int v1), (2, .int v2)] []
  dsimp only [f0_sawn] at h
  refine go_aload_n (pc := 0) C dX0_sawn_0 rfl 0 rfl ?_
  refine go_iload_n (pc := 1) C dX0_sawn_1 rfl 1 rfl ?_
  obtain ⟨r1, e1, h⟩ := bnd_some h
  refine go_callVi (pc := 2) C [.int v1] (m0_areAfloat hL e1) q1113 q1115 qs41 q138 q1116 x0pd_areAfloat (by decide) (by decide) (xO (hL.2 0 (by decide)) hL.1) xc0 rfl (Nat.le_of_ble_eq_true rfl) ⟨Nat.zero_le _, Nat.zero_le _⟩ dX0_sawn_2 rfl ?_
  refine go_if_eq (pc := 5) (tgt := 20) C dX0_sawn_5 (by decide) h (fun h => ?_) (fun h => ?_)
  · refine go_iconst (pc := 20) (v := (-1 : Int32)) C dX0_sawn_20 (by decide) ?_
    exact (hE 0 0 _ _ _ (Nat.zero_le _) (Nat.zero_le _)).1 _ rfl dX0_sawn_21 ⟨congrArg (fun z => some (Value.int z)) (some2 h).1, congrArg (fun z => (XW Γ.d A L E z)) (some2 h).2⟩
  · refine go_iload_n (pc := 8) C dX0_sawn_8 rfl 2 rfl ?_
    refine go_i2l (pc := 9) C dX0_sawn_9 ?_
    refine go_lconst (pc := 10) (v := (0 : Int64)) C dX0_sawn_10 (by decide) ?_
    refine go_ldc2 (pc := 11) C dX0_sawn_11 q1145 ?_
    obtain ⟨r2, e2, h⟩ := bnd_some h
    refine go_callSi (pc := 14) C [.long (v2).toInt64, .long (0 : Int64), .long (2 : Int64)] (m0_in e2) q939 q647 q138 q648 x0pd_in (by decide) (by decide) rfl (Nat.le_of_ble_eq_true rfl) ⟨Nat.zero_le _, Nat.zero_le _⟩ dX0_sawn_14 rfl ?_
    refine go_if_ne (pc := 17) (tgt := 22) C dX0_sawn_17 (by decide) h (fun h => ?_) (fun h => ?_)
    · refine go_bipush (pc := 22) (v := (-2 : Int32)) C dX0_sawn_22 (by decide) ?_
      refine go_istore_n (pc := 24) C hN dX0_sawn_24 rfl (by decide) rfl ?_
      refine go_iconst (pc := 25) (v := (0 : Int32)) C dX0_sawn_25 (by decide) ?_
      refine go_istore (pc := 26) C hN dX0_sawn_26 (by decide) rfl ?_
      refine go_iconst (pc := 28) (v := (0 : Int32)) C dX0_sawn_28 (by decide) ?_
      refine go_istore (pc := 29) C hN dX0_sawn_29 (by decide) rfl ?_
      refine go_sub [3, 4, 5, 2, 1, 0] rfl ?_
      exact w0_sawn_31 hN C hE hL FU (s0, (-2 : Int32), (0 : Int32), (0 : Int32)) h
    · refine go_iconst (pc := 20) (v := (-1 : Int32)) C dX0_sawn_20 (by decide) ?_
      exact (hE 0 0 _ _ _ (Nat.zero_le _) (Nat.zero_le _)).1 _ rfl dX0_sawn_21 ⟨congrArg (fun z => some (Value.int z)) (some2 h).1, congrArg (fun z => (XW Γ.d A L E z)) (some2 h).2⟩
theorem w0_triesLocks_104 {Γ : Gam} {A : XA} {L : List Nat} {E : va_W} {fr0 lo0 fr1 lo1 : Nat} {rec : (Nat → Bl) → Int32 → Int32 → Int32 → Option (Nat → Bl)} {v1 : Int32} {v2 : Int32} {v3 : Int32} {s0 : (Nat → Bl)} {v4 : Int32} {s9 : (Nat → Bl)} {K77 : (Nat → Bl) × Int32 → Option (Nat → Bl)} (hN : Γ.nL = 5) (C : Cx Γ cX0_triesLocks RX0 (fr0, 0, 0) lo0) (hE : Rets Γ cX0_triesLocks none 0 0 (fun v w => v = none ∧ w = (XW Γ.d A L E s9))) (hL : xOK L) (hf1 : fr1 + 1 ≤ fr0) (hl1 : 8 + (5 + 11) + lo1 ≤ lo0) (hf2 : 2 ≤ fr0) (hl2 : 42 ≤ lo0) (hrec : ∀ {s0 : (Nat → Bl)} {v1 : Int32} {v2 : Int32} {v3 : Int32} {s9 : (Nat → Bl)}, rec s0 v1 v2 v3 = some s9 → Mt Γ.l Γ.d yX0_triesLocks cX0_triesLocks 5 none (fr1, 0, 0) lo1 (XW Γ.d A L E s0) [.ref (A.1 0 0), .int v1, .int v2, .int v3] (fun v w => v = none ∧ w = (XW Γ.d A L E s9)))
    (hK77 : ∀ s, K77 s = some s9 → (fun s : (Nat → Bl) × Int32 => Go Γ 0 0 (XW Γ.d A L E s.1) 77 [(0, .ref (A.1 0 0)), (1, .int v1), (2, .int v2), (3, .int v3), (4, .int s.2)] []) s) (h : g0_triesLocks_104 rec K77 s0 v1 v2 v3 v4 = some s9) : Go Γ 0 0 (XW Γ.d A L E s0) 104 [(0, .ref (A.1 0 0)), (1, .int v1), (2, .int v2), (3, .int v3), (4, .int v4)] [] := by
  dsimp only [g0_triesLocks_104] at h
  refine go_aload_n (pc := 104) C dX0_triesLocks_104 rfl 0 rfl ?_
  refine X0g_0_23 (pc := 105) C hL dX0_triesLocks_105 ?_
  refine go_iload (pc := 108) C dX0_triesLocks_108 4 rfl ?_
  refine go_iald (pc := 110) C (xa_0_23 hL) h dX0_triesLocks_110 (fun h => ?_)
  refine go_aload_n (pc := 111) C dX0_triesLocks_111 rfl 0 rfl ?_
  obtain ⟨hz9, h⟩ := chk_some h
  refine X0g_0_0 (pc := 112) C hL (of_decide_eq_true hz9) dX0_triesLocks_112 ?_
  refine X0g_1_13 (pc := 115) C hL dX0_triesLocks_115 ?_
  refine go_iload_n (pc := 118) C dX0_triesLocks_118 rfl 1 rfl ?_
  refine go_iald (pc := 119) C (xa_1_13 hL) h dX0_triesLocks_119 (fun h => ?_)
  refine go_iadd (pc := 120) C dX0_triesLocks_120 ?_
  refine go_iload_n (pc := 121) C dX0_triesLocks_121 rfl 3 rfl ?_
  refine go_icmp_le (pc := 122) (tgt := 128) C dX0_triesLocks_122 (by decide) h (fun h => ?_) (fun h => ?_)
  · refine go_aload_n (pc := 128) C dX0_triesLocks_128 rfl 0 rfl ?_
    refine X0g_0_23 (pc := 129) C hL dX0_triesLocks_129 ?_
    refine go_iload (pc := 132) C dX0_triesLocks_132 4 rfl ?_
    refine go_dup2 (pc := 134) C dX0_triesLocks_134 rfl rfl ?_
    refine go_iald (pc := 135) C (xa_0_23 hL) h dX0_triesLocks_135 (fun h => ?_)
    refine go_aload_n (pc := 136) C dX0_triesLocks_136 rfl 0 rfl ?_
    obtain ⟨hz9, h⟩ := chk_some h
    refine X0g_0_0 (pc := 137) C hL (of_decide_eq_true hz9) dX0_triesLocks_137 ?_
    refine X0g_1_13 (pc := 140) C hL dX0_triesLocks_140 ?_
    refine go_iload_n (pc := 143) C dX0_triesLocks_143 rfl 1 rfl ?_
    refine go_iald (pc := 144) C (xa_1_13 hL) h dX0_triesLocks_144 (fun h => ?_)
    refine go_iadd (pc := 145) C dX0_triesLocks_145 ?_
    refine go_iast (pc := 146) C (xpa_0_23 hL) h dX0_triesLocks_146 (fun h => ?_)
    refine go_aload_n (pc := 147) C dX0_triesLocks_147 rfl 0 rfl ?_
    refine X0g_0_21 (pc := 148) C hL dX0_triesLocks_148 ?_
    refine go_iload_n (pc := 151) C dX0_triesLocks_151 rfl 1 rfl ?_
    refine go_iload (pc := 152) C dX0_triesLocks_152 4 rfl ?_
    refine go_iast (pc := 154) C (xpa_0_21 hL) h dX0_triesLocks_154 (fun h => ?_)
    refine go_nm (pc := 155) (fun z9 => (XW Γ.d A L E z9)) (fun s2 es2 => ?_)
    have h := ltv_eq es2 h
    refine go_aload_n (pc := 155) C dX0_triesLocks_155 rfl 0 rfl ?_
    refine go_iload_n (pc := 156) C dX0_triesLocks_156 rfl 1 rfl ?_
    refine go_iconst (pc := 157) (v := (1 : Int32)) C dX0_triesLocks_157 (by decide) ?_
    refine go_iadd (pc := 158) C dX0_triesLocks_158 ?_
    refine go_iload_n (pc := 159) C dX0_triesLocks_159 rfl 2 rfl ?_
    refine go_iload (pc := 160) C dX0_triesLocks_160 4 rfl ?_
    refine go_iconst (pc := 162) (v := (1 : Int32)) C dX0_triesLocks_162 (by decide) ?_
    refine go_iadd (pc := 163) C dX0_triesLocks_163 ?_
    refine go_mmax (pc := 164) C q1132 (Nat.le_trans (by decide) hf2) (Nat.le_trans (Nat.le_of_ble_eq_true rfl) hl2) ⟨Nat.zero_le _, Nat.zero_le _⟩ dX0_triesLocks_164 ?_
    refine go_iload_n (pc := 167) C dX0_triesLocks_167 rfl 3 rfl ?_
    obtain ⟨s3, e3, h⟩ := bnd_some h
    refine go_callVv (pc := 168) C [.int (v1 + (1 : Int32)), .int (if v2 < (v4 + (1 : Int32)) then (v4 + (1 : Int32)) else v2), .int v3] (hrec e3) q1153 q1155 qs46 q138 q1156 x0pd_triesLocks hf1 hl1 (xO (hL.2 0 (by decide)) hL.1) xc0 rfl (Nat.le_of_ble_eq_true rfl) ⟨Nat.zero_le _, Nat.zero_le _⟩ dX0_triesLocks_168 rfl ?_
    refine go_aload_n (pc := 171) C dX0_triesLocks_171 rfl 0 rfl ?_
    refine X0g_0_23 (pc := 172) C hL dX0_triesLocks_172 ?_
    refine go_iload (pc := 175) C dX0_triesLocks_175 4 rfl ?_
    refine go_dup2 (pc := 177) C dX0_triesLocks_177 rfl rfl ?_
    refine go_iald (pc := 178) C (xa_0_23 hL) h dX0_triesLocks_178 (fun h => ?_)
    refine go_aload_n (pc := 179) C dX0_triesLocks_179 rfl 0 rfl ?_
    obtain ⟨hz9, h⟩ := chk_some h
    refine X0g_0_0 (pc := 180) C hL (of_decide_eq_true hz9) dX0_triesLocks_180 ?_
    refine X0g_1_13 (pc := 183) C hL dX0_triesLocks_183 ?_
    refine go_iload_n (pc := 186) C dX0_triesLocks_186 rfl 1 rfl ?_
    refine go_iald (pc := 187) C (xa_1_13 hL) h dX0_triesLocks_187 (fun h => ?_)
    refine go_isub (pc := 188) C dX0_triesLocks_188 ?_
    refine go_iast (pc := 189) C (xpa_0_23 hL) h dX0_triesLocks_189 (fun h => ?_)
    refine go_iinc (pc := 190) (v := (v4 + (1 : Int32))) C hN dX0_triesLocks_190 (q := 4) rfl rfl (by decide) rfl ?_
    refine go_goto (pc := 193) (tgt := 77) C dX0_triesLocks_193 (by decide) ?_
    refine go_sub [1, 2, 3, 4, 0] rfl ?_
    exact hK77 ((upX s3 0 (bA (s3 0) 23 (v4).toNatClampNeg (((s3 0).2.1 23 (v4).toNatClampNeg) - ((s3 1).2.1 13 (v1).toNatClampNeg)))), (v4 + (1 : Int32))) h
  · refine go_goto (pc := 125) (tgt := 190) C dX0_triesLocks_125 (by decide) ?_
    refine go_iinc (pc := 190) (v := (v4 + (1 : Int32))) C hN dX0_triesLocks_190 (q := 4) rfl rfl (by decide) rfl ?_
    refine go_goto (pc := 193) (tgt := 77) C dX0_triesLocks_193 (by decide) ?_
    refine go_sub [1, 2, 3, 4, 0] rfl ?_
    exact hK77 (s0, (v4 + (1 : Int32))) h
theorem w0_triesLocks_77 {Γ : Gam} {A : XA} {L : List Nat} {E : va_W} {fr0 lo0 fr1 lo1 : Nat} {rec : (Nat → Bl) → Int32 → Int32 → Int32 → Option (Nat → Bl)} {v1 : Int32} {v2 : Int32} {v3 : Int32} {s9 : (Nat → Bl)} (hN : Γ.nL = 5) (C : Cx Γ cX0_triesLocks RX0 (fr0, 0, 0) lo0) (hE : Rets Γ cX0_triesLocks none 0 0 (fun v w => v = none ∧ w = (XW Γ.d A L E s9))) (hL : xOK L) (hf1 : fr1 + 1 ≤ fr0) (hl1 : 8 + (5 + 11) + lo1 ≤ lo0) (hf2 : 2 ≤ fr0) (hl2 : 42 ≤ lo0) (hrec : ∀ {s0 : (Nat → Bl)} {v1 : Int32} {v2 : Int32} {v3 : Int32} {s9 : (Nat → Bl)}, rec s0 v1 v2 v3 = some s9 → Mt Γ.l Γ.d yX0_triesLocks cX0_triesLocks 5 none (fr1, 0, 0) lo1 (XW Γ.d A L E s0) [.ref (A.1 0 0), .int v1, .int v2, .int v3] (fun v w => v = none ∧ w = (XW Γ.d A L E s9))) : ∀ (n : Nat) (s : (Nat → Bl) × Int32), loop (g0_triesLocks_77 rec v1 v2 v3) n s = some s9 → (fun s : (Nat → Bl) × Int32 => Go Γ 0 0 (XW Γ.d A L E s.1) 77 [(0, .ref (A.1 0 0)), (1, .int v1), (2, .int v2), (3, .int v3), (4, .int s.2)] []) s := by
  refine loop_walk (P := fun s : (Nat → Bl) × Int32 => Go Γ 0 0 (XW Γ.d A L E s.1) 77 [(0, .ref (A.1 0 0)), (1, .int v1), (2, .int v2), (3, .int v3), (4, .int s.2)] []) ?_
  intro K77 hK77 s h
  obtain ⟨s0, v4⟩ := s
  dsimp only [g0_triesLocks_77] at h
  show Go Γ 0 0 (XW Γ.d A L E s0) 77 [(0, .ref (A.1 0 0)), (1, .int v1), (2, .int v2), (3, .int v3), (4, .int v4)] []
  refine go_iload (pc := 77) C dX0_triesLocks_77 4 rfl ?_
  refine go_iload_n (pc := 79) C dX0_triesLocks_79 rfl 2 rfl ?_
  refine go_icmp_gt (pc := 80) (tgt := 196) C dX0_triesLocks_80 (by decide) h (fun h => ?_) (fun h => ?_)
  · exact (hE 0 0 _ _ _ (Nat.zero_le _) (Nat.zero_le _)).2.2.2.1 rfl dX0_triesLocks_196 ⟨rfl, congrArg (fun z => (XW Γ.d A L E z)) (some1 h)⟩
  · refine go_iload (pc := 83) C dX0_triesLocks_83 4 rfl ?_
    refine go_bipush (pc := 85) (v := (8 : Int32)) C dX0_triesLocks_85 (by decide) ?_
    refine go_icmp_ge (pc := 87) (tgt := 196) C dX0_triesLocks_87 (by decide) h (fun h => ?_) (fun h => ?_)
    · exact (hE 0 0 _ _ _ (Nat.zero_le _) (Nat.zero_le _)).2.2.2.1 rfl dX0_triesLocks_196 ⟨rfl, congrArg (fun z => (XW Γ.d A L E z)) (some1 h)⟩
    · refine go_iload (pc := 90) C dX0_triesLocks_90 4 rfl ?_
      refine go_iload_n (pc := 92) C dX0_triesLocks_92 rfl 2 rfl ?_
      refine go_icmp_ne (pc := 93) (tgt := 104) C dX0_triesLocks_93 (by decide) h (fun h => ?_) (fun h => ?_)
      · exact w0_triesLocks_104 hN C hE hL hf1 hl1 hf2 hl2 (@hrec) hK77 h
      · refine go_aload_n (pc := 96) C dX0_triesLocks_96 rfl 0 rfl ?_
        refine X0g_0_23 (pc := 97) C hL dX0_triesLocks_97 ?_
        refine go_iload (pc := 100) C dX0_triesLocks_100 4 rfl ?_
        refine go_iconst (pc := 102) (v := (0 : Int32)) C dX0_triesLocks_102 (by decide) ?_
        refine go_iast (pc := 103) C (xpa_0_23 hL) h dX0_triesLocks_103 (fun h => ?_)
        exact w0_triesLocks_104 hN C hE hL hf1 hl1 hf2 hl2 (@hrec) hK77 h
theorem w0_triesLocks_17 {Γ : Gam} {A : XA} {L : List Nat} {E : va_W} {fr0 lo0 fr1 lo1 : Nat} {rec : (Nat → Bl) → Int32 → Int32 → Int32 → Option (Nat → Bl)} {s0 : (Nat → Bl)} {v1 : Int32} {v2 : Int32} {v3 : Int32} {s9 : (Nat → Bl)} (hN : Γ.nL = 5) (C : Cx Γ cX0_triesLocks RX0 (fr0, 0, 0) lo0) (hE : Rets Γ cX0_triesLocks none 0 0 (fun v w => v = none ∧ w = (XW Γ.d A L E s9))) (hL : xOK L) (hf1 : fr1 + 1 ≤ fr0) (hl1 : 8 + (5 + 11) + lo1 ≤ lo0) (hf2 : 2 ≤ fr0) (hl2 : 42 ≤ lo0) (hrec : ∀ {s0 : (Nat → Bl)} {v1 : Int32} {v2 : Int32} {v3 : Int32} {s9 : (Nat → Bl)}, rec s0 v1 v2 v3 = some s9 → Mt Γ.l Γ.d yX0_triesLocks cX0_triesLocks 5 none (fr1, 0, 0) lo1 (XW Γ.d A L E s0) [.ref (A.1 0 0), .int v1, .int v2, .int v3] (fun v w => v = none ∧ w = (XW Γ.d A L E s9))) (h : g0_triesLocks_17 rec s0 v1 v2 v3 = some s9) : Go Γ 0 0 (XW Γ.d A L E s0) 17 [(0, .ref (A.1 0 0)), (1, .int v1), (2, .int v2), (3, .int v3)] [] := by
  dsimp only [g0_triesLocks_17] at h
  refine go_iload_n (pc := 17) C dX0_triesLocks_17 rfl 1 rfl ?_
  refine go_aload_n (pc := 18) C dX0_triesLocks_18 rfl 0 rfl ?_
  obtain ⟨hz9, h⟩ := chk_some h
  refine X0g_0_0 (pc := 19) C hL (of_decide_eq_true hz9) dX0_triesLocks_19 ?_
  refine X0g_1_2 (pc := 22) C hL dX0_triesLocks_22 ?_
  refine go_icmp_ne (pc := 25) (tgt := 49) C dX0_triesLocks_25 (by decide) h (fun h => ?_) (fun h => ?_)
  · refine go_aload_n (pc := 49) C dX0_triesLocks_49 rfl 0 rfl ?_
    refine X0g_0_21 (pc := 50) C hL dX0_triesLocks_50 ?_
    refine go_iload_n (pc := 53) C dX0_triesLocks_53 rfl 1 rfl ?_
    refine go_iconst (pc := 54) (v := (-1 : Int32)) C dX0_triesLocks_54 (by decide) ?_
    refine go_iast (pc := 55) C (xpa_0_21 hL) h dX0_triesLocks_55 (fun h => ?_)
    refine go_aload_n (pc := 56) C dX0_triesLocks_56 rfl 0 rfl ?_
    refine go_iload_n (pc := 57) C dX0_triesLocks_57 rfl 1 rfl ?_
    obtain ⟨r1, e1, h⟩ := bnd_some h
    refine go_callVi (pc := 58) C [.int v1] (m0_isAfloat hL e1) q914 q916 qs31 q138 q917 x0pd_isAfloat (Nat.le_trans (by decide) hf2) (Nat.le_trans (by decide) hl2) (xO (hL.2 0 (by decide)) hL.1) xc0 rfl (Nat.le_of_ble_eq_true rfl) ⟨Nat.zero_le _, Nat.zero_le _⟩ dX0_triesLocks_58 rfl ?_
    refine go_if_ne (pc := 61) (tgt := 74) C dX0_triesLocks_61 (by decide) h (fun h => ?_) (fun h => ?_)
    · refine go_iconst (pc := 74) (v := (0 : Int32)) C dX0_triesLocks_74 (by decide) ?_
      refine go_istore (pc := 75) C hN dX0_triesLocks_75 (by decide) rfl ?_
      refine go_sub [1, 2, 3, 4, 0] rfl ?_
      exact w0_triesLocks_77 hN C hE hL hf1 hl1 hf2 hl2 (@hrec) FU ((upX s0 0 (bA (s0 0) 21 (v1).toNatClampNeg (-1 : Int32))), (0 : Int32)) h
    · refine go_aload_n (pc := 64) C dX0_triesLocks_64 rfl 0 rfl ?_
      refine go_iload_n (pc := 65) C dX0_triesLocks_65 rfl 1 rfl ?_
      refine go_iconst (pc := 66) (v := (1 : Int32)) C dX0_triesLocks_66 (by decide) ?_
      refine go_iadd (pc := 67) C dX0_triesLocks_67 ?_
      refine go_iload_n (pc := 68) C dX0_triesLocks_68 rfl 2 rfl ?_
      refine go_iload_n (pc := 69) C dX0_triesLocks_69 rfl 3 rfl ?_
      obtain ⟨s4, e4, h⟩ := bnd_some h
      refine go_callVv (pc := 70) C [.int (v1 + (1 : Int32)), .int v2, .int v3] (hrec e4) q1153 q1155 qs46 q138 q1156 x0pd_triesLocks hf1 hl1 (xO (hL.2 0 (by decide)) hL.1) xc0 rfl (Nat.le_of_ble_eq_true rfl) ⟨Nat.zero_le _, Nat.zero_le _⟩ dX0_triesLocks_70 rfl ?_
      exact (hE 0 0 _ _ _ (Nat.zero_le _) (Nat.zero_le _)).2.2.2.1 rfl dX0_triesLocks_73 ⟨rfl, congrArg (fun z => (XW Γ.d A L E z)) (some1 h)⟩
  · refine go_aload_n (pc := 28) C dX0_triesLocks_28 rfl 0 rfl ?_
    refine go_iload_n (pc := 29) C dX0_triesLocks_29 rfl 2 rfl ?_
    refine X0p_0_24 (pc := 30) C hL dX0_triesLocks_30 ?_
    refine go_aload_n (pc := 33) C dX0_triesLocks_33 rfl 0 rfl ?_
    refine X0g_0_21 (pc := 34) C hL dX0_triesLocks_34 ?_
    refine go_iconst (pc := 37) (v := (0 : Int32)) C dX0_triesLocks_37 (by decide) ?_
    refine go_aload_n (pc := 38) C dX0_triesLocks_38 rfl 0 rfl ?_
    refine X0g_0_22 (pc := 39) C hL dX0_triesLocks_39 ?_
    refine go_iconst (pc := 42) (v := (0 : Int32)) C dX0_triesLocks_42 (by decide) ?_
    refine go_bipush (pc := 43) (v := (8 : Int32)) C dX0_triesLocks_43 (by decide) ?_
    refine go_copy (pc := 45) (sp' := 0) (dp' := 0) (m' := 8) C (xa_0_21 hL) (xps_0_22 hL) (by decide) (by decide) (by decide) (by decide) q975 (Nat.le_trans (by decide) hf2) (Nat.le_trans (Nat.le_of_ble_eq_true rfl) hl2) dX0_triesLocks_45 ?_
    refine go_nm (pc := 48) (fun z9 => (XW Γ.d A L E z9)) (fun s5 es5 => ?_)
    have h := ltv_eq es5 h
    exact (hE 0 0 _ _ _ (Nat.zero_le _) (Nat.zero_le _)).2.2.2.1 rfl dX0_triesLocks_48 ⟨rfl, congrArg (fun z => (XW Γ.d A L E z)) (some1 h)⟩
theorem m0_triesLocks {l : Launch} {d : gD} {A : XA} {L : List Nat} {E : va_W} (hL : xOK L) : ∀ (n : Nat) {s0 : (Nat → Bl)} {v1 : Int32} {v2 : Int32} {v3 : Int32} {s9 : (Nat → Bl)} (h : f0_triesLocks n s0 v1 v2 v3 = some s9), Mt l d yX0_triesLocks cX0_triesLocks 5 none (2 + n, 0, 0) (42 + n * 24) (XW d A L E s0) [.ref (A.1 0 0), .int v1, .int v2, .int v3] (fun v w => v = none ∧ w = (XW d A L E s9)) := by
  intro n
  induction n with
  | zero => intros; rename_i h; cases h
  | succ n ih =>
    intro s0 v1 v2 v3 s9 h
    have hf2 : 2 ≤ 2 + (n + 1) := by omega
    have hl2 : 42 ≤ 42 + (n + 1) * 24 := by omega
    have hf1 : 2 + n + 1 ≤ 2 + (n + 1) := by omega
    have hl1 : 8 + (5 + 11) + (42 + n * 24) ≤ 42 + (n + 1) * 24 := by omega
    refine Mt.of x0pn (Nat.le_of_ble_eq_true rfl) ?_
    intro Γ hl hd hN C hE
    subst hl; subst hd
    have hrec := @ih
    show Go Γ 0 0 (XW Γ.d A L E s0) 0 [(0, .ref (A.1 0 0)), (1, .int v1), (2, .int v2), (3, .int v3)] []
    dsimp only [f0_triesLocks, b0_triesLocks] at h
    refine go_aload_n (pc := 0) C dX0_triesLocks_0 rfl 0 rfl ?_
    refine X0g_0_24 (pc := 1) C hL dX0_triesLocks_1 ?_
    refine go_iconst (pc := 4) (v := (-1 : Int32)) C dX0_triesLocks_4 (by decide) ?_
    refine go_icmp_eq (pc := 5) (tgt := 17) C dX0_triesLocks_5 (by decide) h (fun h => ?_) (fun h => ?_)
    · exact w0_triesLocks_17 hN C hE hL hf1 hl1 hf2 hl2 (@hrec) h
    · refine go_iload_n (pc := 8) C dX0_triesLocks_8 rfl 2 rfl ?_
      refine go_aload_n (pc := 9) C dX0_triesLocks_9 rfl 0 rfl ?_
      refine X0g_0_24 (pc := 10) C hL dX0_triesLocks_10 ?_
      refine go_icmp_lt (pc := 13) (tgt := 17) C dX0_triesLocks_13 (by decide) h (fun h => ?_) (fun h => ?_)
      · exact w0_triesLocks_17 hN C hE hL hf1 hl1 hf2 hl2 (@hrec) h
      · exact (hE 0 0 _ _ _ (Nat.zero_le _) (Nat.zero_le _)).2.2.2.1 rfl dX0_triesLocks_16 ⟨rfl, congrArg (fun z => (XW Γ.d A L E z)) (some1 h)⟩
theorem m0_locks {l : Launch} {d : gD} {A : XA} {L : List Nat} {E : va_W} {s0 : (Nat → Bl)} {v1 : Int32} {v2 : Int32} {r9 : Int32} {s9 : (Nat → Bl)} (hL : xOK L) (h : f0_locks s0 v1 v2 = some (r9, s9)) : Mt l d yX0_locks cX0_locks 3 (some .int) (23, 0, 0) 546 (XW d A L E s0) [.ref (A.1 0 0), .int v1, .int v2] (fun v w => v = some (.int r9) ∧ w = (XW d A L E s9)) := by
  refine Mt.of x0pn (Nat.le_of_ble_eq_true rfl) ?_
  intro Γ hl hd hN C hE
  subst hl; subst hd
  show Go Γ 0 0 (XW Γ.d A L E s0) 0 [(0, .ref (A.1 0 0)), (1, .int v1), (2, .int v2)] []
  dsimp only [f0_locks] at h
  refine go_aload_n (pc := 0) C dX0_locks_0 rfl 0 rfl ?_
  by_cases c4n : (s0 0).1 0 = 0
  · have h := (if_pos c4n).symm.trans h
    refine X0g_0_0N (pc := 1) C hL c4n dX0_locks_1 ?_
    refine go_ifnullN (pc := 4) (tgt := 31) C dX0_locks_4 (by decide) ?_
    refine go_iconst (pc := 31) (v := (-1 : Int32)) C dX0_locks_31 (by decide) ?_
    exact (hE 0 0 _ _ _ (Nat.zero_le _) (Nat.zero_le _)).1 _ rfl dX0_locks_32 ⟨congrArg (fun z => some (Value.int z)) (some2 h).1, congrArg (fun z => (XW Γ.d A L E z)) (some2 h).2⟩
  · have h := (if_neg c4n).symm.trans h
    refine X0g_0_0 (pc := 1) C hL c4n dX0_locks_1 ?_
    refine go_ifnull (pc := 4) C dX0_locks_4 ?_
    refine go_iload_n (pc := 7) C dX0_locks_7 rfl 1 rfl ?_
    refine go_i2l (pc := 8) C dX0_locks_8 ?_
    refine go_lconst (pc := 9) (v := (1 : Int64)) C dX0_locks_9 (by decide) ?_
    refine go_ldc2 (pc := 10) C dX0_locks_10 q1151 ?_
    obtain ⟨r1, e1, h⟩ := bnd_some h
    refine go_callSi (pc := 13) C [.long (v1).toInt64, .long (1 : Int64), .long (200 : Int64)] (m0_in e1) q939 q647 q138 q648 x0pd_in (by decide) (by decide) rfl (Nat.le_of_ble_eq_true rfl) ⟨Nat.zero_le _, Nat.zero_le _⟩ dX0_locks_13 rfl ?_
    refine go_if_eq (pc := 16) (tgt := 31) C dX0_locks_16 (by decide) h (fun h => ?_) (fun h => ?_)
    · refine go_iconst (pc := 31) (v := (-1 : Int32)) C dX0_locks_31 (by decide) ?_
      exact (hE 0 0 _ _ _ (Nat.zero_le _) (Nat.zero_le _)).1 _ rfl dX0_locks_32 ⟨congrArg (fun z => some (Value.int z)) (some2 h).1, congrArg (fun z => (XW Γ.d A L E z)) (some2 h).2⟩
    · refine go_iload_n (pc := 19) C dX0_locks_19 rfl 2 rfl ?_
      refine go_i2l (pc := 20) C dX0_locks_20 ?_
      refine go_lconst (pc := 21) (v := (0 : Int64)) C dX0_locks_21 (by decide) ?_
      refine go_ldc2 (pc := 22) C dX0_locks_22 q1152 ?_
      obtain ⟨r2, e2, h⟩ := bnd_some h
      refine go_callSi (pc := 25) C [.long (v2).toInt64, .long (0 : Int64), .long (8 : Int64)] (m0_in e2) q939 q647 q138 q648 x0pd_in (by decide) (by decide) rfl (Nat.le_of_ble_eq_true rfl) ⟨Nat.zero_le _, Nat.zero_le _⟩ dX0_locks_25 rfl ?_
      refine go_if_ne (pc := 28) (tgt := 33) C dX0_locks_28 (by decide) h (fun h => ?_) (fun h => ?_)
      · refine go_aload_n (pc := 33) C dX0_locks_33 rfl 0 rfl ?_
        refine go_iconst (pc := 34) (v := (-1 : Int32)) C dX0_locks_34 (by decide) ?_
        refine X0p_0_24 (pc := 35) C hL dX0_locks_35 ?_
        refine go_aload_n (pc := 38) C dX0_locks_38 rfl 0 rfl ?_
        refine go_iconst (pc := 39) (v := (0 : Int32)) C dX0_locks_39 (by decide) ?_
        refine go_iconst (pc := 40) (v := (0 : Int32)) C dX0_locks_40 (by decide) ?_
        refine go_iload_n (pc := 41) C dX0_locks_41 rfl 1 rfl ?_
        obtain ⟨s3, e3, h⟩ := bnd_some h
        refine go_callVv (pc := 42) C [.int (0 : Int32), .int (0 : Int32), .int v1] (m0_triesLocks hL 20 e3) q1153 q1155 qs46 q138 q1156 x0pd_triesLocks (by decide) (by decide) (xO (hL.2 0 (by decide)) hL.1) xc0 rfl (Nat.le_of_ble_eq_true rfl) ⟨Nat.zero_le _, Nat.zero_le _⟩ dX0_locks_42 rfl ?_
        refine go_aload_n (pc := 45) C dX0_locks_45 rfl 0 rfl ?_
        refine X0g_0_24 (pc := 46) C hL dX0_locks_46 ?_
        refine go_iconst (pc := 49) (v := (-1 : Int32)) C dX0_locks_49 (by decide) ?_
        refine go_icmp_ne (pc := 50) (tgt := 56) C dX0_locks_50 (by decide) h (fun h => ?_) (fun h => ?_)
        · refine go_iload_n (pc := 56) C dX0_locks_56 rfl 2 rfl ?_
          refine go_if_ne (pc := 57) (tgt := 67) C dX0_locks_57 (by decide) h (fun h => ?_) (fun h => ?_)
          · refine go_iload_n (pc := 67) C dX0_locks_67 rfl 2 rfl ?_
            refine go_aload_n (pc := 68) C dX0_locks_68 rfl 0 rfl ?_
            obtain ⟨hz9, h⟩ := chk_some h
            refine X0g_0_0 (pc := 69) C hL (of_decide_eq_true hz9) dX0_locks_69 ?_
            refine X0g_1_2 (pc := 72) C hL dX0_locks_72 ?_
            refine go_icmp_le (pc := 75) (tgt := 82) C dX0_locks_75 (by decide) h (fun h => ?_) (fun h => ?_)
            · refine go_aload_n (pc := 82) C dX0_locks_82 rfl 0 rfl ?_
              refine X0g_0_22 (pc := 83) C hL dX0_locks_83 ?_
              refine go_iload_n (pc := 86) C dX0_locks_86 rfl 2 rfl ?_
              refine go_iconst (pc := 87) (v := (1 : Int32)) C dX0_locks_87 (by decide) ?_
              refine go_isub (pc := 88) C dX0_locks_88 ?_
              refine go_iald (pc := 89) C (xa_0_22 hL) h dX0_locks_89 (fun h => ?_)
              exact (hE 0 0 _ _ _ (Nat.zero_le _) (Nat.zero_le _)).1 _ rfl dX0_locks_90 ⟨congrArg (fun z => some (Value.int z)) (some2 h).1, congrArg (fun z => (XW Γ.d A L E z)) (some2 h).2⟩
            · refine go_iconst (pc := 78) (v := (-1 : Int32)) C dX0_locks_78 (by decide) ?_
              refine go_goto (pc := 79) (tgt := 90) C dX0_locks_79 (by decide) ?_
              exact (hE 0 0 _ _ _ (Nat.zero_le _) (Nat.zero_le _)).1 _ rfl dX0_locks_90 ⟨congrArg (fun z => some (Value.int z)) (some2 h).1, congrArg (fun z => (XW Γ.d A L E z)) (some2 h).2⟩
          · refine go_aload_n (pc := 60) C dX0_locks_60 rfl 0 rfl ?_
            refine X0g_0_24 (pc := 61) C hL dX0_locks_61 ?_
            refine go_goto (pc := 64) (tgt := 90) C dX0_locks_64 (by decide) ?_
            exact (hE 0 0 _ _ _ (Nat.zero_le _) (Nat.zero_le _)).1 _ rfl dX0_locks_90 ⟨congrArg (fun z => some (Value.int z)) (some2 h).1, congrArg (fun z => (XW Γ.d A L E z)) (some2 h).2⟩
        · refine go_bipush (pc := 53) (v := (-2 : Int32)) C dX0_locks_53 (by decide) ?_
          exact (hE 0 0 _ _ _ (Nat.zero_le _) (Nat.zero_le _)).1 _ rfl dX0_locks_55 ⟨congrArg (fun z => some (Value.int z)) (some2 h).1, congrArg (fun z => (XW Γ.d A L E z)) (some2 h).2⟩
      · refine go_iconst (pc := 31) (v := (-1 : Int32)) C dX0_locks_31 (by decide) ?_
        exact (hE 0 0 _ _ _ (Nat.zero_le _) (Nat.zero_le _)).1 _ rfl dX0_locks_32 ⟨congrArg (fun z => some (Value.int z)) (some2 h).1, congrArg (fun z => (XW Γ.d A L E z)) (some2 h).2⟩
theorem m0_lengthOf {l : Launch} {d : gD} {A : XA} {L : List Nat} {E : va_W} {s0 : (Nat → Bl)} {v1 : Int32} {v2 : Int32} {r9 : Int32} (hL : xOK L) (h : f0_lengthOf s0 v1 v2 = some r9) : Mt l d yX0_lengthOf cX0_lengthOf 3 (some .int) (1, 0, 0) 26 (XW d A L E s0) [.ref (A.1 0 0), .int v1, .int v2] (fun v w => v = some (.int r9) ∧ w = (XW d A L E s0)) := by
  refine Mt.of x0pn (Nat.le_of_ble_eq_true rfl) ?_
  intro Γ hl hd hN C hE
  subst hl; subst hd
  show Go Γ 0 0 (XW Γ.d A L E s0) 0 [(0, .ref (A.1 0 0)), (1, .int v1), (2, .int v2)] []
  dsimp only [f0_lengthOf] at h
  refine go_iconst (pc := 0) (v := (1 : Int32)) C dX0_lengthOf_0 (by decide) ?_
  refine go_aload_n (pc := 1) C dX0_lengthOf_1 rfl 0 rfl ?_
  obtain ⟨hz9, h⟩ := chk_some h
  refine X0g_0_0 (pc := 2) C hL (of_decide_eq_true hz9) dX0_lengthOf_2 ?_
  refine X0g_1_13 (pc := 5) C hL dX0_lengthOf_5 ?_
  refine go_iload_n (pc := 8) C dX0_lengthOf_8 rfl 1 rfl ?_
  refine go_iald (pc := 9) C (xa_1_13 hL) h dX0_lengthOf_9 (fun h => ?_)
  refine go_aload_n (pc := 10) C dX0_lengthOf_10 rfl 0 rfl ?_
  obtain ⟨hz9, h⟩ := chk_some h
  refine X0g_0_0 (pc := 11) C hL (of_decide_eq_true hz9) dX0_lengthOf_11 ?_
  refine X0g_1_13 (pc := 14) C hL dX0_lengthOf_14 ?_
  refine go_iload_n (pc := 17) C dX0_lengthOf_17 rfl 2 rfl ?_
  refine go_iald (pc := 18) C (xa_1_13 hL) h dX0_lengthOf_18 (fun h => ?_)
  refine go_isub (pc := 19) C dX0_lengthOf_19 ?_
  refine go_mabs (pc := 20) C q1169 (by decide) (Nat.le_of_ble_eq_true rfl) ⟨Nat.zero_le _, Nat.zero_le _⟩ dX0_lengthOf_20 ?_
  refine go_iconst (pc := 23) (v := (5 : Int32)) C dX0_lengthOf_23 (by decide) ?_
  refine go_idiv (pc := 24) C dX0_lengthOf_24 (by decide) ?_
  refine go_iadd (pc := 25) C dX0_lengthOf_25 ?_
  exact (hE 0 0 _ _ _ (Nat.zero_le _) (Nat.zero_le _)).1 _ rfl dX0_lengthOf_26 ⟨congrArg (fun z => some (Value.int z)) (some1 h), rfl⟩
theorem w0_joins_2 {Γ : Gam} {A : XA} {L : List Nat} {E : va_W} {v1 : Int32} {v2 : Int32} {s9 : (Nat → Bl)} (hN : Γ.nL = 4) (C : Cx Γ cX0_joins RX0 (0, 0, 0) 0) (hE : Rets Γ cX0_joins none 0 0 (fun v w => v = none ∧ w = (XW Γ.d A L E s9))) (hL : xOK L) : ∀ (n : Nat) (s : (Nat → Bl) × Int32), loop (g0_joins_2 v1 v2) n s = some s9 → (fun s : (Nat → Bl) × Int32 => Go Γ 0 0 (XW Γ.d A L E s.1) 2 [(0, .ref (A.1 0 0)), (1, .int v1), (2, .int v2), (3, .int s.2)] []) s := by
  refine loop_walk (P := fun s : (Nat → Bl) × Int32 => Go Γ 0 0 (XW Γ.d A L E s.1) 2 [(0, .ref (A.1 0 0)), (1, .int v1), (2, .int v2), (3, .int s.2)] []) ?_
  intro K2 hK2 s h
  obtain ⟨s0, v3⟩ := s
  dsimp only [g0_joins_2] at h
  show Go Γ 0 0 (XW Γ.d A L E s0) 2 [(0, .ref (A.1 0 0)), (1, .int v1), (2, .int v2), (3, .int v3)] []
  refine go_iload_n (pc := 2) C dX0_joins_2 rfl 3 rfl ?_
  refine go_aload_n (pc := 3) C dX0_joins_3 rfl 0 rfl ?_
  obtain ⟨hz9, h⟩ := chk_some h
  refine X0g_0_0 (pc := 4) C hL (of_decide_eq_true hz9) dX0_joins_4 ?_
  refine X0g_1_2 (pc := 7) C hL dX0_joins_7 ?_
  refine go_icmp_ge (pc := 10) (tgt := 36) C dX0_joins_10 (by decide) h (fun h => ?_) (fun h => ?_)
  · exact (hE 0 0 _ _ _ (Nat.zero_le _) (Nat.zero_le _)).2.2.2.1 rfl dX0_joins_36 ⟨rfl, congrArg (fun z => (XW Γ.d A L E z)) (some1 h)⟩
  · refine go_aload_n (pc := 13) C dX0_joins_13 rfl 0 rfl ?_
    refine X0g_0_25 (pc := 14) C hL dX0_joins_14 ?_
    refine go_iload_n (pc := 17) C dX0_joins_17 rfl 3 rfl ?_
    refine go_iald (pc := 18) C (xa_0_25 hL) h dX0_joins_18 (fun h => ?_)
    refine go_iload_n (pc := 19) C dX0_joins_19 rfl 1 rfl ?_
    refine go_icmp_ne (pc := 20) (tgt := 30) C dX0_joins_20 (by decide) h (fun h => ?_) (fun h => ?_)
    · refine go_iinc (pc := 30) (v := (v3 + (1 : Int32))) C hN dX0_joins_30 (q := 3) rfl rfl (by decide) rfl ?_
      refine go_goto (pc := 33) (tgt := 2) C dX0_joins_33 (by decide) ?_
      refine go_sub [1, 2, 3, 0] rfl ?_
      exact hK2 (s0, (v3 + (1 : Int32))) h
    · refine go_aload_n (pc := 23) C dX0_joins_23 rfl 0 rfl ?_
      refine X0g_0_25 (pc := 24) C hL dX0_joins_24 ?_
      refine go_iload_n (pc := 27) C dX0_joins_27 rfl 3 rfl ?_
      refine go_iload_n (pc := 28) C dX0_joins_28 rfl 2 rfl ?_
      refine go_iast (pc := 29) C (xpa_0_25 hL) h dX0_joins_29 (fun h => ?_)
      refine go_iinc (pc := 30) (v := (v3 + (1 : Int32))) C hN dX0_joins_30 (q := 3) rfl rfl (by decide) rfl ?_
      refine go_goto (pc := 33) (tgt := 2) C dX0_joins_33 (by decide) ?_
      refine go_sub [1, 2, 3, 0] rfl ?_
      exact hK2 ((upX s0 0 (bA (s0 0) 25 (v3).toNatClampNeg v2)), (v3 + (1 : Int32))) h
theorem m0_joins {l : Launch} {d : gD} {A : XA} {L : List Nat} {E : va_W} {s0 : (Nat → Bl)} {v1 : Int32} {v2 : Int32} {s9 : (Nat → Bl)} (hL : xOK L) (h : f0_joins s0 v1 v2 = some s9) : Mt l d yX0_joins cX0_joins 4 none (0, 0, 0) 0 (XW d A L E s0) [.ref (A.1 0 0), .int v1, .int v2] (fun v w => v = none ∧ w = (XW d A L E s9)) := by
  refine Mt.of x0pn (Nat.le_of_ble_eq_true rfl) ?_
  intro Γ hl hd hN C hE
  subst hl; subst hd
  show Go Γ 0 0 (XW Γ.d A L E s0) 0 [(0, .ref (A.1 0 0)), (1, .int v1), (2, .int v2)] []
  dsimp only [f0_joins] at h
  refine go_iconst (pc := 0) (v := (0 : Int32)) C dX0_joins_0 (by decide) ?_
  refine go_istore_n (pc := 1) C hN dX0_joins_1 rfl (by decide) rfl ?_
  refine go_sub [1, 2, 3, 0] rfl ?_
  exact w0_joins_2 hN C hE hL FU (s0, (0 : Int32)) h
theorem w0_delta_107 {Γ : Gam} {A : XA} {L : List Nat} {E : va_W} {v1 : Int32} {v4 : Int32} {v5 : Int32} {r9 : Int32} {s9 : (Nat → Bl)} {K79 : (Nat → Bl) × Int32 × Int32 × Int32 → Option (Int32 × (Nat → Bl))} {K89 : (Nat → Bl) × Int32 × Int32 × Int32 → Option (Int32 × (Nat → Bl))} (hN : Γ.nL = 7) (C : Cx Γ cX0_delta RX0 (3, 0, 0) 67) (hE : Rets Γ cX0_delta (some .int) 0 0 (fun v w => v = some (.int r9) ∧ w = (XW Γ.d A L E s9))) (hL : xOK L)
    (hK79 : ∀ s, K79 s = some (r9, s9) → (fun s : (Nat → Bl) × Int32 × Int32 × Int32 => Go Γ 0 0 (XW Γ.d A L E s.1) 79 [(0, .ref (A.1 0 0)), (1, .int v1), (2, .int s.2.1), (3, .int s.2.2.1), (4, .int s.2.2.2)] []) s)
    (hK89 : ∀ s, K89 s = some (r9, s9) → (fun s : (Nat → Bl) × Int32 × Int32 × Int32 => Go Γ 0 0 (XW Γ.d A L E s.1) 89 [(0, .ref (A.1 0 0)), (1, .int v1), (2, .int s.2.1), (3, .int s.2.2.1), (4, .int v4), (5, .int s.2.2.2)] []) s) : ∀ (n : Nat) (s : (Nat → Bl) × Int32 × Int32 × Int32), loop (g0_delta_107 v1 v4 v5 K79 K89) n s = some (r9, s9) → (fun s : (Nat → Bl) × Int32 × Int32 × Int32 => Go Γ 0 0 (XW Γ.d A L E s.1) 107 [(0, .ref (A.1 0 0)), (1, .int v1), (2, .int s.2.1), (3, .int s.2.2.1), (4, .int v4), (5, .int v5), (6, .int s.2.2.2)] []) s := by
  refine loop_walk (P := fun s : (Nat → Bl) × Int32 × Int32 × Int32 => Go Γ 0 0 (XW Γ.d A L E s.1) 107 [(0, .ref (A.1 0 0)), (1, .int v1), (2, .int s.2.1), (3, .int s.2.2.1), (4, .int v4), (5, .int v5), (6, .int s.2.2.2)] []) ?_
  intro K107 hK107 s h
  obtain ⟨s0, v2, v3, v6⟩ := s
  dsimp only [g0_delta_107] at h
  show Go Γ 0 0 (XW Γ.d A L E s0) 107 [(0, .ref (A.1 0 0)), (1, .int v1), (2, .int v2), (3, .int v3), (4, .int v4), (5, .int v5), (6, .int v6)] []
  refine go_iload (pc := 107) C dX0_delta_107 6 rfl ?_
  refine go_aload_n (pc := 109) C dX0_delta_109 rfl 0 rfl ?_
  obtain ⟨hz9, h⟩ := chk_some h
  refine X0g_0_0 (pc := 110) C hL (of_decide_eq_true hz9) dX0_delta_110 ?_
  refine X0g_1_2 (pc := 113) C hL dX0_delta_113 ?_
  refine go_icmp_ge (pc := 116) (tgt := 202) C dX0_delta_116 (by decide) h (fun h => ?_) (fun h => ?_)
  · refine go_iinc (pc := 202) (v := (v5 + (1 : Int32))) C hN dX0_delta_202 (q := 5) rfl rfl (by decide) rfl ?_
    refine go_goto (pc := 205) (tgt := 89) C dX0_delta_205 (by decide) ?_
    refine go_sub [1, 2, 3, 4, 5, 0] rfl ?_
    exact hK89 (s0, v2, v3, (v5 + (1 : Int32))) h
  · refine go_aload_n (pc := 119) C dX0_delta_119 rfl 0 rfl ?_
    refine go_iload (pc := 120) C dX0_delta_120 5 rfl ?_
    obtain ⟨r2, e2, h⟩ := bnd_some h
    refine go_callVi (pc := 122) C [.int v5] (m0_isAfloat hL e2) q914 q916 qs31 q138 q917 x0pd_isAfloat (by decide) (by decide) (xO (hL.2 0 (by decide)) hL.1) xc0 rfl (Nat.le_of_ble_eq_true rfl) ⟨Nat.zero_le _, Nat.zero_le _⟩ dX0_delta_122 rfl ?_
    refine go_if_eq (pc := 125) (tgt := 196) C dX0_delta_125 (by decide) h (fun h => ?_) (fun h => ?_)
    · refine go_iinc (pc := 196) (v := (v6 + (1 : Int32))) C hN dX0_delta_196 (q := 6) rfl rfl (by decide) rfl ?_
      refine go_goto (pc := 199) (tgt := 107) C dX0_delta_199 (by decide) ?_
      refine go_sub [1, 2, 3, 4, 5, 6, 0] rfl ?_
      exact hK107 (s0, v2, v3, (v6 + (1 : Int32))) h
    · refine go_aload_n (pc := 128) C dX0_delta_128 rfl 0 rfl ?_
      refine go_iload (pc := 129) C dX0_delta_129 6 rfl ?_
      obtain ⟨r3, e3, h⟩ := bnd_some h
      refine go_callVi (pc := 131) C [.int v6] (m0_isAfloat hL e3) q914 q916 qs31 q138 q917 x0pd_isAfloat (by decide) (by decide) (xO (hL.2 0 (by decide)) hL.1) xc0 rfl (Nat.le_of_ble_eq_true rfl) ⟨Nat.zero_le _, Nat.zero_le _⟩ dX0_delta_131 rfl ?_
      refine go_if_eq (pc := 134) (tgt := 196) C dX0_delta_134 (by decide) h (fun h => ?_) (fun h => ?_)
      · refine go_iinc (pc := 196) (v := (v6 + (1 : Int32))) C hN dX0_delta_196 (q := 6) rfl rfl (by decide) rfl ?_
        refine go_goto (pc := 199) (tgt := 107) C dX0_delta_199 (by decide) ?_
        refine go_sub [1, 2, 3, 4, 5, 6, 0] rfl ?_
        exact hK107 (s0, v2, v3, (v6 + (1 : Int32))) h
      · refine go_aload_n (pc := 137) C dX0_delta_137 rfl 0 rfl ?_
        refine X0g_0_25 (pc := 138) C hL dX0_delta_138 ?_
        refine go_iload (pc := 141) C dX0_delta_141 5 rfl ?_
        refine go_iald (pc := 143) C (xa_0_25 hL) h dX0_delta_143 (fun h => ?_)
        refine go_aload_n (pc := 144) C dX0_delta_144 rfl 0 rfl ?_
        refine X0g_0_25 (pc := 145) C hL dX0_delta_145 ?_
        refine go_iload (pc := 148) C dX0_delta_148 6 rfl ?_
        refine go_iald (pc := 150) C (xa_0_25 hL) h dX0_delta_150 (fun h => ?_)
        refine go_icmp_eq (pc := 151) (tgt := 196) C dX0_delta_151 (by decide) h (fun h => ?_) (fun h => ?_)
        · refine go_iinc (pc := 196) (v := (v6 + (1 : Int32))) C hN dX0_delta_196 (q := 6) rfl rfl (by decide) rfl ?_
          refine go_goto (pc := 199) (tgt := 107) C dX0_delta_199 (by decide) ?_
          refine go_sub [1, 2, 3, 4, 5, 6, 0] rfl ?_
          exact hK107 (s0, v2, v3, (v6 + (1 : Int32))) h
        · refine go_aload_n (pc := 154) C dX0_delta_154 rfl 0 rfl ?_
          refine go_iload (pc := 155) C dX0_delta_155 5 rfl ?_
          refine go_iload (pc := 157) C dX0_delta_157 6 rfl ?_
          obtain ⟨r4, e4, h⟩ := bnd_some h
          refine go_callVi (pc := 159) C [.int v5, .int v6] (m0_lengthOf hL e4) q1165 q1167 qs47 q138 q1168 x0pd_lengthOf (by decide) (by decide) (xO (hL.2 0 (by decide)) hL.1) xc0 rfl (Nat.le_of_ble_eq_true rfl) ⟨Nat.zero_le _, Nat.zero_le _⟩ dX0_delta_159 rfl ?_
          refine go_iload (pc := 162) C dX0_delta_162 4 rfl ?_
          refine go_icmp_eq (pc := 164) (tgt := 170) C dX0_delta_164 (by decide) h (fun h => ?_) (fun h => ?_)
          · refine go_aload_n (pc := 170) C dX0_delta_170 rfl 0 rfl ?_
            refine go_aload_n (pc := 171) C dX0_delta_171 rfl 0 rfl ?_
            refine X0g_0_25 (pc := 172) C hL dX0_delta_172 ?_
            refine go_iload (pc := 175) C dX0_delta_175 6 rfl ?_
            refine go_iald (pc := 177) C (xa_0_25 hL) h dX0_delta_177 (fun h => ?_)
            refine go_aload_n (pc := 178) C dX0_delta_178 rfl 0 rfl ?_
            refine X0g_0_25 (pc := 179) C hL dX0_delta_179 ?_
            refine go_iload (pc := 182) C dX0_delta_182 5 rfl ?_
            refine go_iald (pc := 184) C (xa_0_25 hL) h dX0_delta_184 (fun h => ?_)
            obtain ⟨s5, e5, h⟩ := bnd_some h
            refine go_callVv (pc := 185) C [.int ((s0 0).2.1 25 (v6).toNatClampNeg), .int ((s0 0).2.1 25 (v5).toNatClampNeg)] (m0_joins hL e5) q1172 q1174 qs48 q138 q1175 x0pd_joins (by decide) (by decide) (xO (hL.2 0 (by decide)) hL.1) xc0 rfl (Nat.le_of_ble_eq_true rfl) ⟨Nat.zero_le _, Nat.zero_le _⟩ dX0_delta_185 rfl ?_
            refine go_iload_n (pc := 188) C dX0_delta_188 rfl 2 rfl ?_
            refine go_iload (pc := 189) C dX0_delta_189 4 rfl ?_
            refine go_iadd (pc := 191) C dX0_delta_191 ?_
            refine go_istore_n (pc := 192) C hN dX0_delta_192 rfl (by decide) rfl ?_
            refine go_iinc (pc := 193) (v := (v3 + (1 : Int32))) C hN dX0_delta_193 (q := 3) rfl rfl (by decide) rfl ?_
            refine go_iinc (pc := 196) (v := (v6 + (1 : Int32))) C hN dX0_delta_196 (q := 6) rfl rfl (by decide) rfl ?_
            refine go_goto (pc := 199) (tgt := 107) C dX0_delta_199 (by decide) ?_
            refine go_sub [3, 4, 2, 1, 5, 6, 0] rfl ?_
            exact hK107 (s5, (v2 + v4), (v3 + (1 : Int32)), (v6 + (1 : Int32))) h
          · refine go_goto (pc := 167) (tgt := 196) C dX0_delta_167 (by decide) ?_
            refine go_iinc (pc := 196) (v := (v6 + (1 : Int32))) C hN dX0_delta_196 (q := 6) rfl rfl (by decide) rfl ?_
            refine go_goto (pc := 199) (tgt := 107) C dX0_delta_199 (by decide) ?_
            refine go_sub [1, 2, 3, 4, 5, 6, 0] rfl ?_
            exact hK107 (s0, v2, v3, (v6 + (1 : Int32))) h
theorem w0_delta_89 {Γ : Gam} {A : XA} {L : List Nat} {E : va_W} {v1 : Int32} {v4 : Int32} {r9 : Int32} {s9 : (Nat → Bl)} {K79 : (Nat → Bl) × Int32 × Int32 × Int32 → Option (Int32 × (Nat → Bl))} (hN : Γ.nL = 7) (C : Cx Γ cX0_delta RX0 (3, 0, 0) 67) (hE : Rets Γ cX0_delta (some .int) 0 0 (fun v w => v = some (.int r9) ∧ w = (XW Γ.d A L E s9))) (hL : xOK L)
    (hK79 : ∀ s, K79 s = some (r9, s9) → (fun s : (Nat → Bl) × Int32 × Int32 × Int32 => Go Γ 0 0 (XW Γ.d A L E s.1) 79 [(0, .ref (A.1 0 0)), (1, .int v1), (2, .int s.2.1), (3, .int s.2.2.1), (4, .int s.2.2.2)] []) s) : ∀ (n : Nat) (s : (Nat → Bl) × Int32 × Int32 × Int32), loop (g0_delta_89 v1 v4 K79) n s = some (r9, s9) → (fun s : (Nat → Bl) × Int32 × Int32 × Int32 => Go Γ 0 0 (XW Γ.d A L E s.1) 89 [(0, .ref (A.1 0 0)), (1, .int v1), (2, .int s.2.1), (3, .int s.2.2.1), (4, .int v4), (5, .int s.2.2.2)] []) s := by
  refine loop_walk (P := fun s : (Nat → Bl) × Int32 × Int32 × Int32 => Go Γ 0 0 (XW Γ.d A L E s.1) 89 [(0, .ref (A.1 0 0)), (1, .int v1), (2, .int s.2.1), (3, .int s.2.2.1), (4, .int v4), (5, .int s.2.2.2)] []) ?_
  intro K89 hK89 s h
  obtain ⟨s0, v2, v3, v5⟩ := s
  dsimp only [g0_delta_89] at h
  show Go Γ 0 0 (XW Γ.d A L E s0) 89 [(0, .ref (A.1 0 0)), (1, .int v1), (2, .int v2), (3, .int v3), (4, .int v4), (5, .int v5)] []
  refine go_iload (pc := 89) C dX0_delta_89 5 rfl ?_
  refine go_aload_n (pc := 91) C dX0_delta_91 rfl 0 rfl ?_
  obtain ⟨hz9, h⟩ := chk_some h
  refine X0g_0_0 (pc := 92) C hL (of_decide_eq_true hz9) dX0_delta_92 ?_
  refine X0g_1_2 (pc := 95) C hL dX0_delta_95 ?_
  refine go_icmp_ge (pc := 98) (tgt := 208) C dX0_delta_98 (by decide) h (fun h => ?_) (fun h => ?_)
  · refine go_iinc (pc := 208) (v := (v4 + (1 : Int32))) C hN dX0_delta_208 (q := 4) rfl rfl (by decide) rfl ?_
    refine go_goto (pc := 211) (tgt := 79) C dX0_delta_211 (by decide) ?_
    refine go_sub [1, 2, 3, 4, 0] rfl ?_
    exact hK79 (s0, v2, v3, (v4 + (1 : Int32))) h
  · refine go_iload (pc := 101) C dX0_delta_101 5 rfl ?_
    refine go_iconst (pc := 103) (v := (1 : Int32)) C dX0_delta_103 (by decide) ?_
    refine go_iadd (pc := 104) C dX0_delta_104 ?_
    refine go_istore (pc := 105) C hN dX0_delta_105 (by decide) rfl ?_
    refine go_sub [1, 2, 3, 4, 5, 6, 0] rfl ?_
    exact w0_delta_107 hN C hE hL hK79 hK89 FU (s0, v2, v3, (v5 + (1 : Int32))) h
theorem w0_delta_79 {Γ : Gam} {A : XA} {L : List Nat} {E : va_W} {v1 : Int32} {r9 : Int32} {s9 : (Nat → Bl)} (hN : Γ.nL = 7) (C : Cx Γ cX0_delta RX0 (3, 0, 0) 67) (hE : Rets Γ cX0_delta (some .int) 0 0 (fun v w => v = some (.int r9) ∧ w = (XW Γ.d A L E s9))) (hL : xOK L) : ∀ (n : Nat) (s : (Nat → Bl) × Int32 × Int32 × Int32), loop (g0_delta_79 v1) n s = some (r9, s9) → (fun s : (Nat → Bl) × Int32 × Int32 × Int32 => Go Γ 0 0 (XW Γ.d A L E s.1) 79 [(0, .ref (A.1 0 0)), (1, .int v1), (2, .int s.2.1), (3, .int s.2.2.1), (4, .int s.2.2.2)] []) s := by
  refine loop_walk (P := fun s : (Nat → Bl) × Int32 × Int32 × Int32 => Go Γ 0 0 (XW Γ.d A L E s.1) 79 [(0, .ref (A.1 0 0)), (1, .int v1), (2, .int s.2.1), (3, .int s.2.2.1), (4, .int s.2.2.2)] []) ?_
  intro K79 hK79 s h
  obtain ⟨s0, v2, v3, v4⟩ := s
  dsimp only [g0_delta_79] at h
  show Go Γ 0 0 (XW Γ.d A L E s0) 79 [(0, .ref (A.1 0 0)), (1, .int v1), (2, .int v2), (3, .int v3), (4, .int v4)] []
  refine go_iload (pc := 79) C dX0_delta_79 4 rfl ?_
  refine go_bipush (pc := 81) (v := (11 : Int32)) C dX0_delta_81 (by decide) ?_
  refine go_icmp_gt (pc := 83) (tgt := 214) C dX0_delta_83 (by decide) h (fun h => ?_) (fun h => ?_)
  · refine go_iload_n (pc := 214) C dX0_delta_214 rfl 1 rfl ?_
    refine go_if_ne (pc := 215) (tgt := 222) C dX0_delta_215 (by decide) h (fun h => ?_) (fun h => ?_)
    · refine go_iload_n (pc := 222) C dX0_delta_222 rfl 3 rfl ?_
      exact (hE 0 0 _ _ _ (Nat.zero_le _) (Nat.zero_le _)).1 _ rfl dX0_delta_223 ⟨congrArg (fun z => some (Value.int z)) (some2 h).1, congrArg (fun z => (XW Γ.d A L E z)) (some2 h).2⟩
    · refine go_iload_n (pc := 218) C dX0_delta_218 rfl 2 rfl ?_
      refine go_goto (pc := 219) (tgt := 223) C dX0_delta_219 (by decide) ?_
      exact (hE 0 0 _ _ _ (Nat.zero_le _) (Nat.zero_le _)).1 _ rfl dX0_delta_223 ⟨congrArg (fun z => some (Value.int z)) (some2 h).1, congrArg (fun z => (XW Γ.d A L E z)) (some2 h).2⟩
  · refine go_iconst (pc := 86) (v := (0 : Int32)) C dX0_delta_86 (by decide) ?_
    refine go_istore (pc := 87) C hN dX0_delta_87 (by decide) rfl ?_
    refine go_sub [1, 2, 3, 4, 5, 0] rfl ?_
    exact w0_delta_89 hN C hE hL hK79 FU (s0, v2, v3, (0 : Int32)) h
theorem w0_delta_26 {Γ : Gam} {A : XA} {L : List Nat} {E : va_W} {v1 : Int32} {r9 : Int32} {s9 : (Nat → Bl)} (hN : Γ.nL = 7) (C : Cx Γ cX0_delta RX0 (3, 0, 0) 67) (hE : Rets Γ cX0_delta (some .int) 0 0 (fun v w => v = some (.int r9) ∧ w = (XW Γ.d A L E s9))) (hL : xOK L) : ∀ (n : Nat) (s : (Nat → Bl) × Int32), loop (g0_delta_26 v1) n s = some (r9, s9) → (fun s : (Nat → Bl) × Int32 => Go Γ 0 0 (XW Γ.d A L E s.1) 26 [(0, .ref (A.1 0 0)), (1, .int v1), (2, .int (0 : Int32)), (3, .int (0 : Int32)), (4, .int s.2)] []) s := by
  refine loop_walk (P := fun s : (Nat → Bl) × Int32 => Go Γ 0 0 (XW Γ.d A L E s.1) 26 [(0, .ref (A.1 0 0)), (1, .int v1), (2, .int (0 : Int32)), (3, .int (0 : Int32)), (4, .int s.2)] []) ?_
  intro K26 hK26 s h
  obtain ⟨s0, v4⟩ := s
  dsimp only [g0_delta_26] at h
  show Go Γ 0 0 (XW Γ.d A L E s0) 26 [(0, .ref (A.1 0 0)), (1, .int v1), (2, .int (0 : Int32)), (3, .int (0 : Int32)), (4, .int v4)] []
  refine go_iload (pc := 26) C dX0_delta_26 4 rfl ?_
  refine go_aload_n (pc := 28) C dX0_delta_28 rfl 0 rfl ?_
  obtain ⟨hz9, h⟩ := chk_some h
  refine X0g_0_0 (pc := 29) C hL (of_decide_eq_true hz9) dX0_delta_29 ?_
  refine X0g_1_2 (pc := 32) C hL dX0_delta_32 ?_
  refine go_icmp_ge (pc := 35) (tgt := 76) C dX0_delta_35 (by decide) h (fun h => ?_) (fun h => ?_)
  · refine go_iconst (pc := 76) (v := (1 : Int32)) C dX0_delta_76 (by decide) ?_
    refine go_istore (pc := 77) C hN dX0_delta_77 (by decide) rfl ?_
    refine go_sub [1, 2, 3, 4, 0] rfl ?_
    exact w0_delta_79 hN C hE hL FU (s0, (0 : Int32), (0 : Int32), (1 : Int32)) h
  · refine go_aload_n (pc := 38) C dX0_delta_38 rfl 0 rfl ?_
    refine X0g_0_25 (pc := 39) C hL dX0_delta_39 ?_
    refine go_iload (pc := 42) C dX0_delta_42 4 rfl ?_
    refine go_aload_n (pc := 44) C dX0_delta_44 rfl 0 rfl ?_
    refine go_iload (pc := 45) C dX0_delta_45 4 rfl ?_
    obtain ⟨r6, e6, h⟩ := bnd_some h
    refine go_callVi (pc := 47) C [.int v4] (m0_isAfloat hL e6) q914 q916 qs31 q138 q917 x0pd_isAfloat (by decide) (by decide) (xO (hL.2 0 (by decide)) hL.1) xc0 rfl (Nat.le_of_ble_eq_true rfl) ⟨Nat.zero_le _, Nat.zero_le _⟩ dX0_delta_47 rfl ?_
    refine go_if_eq (pc := 50) (tgt := 68) C dX0_delta_50 (by decide) h (fun h => ?_) (fun h => ?_)
    · refine go_iconst (pc := 68) (v := (-1 : Int32)) C dX0_delta_68 (by decide) ?_
      refine go_iast (pc := 69) C (xpa_0_25 hL) h dX0_delta_69 (fun h => ?_)
      refine go_iinc (pc := 70) (v := (v4 + (1 : Int32))) C hN dX0_delta_70 (q := 4) rfl rfl (by decide) rfl ?_
      refine go_goto (pc := 73) (tgt := 26) C dX0_delta_73 (by decide) ?_
      refine go_sub [1, 2, 3, 4, 0] rfl ?_
      exact hK26 ((upX s0 0 (bA (s0 0) 25 (v4).toNatClampNeg (-1 : Int32))), (v4 + (1 : Int32))) h
    · refine go_aload_n (pc := 53) C dX0_delta_53 rfl 0 rfl ?_
      obtain ⟨hz9, h⟩ := chk_some h
      refine X0g_0_0 (pc := 54) C hL (of_decide_eq_true hz9) dX0_delta_54 ?_
      refine go_iload (pc := 57) C dX0_delta_57 4 rfl ?_
      obtain ⟨r7, e7, h⟩ := bnd_some h
      refine go_callVi (pc := 59) C [.int v4] (Mt.x0 (hL.2 1 (by decide)) hL.1 (m1_pieceOf e7)) q922 q923 q924 q139 q925 x1pd_pieceOf (by decide) (by decide) (xO (hL.2 1 (by decide)) hL.1) xc1 rfl (Nat.le_of_ble_eq_true rfl) ⟨Nat.zero_le _, Nat.zero_le _⟩ dX0_delta_59 rfl ?_
      obtain ⟨r8, e8, h⟩ := bnd_some h
      refine go_callSi (pc := 62) C [.int r7] (mJ8_numberOfTrailingZeros e8) q1161 q1162 q162 q1163 j8pd_numberOfTrailingZeros (by decide) (by decide) rfl (Nat.le_of_ble_eq_true rfl) ⟨Nat.zero_le _, Nat.zero_le _⟩ dX0_delta_62 rfl ?_
      refine go_goto (pc := 65) (tgt := 69) C dX0_delta_65 (by decide) ?_
      refine go_iast (pc := 69) C (xpa_0_25 hL) h dX0_delta_69 (fun h => ?_)
      refine go_iinc (pc := 70) (v := (v4 + (1 : Int32))) C hN dX0_delta_70 (q := 4) rfl rfl (by decide) rfl ?_
      refine go_goto (pc := 73) (tgt := 26) C dX0_delta_73 (by decide) ?_
      refine go_sub [1, 2, 3, 4, 0] rfl ?_
      exact hK26 ((upX s0 0 (bA (s0 0) 25 (v4).toNatClampNeg r8)), (v4 + (1 : Int32))) h
theorem m0_delta {l : Launch} {d : gD} {A : XA} {L : List Nat} {E : va_W} {s0 : (Nat → Bl)} {v1 : Int32} {r9 : Int32} {s9 : (Nat → Bl)} (hL : xOK L) (h : f0_delta s0 v1 = some (r9, s9)) : Mt l d yX0_delta cX0_delta 7 (some .int) (3, 0, 0) 67 (XW d A L E s0) [.ref (A.1 0 0), .int v1] (fun v w => v = some (.int r9) ∧ w = (XW d A L E s9)) := by
  refine Mt.of x0pn (Nat.le_of_ble_eq_true rfl) ?_
  intro Γ hl hd hN C hE
  subst hl; subst hd
  show Go Γ 0 0 (XW Γ.d A L E s0) 0 [(0, .ref (A.1 0 0)), (1, .int v1)] []
  dsimp only [f0_delta] at h
  refine go_aload_n (pc := 0) C dX0_delta_0 rfl 0 rfl ?_
  by_cases c4n : (s0 0).1 0 = 0
  · have h := (if_pos c4n).symm.trans h
    refine X0g_0_0N (pc := 1) C hL c4n dX0_delta_1 ?_
    refine go_ifnullN (pc := 4) (tgt := 17) C dX0_delta_4 (by decide) ?_
    refine go_iconst (pc := 17) (v := (-1 : Int32)) C dX0_delta_17 (by decide) ?_
    exact (hE 0 0 _ _ _ (Nat.zero_le _) (Nat.zero_le _)).1 _ rfl dX0_delta_18 ⟨congrArg (fun z => some (Value.int z)) (some2 h).1, congrArg (fun z => (XW Γ.d A L E z)) (some2 h).2⟩
  · have h := (if_neg c4n).symm.trans h
    refine X0g_0_0 (pc := 1) C hL c4n dX0_delta_1 ?_
    refine go_ifnull (pc := 4) C dX0_delta_4 ?_
    refine go_iload_n (pc := 7) C dX0_delta_7 rfl 1 rfl ?_
    refine go_i2l (pc := 8) C dX0_delta_8 ?_
    refine go_lconst (pc := 9) (v := (0 : Int64)) C dX0_delta_9 (by decide) ?_
    refine go_lconst (pc := 10) (v := (1 : Int64)) C dX0_delta_10 (by decide) ?_
    obtain ⟨r1, e1, h⟩ := bnd_some h
    refine go_callSi (pc := 11) C [.long (v1).toInt64, .long (0 : Int64), .long (1 : Int64)] (m0_in e1) q939 q647 q138 q648 x0pd_in (by decide) (by decide) rfl (Nat.le_of_ble_eq_true rfl) ⟨Nat.zero_le _, Nat.zero_le _⟩ dX0_delta_11 rfl ?_
    refine go_if_ne (pc := 14) (tgt := 19) C dX0_delta_14 (by decide) h (fun h => ?_) (fun h => ?_)
    · refine go_iconst (pc := 19) (v := (0 : Int32)) C dX0_delta_19 (by decide) ?_
      refine go_istore_n (pc := 20) C hN dX0_delta_20 rfl (by decide) rfl ?_
      refine go_iconst (pc := 21) (v := (0 : Int32)) C dX0_delta_21 (by decide) ?_
      refine go_istore_n (pc := 22) C hN dX0_delta_22 rfl (by decide) rfl ?_
      refine go_iconst (pc := 23) (v := (0 : Int32)) C dX0_delta_23 (by decide) ?_
      refine go_istore (pc := 24) C hN dX0_delta_24 (by decide) rfl ?_
      refine go_sub [3, 4, 2, 1, 0] rfl ?_
      exact w0_delta_26 hN C hE hL FU (s0, (0 : Int32)) h
    · refine go_iconst (pc := 17) (v := (-1 : Int32)) C dX0_delta_17 (by decide) ?_
      exact (hE 0 0 _ _ _ (Nat.zero_le _) (Nat.zero_le _)).1 _ rfl dX0_delta_18 ⟨congrArg (fun z => some (Value.int z)) (some2 h).1, congrArg (fun z => (XW Γ.d A L E z)) (some2 h).2⟩
theorem m0_isWeakThing {l : Launch} {d : gD} {A : XA} {L : List Nat} {E : va_W} {s0 : (Nat → Bl)} {v1 : Int32} {r9 : Int32} (hL : xOK L) (h : f0_isWeakThing s0 v1 = some r9) : Mt l d yX0_isWeakThing cX0_isWeakThing 4 (some .boolean) (3, 0, 0) 67 (XW d A L E s0) [.ref (A.1 0 0), .int v1] (fun v w => v = some (.int r9) ∧ w = (XW d A L E s0)) := by
  refine Mt.of x0pn (Nat.le_of_ble_eq_true rfl) ?_
  intro Γ hl hd hN C hE
  subst hl; subst hd
  show Go Γ 0 0 (XW Γ.d A L E s0) 0 [(0, .ref (A.1 0 0)), (1, .int v1)] []
  dsimp only [f0_isWeakThing] at h
  refine go_aload_n (pc := 0) C dX0_isWeakThing_0 rfl 0 rfl ?_
  obtain ⟨hz9, h⟩ := chk_some h
  refine X0g_0_0 (pc := 1) C hL (of_decide_eq_true hz9) dX0_isWeakThing_1 ?_
  refine go_iload_n (pc := 4) C dX0_isWeakThing_4 rfl 1 rfl ?_
  obtain ⟨r1, e1, h⟩ := bnd_some h
  refine go_callVi (pc := 5) C [.int v1] (Mt.x0 (hL.2 1 (by decide)) hL.1 (m1_pieceOf e1)) q922 q923 q924 q139 q925 x1pd_pieceOf (by decide) (by decide) (xO (hL.2 1 (by decide)) hL.1) xc1 rfl (Nat.le_of_ble_eq_true rfl) ⟨Nat.zero_le _, Nat.zero_le _⟩ dX0_isWeakThing_5 rfl ?_
  refine go_iconst (pc := 8) (v := (1 : Int32)) C dX0_isWeakThing_8 (by decide) ?_
  refine go_iload_n (pc := 9) C dX0_isWeakThing_9 rfl 1 rfl ?_
  refine go_ishl (pc := 10) C dX0_isWeakThing_10 ?_
  refine go_iconst (pc := 11) (v := (-1 : Int32)) C dX0_isWeakThing_11 (by decide) ?_
  refine go_ixor (pc := 12) C dX0_isWeakThing_12 ?_
  refine go_iand (pc := 13) C dX0_isWeakThing_13 ?_
  refine go_istore_n (pc := 14) C hN dX0_isWeakThing_14 rfl (by decide) rfl ?_
  refine go_iload_n (pc := 15) C dX0_isWeakThing_15 rfl 0 rfl ?_
  refine go_if_ne (pc := 16) (tgt := 21) C dX0_isWeakThing_16 (by decide) h (fun h => ?_) (fun h => ?_)
  · refine go_aload_n (pc := 21) C dX0_isWeakThing_21 rfl 1 rfl ?_
    obtain ⟨hz9, h⟩ := chk_some h
    refine X0g_0_0 (pc := 22) C hL (of_decide_eq_true hz9) dX0_isWeakThing_22 ?_
    obtain ⟨r2, e2, h⟩ := bnd_some h
    refine go_callVi (pc := 25) C [] (Mt.x0 (hL.2 1 (by decide)) hL.1 (m1_allRopes e2)) q877 q878 q879 q139 q880 x1pd_allRopes (by decide) (by decide) (xO (hL.2 1 (by decide)) hL.1) xc1 rfl (Nat.le_of_ble_eq_true rfl) ⟨Nat.zero_le _, Nat.zero_le _⟩ dX0_isWeakThing_25 rfl ?_
    refine go_aload_n (pc := 28) C dX0_isWeakThing_28 rfl 1 rfl ?_
    obtain ⟨hz9, h⟩ := chk_some h
    refine X0g_0_0 (pc := 29) C hL (of_decide_eq_true hz9) dX0_isWeakThing_29 ?_
    refine go_iconst (pc := 32) (v := (1 : Int32)) C dX0_isWeakThing_32 (by decide) ?_
    refine go_iload_n (pc := 33) C dX0_isWeakThing_33 rfl 2 rfl ?_
    refine go_ishl (pc := 34) C dX0_isWeakThing_34 ?_
    obtain ⟨r3, e3, h⟩ := bnd_some h
    refine go_callVi (pc := 35) C [.int ((1 : Int32) <<< (v1 &&& 31))] (Mt.x0 (hL.2 1 (by decide)) hL.1 (m1_ropesAt e3)) q1029 q1002 q1003 q139 q1004 x1pd_ropesAt (by decide) (by decide) (xO (hL.2 1 (by decide)) hL.1) xc1 rfl (Nat.le_of_ble_eq_true rfl) ⟨Nat.zero_le _, Nat.zero_le _⟩ dX0_isWeakThing_35 rfl ?_
    refine go_iconst (pc := 38) (v := (-1 : Int32)) C dX0_isWeakThing_38 (by decide) ?_
    refine go_ixor (pc := 39) C dX0_isWeakThing_39 ?_
    refine go_iand (pc := 40) C dX0_isWeakThing_40 ?_
    refine go_istore_n (pc := 41) C hN dX0_isWeakThing_41 rfl (by decide) rfl ?_
    refine go_aload_n (pc := 42) C dX0_isWeakThing_42 rfl 2 rfl ?_
    obtain ⟨hz9, h⟩ := chk_some h
    refine X0g_0_0 (pc := 43) C hL (of_decide_eq_true hz9) dX0_isWeakThing_43 ?_
    refine go_iload_n (pc := 46) C dX0_isWeakThing_46 rfl 1 rfl ?_
    obtain ⟨r4, e4, h⟩ := bnd_some h
    refine go_callSi (pc := 47) C [.int (r1 &&& (((1 : Int32) <<< (v1 &&& 31)) ^^^ (-1 : Int32)))] (mJ8_numberOfTrailingZeros e4) q1161 q1162 q162 q1163 j8pd_numberOfTrailingZeros (by decide) (by decide) rfl (Nat.le_of_ble_eq_true rfl) ⟨Nat.zero_le _, Nat.zero_le _⟩ dX0_isWeakThing_47 rfl ?_
    refine go_iload_n (pc := 50) C dX0_isWeakThing_50 rfl 0 rfl ?_
    obtain ⟨r5, e5, h⟩ := bnd_some h
    refine go_callVi (pc := 51) C [.int r4, .int (r2 &&& (r3 ^^^ (-1 : Int32)))] (Mt.x0 (hL.2 1 (by decide)) hL.1 (m1_pieceBy e5)) q1184 q886 q887 q139 q888 x1pd_pieceBy (by decide) (by decide) (xO (hL.2 1 (by decide)) hL.1) xc1 rfl (Nat.le_of_ble_eq_true rfl) ⟨Nat.zero_le _, Nat.zero_le _⟩ dX0_isWeakThing_51 rfl ?_
    refine go_iload_n (pc := 54) C dX0_isWeakThing_54 rfl 1 rfl ?_
    refine go_icmp_eq (pc := 55) (tgt := 62) C dX0_isWeakThing_55 (by decide) h (fun h => ?_) (fun h => ?_)
    · refine go_iconst (pc := 62) (v := (0 : Int32)) C dX0_isWeakThing_62 (by decide) ?_
      exact (hE 0 0 _ _ _ (Nat.zero_le _) (Nat.zero_le _)).2.1 _ rfl (Or.inl rfl) dX0_isWeakThing_63 ⟨congrArg (fun z => some (Value.int z)) (some1 h), rfl⟩
    · refine go_iconst (pc := 58) (v := (1 : Int32)) C dX0_isWeakThing_58 (by decide) ?_
      refine go_goto (pc := 59) (tgt := 63) C dX0_isWeakThing_59 (by decide) ?_
      exact (hE 0 0 _ _ _ (Nat.zero_le _) (Nat.zero_le _)).2.1 _ rfl (Or.inr rfl) dX0_isWeakThing_63 ⟨congrArg (fun z => some (Value.int z)) (some1 h), rfl⟩
  · refine go_iconst (pc := 19) (v := (0 : Int32)) C dX0_isWeakThing_19 (by decide) ?_
    exact (hE 0 0 _ _ _ (Nat.zero_le _) (Nat.zero_le _)).2.1 _ rfl (Or.inl rfl) dX0_isWeakThing_20 ⟨congrArg (fun z => some (Value.int z)) (some1 h), rfl⟩
theorem w0_weak_75 {Γ : Gam} {A : XA} {L : List Nat} {E : va_W} {s0 : (Nat → Bl)} {r9 : Int32} (hN : Γ.nL = 4) (C : Cx Γ cX0_weak RX0 (4, 0, 0) 90) (hE : Rets Γ cX0_weak (some .int) 0 0 (fun v w => v = some (.int r9) ∧ w = (XW Γ.d A L E s0))) (hL : xOK L) : ∀ (n : Nat) (s : Int32 × Int32), loop (g0_weak_75 s0) n s = some r9 → (fun s : Int32 × Int32 => Go Γ 0 0 (XW Γ.d A L E s0) 75 [(0, .ref (A.1 0 0)), (2, .int s.1), (3, .int s.2)] []) s := by
  refine loop_walk (P := fun s : Int32 × Int32 => Go Γ 0 0 (XW Γ.d A L E s0) 75 [(0, .ref (A.1 0 0)), (2, .int s.1), (3, .int s.2)] []) ?_
  intro K75 hK75 s h
  obtain ⟨v2, v3⟩ := s
  dsimp only [g0_weak_75] at h
  show Go Γ 0 0 (XW Γ.d A L E s0) 75 [(0, .ref (A.1 0 0)), (2, .int v2), (3, .int v3)] []
  refine go_iload_n (pc := 75) C dX0_weak_75 rfl 2 rfl ?_
  refine go_aload_n (pc := 76) C dX0_weak_76 rfl 0 rfl ?_
  obtain ⟨hz9, h⟩ := chk_some h
  refine X0g_0_0 (pc := 77) C hL (of_decide_eq_true hz9) dX0_weak_77 ?_
  refine X0g_1_5 (pc := 80) C hL dX0_weak_80 ?_
  refine go_icmp_ge (pc := 83) (tgt := 146) C dX0_weak_83 (by decide) h (fun h => ?_) (fun h => ?_)
  · refine go_iload_n (pc := 146) C dX0_weak_146 rfl 1 rfl ?_
    exact (hE 0 0 _ _ _ (Nat.zero_le _) (Nat.zero_le _)).1 _ rfl dX0_weak_147 ⟨congrArg (fun z => some (Value.int z)) (some1 h), rfl⟩
  · refine go_iload_n (pc := 86) C dX0_weak_86 rfl 1 rfl ?_
    refine go_aload_n (pc := 87) C dX0_weak_87 rfl 0 rfl ?_
    obtain ⟨hz9, h⟩ := chk_some h
    refine X0g_0_0 (pc := 88) C hL (of_decide_eq_true hz9) dX0_weak_88 ?_
    refine go_aload_n (pc := 91) C dX0_weak_91 rfl 0 rfl ?_
    obtain ⟨hz9, h⟩ := chk_some h
    refine X0g_0_0 (pc := 92) C hL (of_decide_eq_true hz9) dX0_weak_92 ?_
    refine X0g_1_18 (pc := 95) C hL dX0_weak_95 ?_
    refine go_iload_n (pc := 98) C dX0_weak_98 rfl 2 rfl ?_
    refine go_iald (pc := 99) C (xa_1_18 hL) h dX0_weak_99 (fun h => ?_)
    refine go_aload_n (pc := 100) C dX0_weak_100 rfl 0 rfl ?_
    obtain ⟨hz9, h⟩ := chk_some h
    refine X0g_0_0 (pc := 101) C hL (of_decide_eq_true hz9) dX0_weak_101 ?_
    obtain ⟨r2, e2, h⟩ := bnd_some h
    refine go_callVi (pc := 104) C [] (Mt.x0 (hL.2 1 (by decide)) hL.1 (m1_allRopes e2)) q877 q878 q879 q139 q880 x1pd_allRopes (by decide) (by decide) (xO (hL.2 1 (by decide)) hL.1) xc1 rfl (Nat.le_of_ble_eq_true rfl) ⟨Nat.zero_le _, Nat.zero_le _⟩ dX0_weak_104 rfl ?_
    refine go_iconst (pc := 107) (v := (1 : Int32)) C dX0_weak_107 (by decide) ?_
    refine go_iload_n (pc := 108) C dX0_weak_108 rfl 2 rfl ?_
    refine go_ishl (pc := 109) C dX0_weak_109 ?_
    refine go_iconst (pc := 110) (v := (-1 : Int32)) C dX0_weak_110 (by decide) ?_
    refine go_ixor (pc := 111) C dX0_weak_111 ?_
    refine go_iand (pc := 112) C dX0_weak_112 ?_
    obtain ⟨r3, e3, h⟩ := bnd_some h
    refine go_callVi (pc := 113) C [.int ((s0 1).2.1 18 (v3).toNatClampNeg), .int (r2 &&& (((1 : Int32) <<< (v3 &&& 31)) ^^^ (-1 : Int32)))] (Mt.x0 (hL.2 1 (by decide)) hL.1 (m1_pieceBy e3)) q1184 q886 q887 q139 q888 x1pd_pieceBy (by decide) (by decide) (xO (hL.2 1 (by decide)) hL.1) xc1 rfl (Nat.le_of_ble_eq_true rfl) ⟨Nat.zero_le _, Nat.zero_le _⟩ dX0_weak_113 rfl ?_
    refine go_aload_n (pc := 116) C dX0_weak_116 rfl 0 rfl ?_
    obtain ⟨hz9, h⟩ := chk_some h
    refine X0g_0_0 (pc := 117) C hL (of_decide_eq_true hz9) dX0_weak_117 ?_
    refine X0g_1_19 (pc := 120) C hL dX0_weak_120 ?_
    refine go_iload_n (pc := 123) C dX0_weak_123 rfl 2 rfl ?_
    refine go_iald (pc := 124) C (xa_1_19 hL) h dX0_weak_124 (fun h => ?_)
    obtain ⟨r4, e4, h⟩ := bnd_some h
    refine go_callSi (pc := 125) C [.int r3, .int ((s0 1).2.1 19 (v3).toNatClampNeg)] (m0_has e4) q1051 q890 q138 q891 x0pd_has (by decide) (by decide) rfl (Nat.le_of_ble_eq_true rfl) ⟨Nat.zero_le _, Nat.zero_le _⟩ dX0_weak_125 rfl ?_
    refine go_if_eq (pc := 128) (tgt := 135) C dX0_weak_128 (by decide) h (fun h => ?_) (fun h => ?_)
    · refine go_iconst (pc := 135) (v := (1 : Int32)) C dX0_weak_135 (by decide) ?_
      refine go_iload_n (pc := 136) C dX0_weak_136 rfl 2 rfl ?_
      refine go_ishl (pc := 137) C dX0_weak_137 ?_
      refine go_ior (pc := 138) C dX0_weak_138 ?_
      refine go_istore_n (pc := 139) C hN dX0_weak_139 rfl (by decide) rfl ?_
      refine go_iinc (pc := 140) (v := (v3 + (1 : Int32))) C hN dX0_weak_140 (q := 2) rfl rfl (by decide) rfl ?_
      refine go_goto (pc := 143) (tgt := 75) C dX0_weak_143 (by decide) ?_
      refine go_sub [2, 1, 0] rfl ?_
      exact hK75 ((v2 ||| ((1 : Int32) <<< (v3 &&& 31))), (v3 + (1 : Int32))) h
    · refine go_iconst (pc := 131) (v := (0 : Int32)) C dX0_weak_131 (by decide) ?_
      refine go_goto (pc := 132) (tgt := 138) C dX0_weak_132 (by decide) ?_
      refine go_ior (pc := 138) C dX0_weak_138 ?_
      refine go_istore_n (pc := 139) C hN dX0_weak_139 rfl (by decide) rfl ?_
      refine go_iinc (pc := 140) (v := (v3 + (1 : Int32))) C hN dX0_weak_140 (q := 2) rfl rfl (by decide) rfl ?_
      refine go_goto (pc := 143) (tgt := 75) C dX0_weak_143 (by decide) ?_
      refine go_sub [2, 1, 0] rfl ?_
      exact hK75 ((v2 ||| (0 : Int32)), (v3 + (1 : Int32))) h
theorem w0_weak_28 {Γ : Gam} {A : XA} {L : List Nat} {E : va_W} {s0 : (Nat → Bl)} {r9 : Int32} (hN : Γ.nL = 4) (C : Cx Γ cX0_weak RX0 (4, 0, 0) 90) (hE : Rets Γ cX0_weak (some .int) 0 0 (fun v w => v = some (.int r9) ∧ w = (XW Γ.d A L E s0))) (hL : xOK L) : ∀ (n : Nat) (s : Int32 × Int32), loop (g0_weak_28 s0) n s = some r9 → (fun s : Int32 × Int32 => Go Γ 0 0 (XW Γ.d A L E s0) 28 [(0, .ref (A.1 0 0)), (2, .int s.1), (3, .int s.2)] []) s := by
  refine loop_walk (P := fun s : Int32 × Int32 => Go Γ 0 0 (XW Γ.d A L E s0) 28 [(0, .ref (A.1 0 0)), (2, .int s.1), (3, .int s.2)] []) ?_
  intro K28 hK28 s h
  obtain ⟨v2, v3⟩ := s
  dsimp only [g0_weak_28] at h
  show Go Γ 0 0 (XW Γ.d A L E s0) 28 [(0, .ref (A.1 0 0)), (2, .int v2), (3, .int v3)] []
  refine go_iload_n (pc := 28) C dX0_weak_28 rfl 2 rfl ?_
  refine go_aload_n (pc := 29) C dX0_weak_29 rfl 0 rfl ?_
  obtain ⟨hz9, h⟩ := chk_some h
  refine X0g_0_0 (pc := 30) C hL (of_decide_eq_true hz9) dX0_weak_30 ?_
  refine X0g_1_2 (pc := 33) C hL dX0_weak_33 ?_
  refine go_icmp_ge (pc := 36) (tgt := 71) C dX0_weak_36 (by decide) h (fun h => ?_) (fun h => ?_)
  · refine go_iload_n (pc := 71) C dX0_weak_71 rfl 1 rfl ?_
    exact (hE 0 0 _ _ _ (Nat.zero_le _) (Nat.zero_le _)).1 _ rfl dX0_weak_72 ⟨congrArg (fun z => some (Value.int z)) (some1 h), rfl⟩
  · refine go_iload_n (pc := 39) C dX0_weak_39 rfl 1 rfl ?_
    refine go_aload_n (pc := 40) C dX0_weak_40 rfl 0 rfl ?_
    refine go_iload_n (pc := 41) C dX0_weak_41 rfl 2 rfl ?_
    obtain ⟨r5, e5, h⟩ := bnd_some h
    refine go_callVi (pc := 42) C [.int v3] (m0_isAfloat hL e5) q914 q916 qs31 q138 q917 x0pd_isAfloat (by decide) (by decide) (xO (hL.2 0 (by decide)) hL.1) xc0 rfl (Nat.le_of_ble_eq_true rfl) ⟨Nat.zero_le _, Nat.zero_le _⟩ dX0_weak_42 rfl ?_
    refine go_if_eq (pc := 45) (tgt := 62) C dX0_weak_45 (by decide) h (fun h => ?_) (fun h => ?_)
    · refine go_iconst (pc := 62) (v := (0 : Int32)) C dX0_weak_62 (by decide) ?_
      refine go_ior (pc := 63) C dX0_weak_63 ?_
      refine go_istore_n (pc := 64) C hN dX0_weak_64 rfl (by decide) rfl ?_
      refine go_iinc (pc := 65) (v := (v3 + (1 : Int32))) C hN dX0_weak_65 (q := 2) rfl rfl (by decide) rfl ?_
      refine go_goto (pc := 68) (tgt := 28) C dX0_weak_68 (by decide) ?_
      refine go_sub [2, 1, 0] rfl ?_
      exact hK28 ((v2 ||| (0 : Int32)), (v3 + (1 : Int32))) h
    · refine go_aload_n (pc := 48) C dX0_weak_48 rfl 0 rfl ?_
      refine go_iload_n (pc := 49) C dX0_weak_49 rfl 2 rfl ?_
      obtain ⟨r6, e6, h⟩ := bnd_some h
      refine go_callVi (pc := 50) C [.int v3] (m0_isWeakThing hL e6) q1180 q1182 qs49 q138 q1183 x0pd_isWeakThing (by decide) (by decide) (xO (hL.2 0 (by decide)) hL.1) xc0 rfl (Nat.le_of_ble_eq_true rfl) ⟨Nat.zero_le _, Nat.zero_le _⟩ dX0_weak_50 rfl ?_
      refine go_if_eq (pc := 53) (tgt := 62) C dX0_weak_53 (by decide) h (fun h => ?_) (fun h => ?_)
      · refine go_iconst (pc := 62) (v := (0 : Int32)) C dX0_weak_62 (by decide) ?_
        refine go_ior (pc := 63) C dX0_weak_63 ?_
        refine go_istore_n (pc := 64) C hN dX0_weak_64 rfl (by decide) rfl ?_
        refine go_iinc (pc := 65) (v := (v3 + (1 : Int32))) C hN dX0_weak_65 (q := 2) rfl rfl (by decide) rfl ?_
        refine go_goto (pc := 68) (tgt := 28) C dX0_weak_68 (by decide) ?_
        refine go_sub [2, 1, 0] rfl ?_
        exact hK28 ((v2 ||| (0 : Int32)), (v3 + (1 : Int32))) h
      · refine go_iconst (pc := 56) (v := (1 : Int32)) C dX0_weak_56 (by decide) ?_
        refine go_iload_n (pc := 57) C dX0_weak_57 rfl 2 rfl ?_
        refine go_ishl (pc := 58) C dX0_weak_58 ?_
        refine go_goto (pc := 59) (tgt := 63) C dX0_weak_59 (by decide) ?_
        refine go_ior (pc := 63) C dX0_weak_63 ?_
        refine go_istore_n (pc := 64) C hN dX0_weak_64 rfl (by decide) rfl ?_
        refine go_iinc (pc := 65) (v := (v3 + (1 : Int32))) C hN dX0_weak_65 (q := 2) rfl rfl (by decide) rfl ?_
        refine go_goto (pc := 68) (tgt := 28) C dX0_weak_68 (by decide) ?_
        refine go_sub [2, 1, 0] rfl ?_
        exact hK28 ((v2 ||| ((1 : Int32) <<< (v3 &&& 31))), (v3 + (1 : Int32))) h
theorem m0_weak {l : Launch} {d : gD} {A : XA} {L : List Nat} {E : va_W} {s0 : (Nat → Bl)} {v1 : Int32} {r9 : Int32} (hL : xOK L) (h : f0_weak s0 v1 = some r9) : Mt l d yX0_weak cX0_weak 4 (some .int) (4, 0, 0) 90 (XW d A L E s0) [.ref (A.1 0 0), .int v1] (fun v w => v = some (.int r9) ∧ w = (XW d A L E s0)) := by
  refine Mt.of x0pn (Nat.le_of_ble_eq_true rfl) ?_
  intro Γ hl hd hN C hE
  subst hl; subst hd
  show Go Γ 0 0 (XW Γ.d A L E s0) 0 [(0, .ref (A.1 0 0)), (1, .int v1)] []
  dsimp only [f0_weak] at h
  refine go_aload_n (pc := 0) C dX0_weak_0 rfl 0 rfl ?_
  by_cases c4n : (s0 0).1 0 = 0
  · have h := (if_pos c4n).symm.trans h
    refine X0g_0_0N (pc := 1) C hL c4n dX0_weak_1 ?_
    refine go_ifnullN (pc := 4) (tgt := 17) C dX0_weak_4 (by decide) ?_
    refine go_iconst (pc := 17) (v := (-1 : Int32)) C dX0_weak_17 (by decide) ?_
    exact (hE 0 0 _ _ _ (Nat.zero_le _) (Nat.zero_le _)).1 _ rfl dX0_weak_18 ⟨congrArg (fun z => some (Value.int z)) (some1 h), rfl⟩
  · have h := (if_neg c4n).symm.trans h
    refine X0g_0_0 (pc := 1) C hL c4n dX0_weak_1 ?_
    refine go_ifnull (pc := 4) C dX0_weak_4 ?_
    refine go_iload_n (pc := 7) C dX0_weak_7 rfl 1 rfl ?_
    refine go_i2l (pc := 8) C dX0_weak_8 ?_
    refine go_lconst (pc := 9) (v := (0 : Int64)) C dX0_weak_9 (by decide) ?_
    refine go_lconst (pc := 10) (v := (1 : Int64)) C dX0_weak_10 (by decide) ?_
    obtain ⟨r1, e1, h⟩ := bnd_some h
    refine go_callSi (pc := 11) C [.long (v1).toInt64, .long (0 : Int64), .long (1 : Int64)] (m0_in e1) q939 q647 q138 q648 x0pd_in (by decide) (by decide) rfl (Nat.le_of_ble_eq_true rfl) ⟨Nat.zero_le _, Nat.zero_le _⟩ dX0_weak_11 rfl ?_
    refine go_if_ne (pc := 14) (tgt := 19) C dX0_weak_14 (by decide) h (fun h => ?_) (fun h => ?_)
    · refine go_iconst (pc := 19) (v := (0 : Int32)) C dX0_weak_19 (by decide) ?_
      refine go_istore_n (pc := 20) C hN dX0_weak_20 rfl (by decide) rfl ?_
      refine go_iload_n (pc := 21) C dX0_weak_21 rfl 2 rfl ?_
      refine go_iconst (pc := 22) (v := (1 : Int32)) C dX0_weak_22 (by decide) ?_
      refine go_icmp_ne (pc := 23) (tgt := 73) C dX0_weak_23 (by decide) h (fun h => ?_) (fun h => ?_)
      · refine go_iconst (pc := 73) (v := (0 : Int32)) C dX0_weak_73 (by decide) ?_
        refine go_istore_n (pc := 74) C hN dX0_weak_74 rfl (by decide) rfl ?_
        refine go_sub [2, 1, 0] rfl ?_
        exact w0_weak_75 hN C hE hL FU ((0 : Int32), (0 : Int32)) h
      · refine go_iconst (pc := 26) (v := (0 : Int32)) C dX0_weak_26 (by decide) ?_
        refine go_istore_n (pc := 27) C hN dX0_weak_27 rfl (by decide) rfl ?_
        refine go_sub [2, 1, 0] rfl ?_
        exact w0_weak_28 hN C hE hL FU ((0 : Int32), (0 : Int32)) h
    · refine go_iconst (pc := 17) (v := (-1 : Int32)) C dX0_weak_17 (by decide) ?_
      exact (hE 0 0 _ _ _ (Nat.zero_le _) (Nat.zero_le _)).1 _ rfl dX0_weak_18 ⟨congrArg (fun z => some (Value.int z)) (some1 h), rfl⟩
theorem m0_offer {l : Launch} {d : gD} {A : XA} {L : List Nat} {E : va_W} {s0 : (Nat → Bl)} {v1 : Int32} {v2 : Int32} {v3 : Int32} {r9 : Int32} {s9 : (Nat → Bl)} (hL : xOK L) (h : f0_offer s0 v1 v2 v3 = some (r9, s9)) : Mt l d yX0_offer cX0_offer 5 (some .int) (1, 0, 0) 25 (XW d A L E s0) [.ref (A.1 0 0), .int v1, .int v2, .int v3] (fun v w => v = some (.int r9) ∧ w = (XW d A L E s9)) := by
  refine Mt.of x0pn (Nat.le_of_ble_eq_true rfl) ?_
  intro Γ hl hd hN C hE
  subst hl; subst hd
  show Go Γ 0 0 (XW Γ.d A L E s0) 0 [(0, .ref (A.1 0 0)), (1, .int v1), (2, .int v2), (3, .int v3)] []
  dsimp only [f0_offer] at h
  refine go_iload_n (pc := 0) C dX0_offer_0 rfl 1 rfl ?_
  refine go_iconst (pc := 1) (v := (-1 : Int32)) C dX0_offer_1 (by decide) ?_
  refine go_icmp_ne (pc := 2) (tgt := 22) C dX0_offer_2 (by decide) h (fun h => ?_) (fun h => ?_)
  · refine go_aload_n (pc := 22) C dX0_offer_22 rfl 0 rfl ?_
    by_cases c26n : (s0 0).1 0 = 0
    · have h := (if_pos c26n).symm.trans h
      refine X0g_0_0N (pc := 23) C hL c26n dX0_offer_23 ?_
      refine go_ifnullN (pc := 26) (tgt := 77) C dX0_offer_26 (by decide) ?_
      refine go_bipush (pc := 77) (v := (-2 : Int32)) C dX0_offer_77 (by decide) ?_
      exact (hE 0 0 _ _ _ (Nat.zero_le _) (Nat.zero_le _)).1 _ rfl dX0_offer_79 ⟨congrArg (fun z => some (Value.int z)) (some2 h).1, congrArg (fun z => (XW Γ.d A L E z)) (some2 h).2⟩
    · have h := (if_neg c26n).symm.trans h
      refine X0g_0_0 (pc := 23) C hL c26n dX0_offer_23 ?_
      refine go_ifnull (pc := 26) C dX0_offer_26 ?_
      refine go_iload_n (pc := 29) C dX0_offer_29 rfl 1 rfl ?_
      refine go_i2l (pc := 30) C dX0_offer_30 ?_
      refine go_lconst (pc := 31) (v := (0 : Int64)) C dX0_offer_31 (by decide) ?_
      refine go_ldc2 (pc := 32) C dX0_offer_32 q1189 ?_
      obtain ⟨r1, e1, h⟩ := bnd_some h
      refine go_callSi (pc := 35) C [.long (v1).toInt64, .long (0 : Int64), .long (50 : Int64)] (m0_in e1) q939 q647 q138 q648 x0pd_in (by decide) (by decide) rfl (Nat.le_of_ble_eq_true rfl) ⟨Nat.zero_le _, Nat.zero_le _⟩ dX0_offer_35 rfl ?_
      refine go_if_eq (pc := 38) (tgt := 77) C dX0_offer_38 (by decide) h (fun h => ?_) (fun h => ?_)
      · refine go_bipush (pc := 77) (v := (-2 : Int32)) C dX0_offer_77 (by decide) ?_
        exact (hE 0 0 _ _ _ (Nat.zero_le _) (Nat.zero_le _)).1 _ rfl dX0_offer_79 ⟨congrArg (fun z => some (Value.int z)) (some2 h).1, congrArg (fun z => (XW Γ.d A L E z)) (some2 h).2⟩
      · refine go_iload_n (pc := 41) C dX0_offer_41 rfl 2 rfl ?_
        refine go_i2l (pc := 42) C dX0_offer_42 ?_
        refine go_lconst (pc := 43) (v := (0 : Int64)) C dX0_offer_43 (by decide) ?_
        refine go_ldc2 (pc := 44) C dX0_offer_44 q1190 ?_
        obtain ⟨r2, e2, h⟩ := bnd_some h
        refine go_callSi (pc := 47) C [.long (v2).toInt64, .long (0 : Int64), .long (99 : Int64)] (m0_in e2) q939 q647 q138 q648 x0pd_in (by decide) (by decide) rfl (Nat.le_of_ble_eq_true rfl) ⟨Nat.zero_le _, Nat.zero_le _⟩ dX0_offer_47 rfl ?_
        refine go_if_eq (pc := 50) (tgt := 77) C dX0_offer_50 (by decide) h (fun h => ?_) (fun h => ?_)
        · refine go_bipush (pc := 77) (v := (-2 : Int32)) C dX0_offer_77 (by decide) ?_
          exact (hE 0 0 _ _ _ (Nat.zero_le _) (Nat.zero_le _)).1 _ rfl dX0_offer_79 ⟨congrArg (fun z => some (Value.int z)) (some2 h).1, congrArg (fun z => (XW Γ.d A L E z)) (some2 h).2⟩
        · refine go_iload_n (pc := 53) C dX0_offer_53 rfl 3 rfl ?_
          refine go_i2l (pc := 54) C dX0_offer_54 ?_
          refine go_lconst (pc := 55) (v := (0 : Int64)) C dX0_offer_55 (by decide) ?_
          refine go_ldc2 (pc := 56) C dX0_offer_56 q1017 ?_
          obtain ⟨r3, e3, h⟩ := bnd_some h
          refine go_callSi (pc := 59) C [.long (v3).toInt64, .long (0 : Int64), .long (9 : Int64)] (m0_in e3) q939 q647 q138 q648 x0pd_in (by decide) (by decide) rfl (Nat.le_of_ble_eq_true rfl) ⟨Nat.zero_le _, Nat.zero_le _⟩ dX0_offer_59 rfl ?_
          refine go_if_eq (pc := 62) (tgt := 77) C dX0_offer_62 (by decide) h (fun h => ?_) (fun h => ?_)
          · refine go_bipush (pc := 77) (v := (-2 : Int32)) C dX0_offer_77 (by decide) ?_
            exact (hE 0 0 _ _ _ (Nat.zero_le _) (Nat.zero_le _)).1 _ rfl dX0_offer_79 ⟨congrArg (fun z => some (Value.int z)) (some2 h).1, congrArg (fun z => (XW Γ.d A L E z)) (some2 h).2⟩
          · refine go_aload_n (pc := 65) C dX0_offer_65 rfl 0 rfl ?_
            obtain ⟨hz9, h⟩ := chk_some h
            refine X0g_0_0 (pc := 66) C hL (of_decide_eq_true hz9) dX0_offer_66 ?_
            refine X0g_1_8 (pc := 69) C hL dX0_offer_69 ?_
            refine go_bipush (pc := 72) (v := (6 : Int32)) C dX0_offer_72 (by decide) ?_
            refine go_icmp_ne (pc := 74) (tgt := 80) C dX0_offer_74 (by decide) h (fun h => ?_) (fun h => ?_)
            · refine go_iconst (pc := 80) (v := (3 : Int32)) C dX0_offer_80 (by decide) ?_
              refine go_aload_n (pc := 81) C dX0_offer_81 rfl 0 rfl ?_
              obtain ⟨hz9, h⟩ := chk_some h
              refine X0g_0_0 (pc := 82) C hL (of_decide_eq_true hz9) dX0_offer_82 ?_
              refine X0g_1_8 (pc := 85) C hL dX0_offer_85 ?_
              refine go_imul (pc := 88) C dX0_offer_88 ?_
              refine go_istore (pc := 89) C hN dX0_offer_89 (by decide) rfl ?_
              refine go_aload_n (pc := 91) C dX0_offer_91 rfl 1 rfl ?_
              obtain ⟨hz9, h⟩ := chk_some h
              refine X0g_0_0 (pc := 92) C hL (of_decide_eq_true hz9) dX0_offer_92 ?_
              refine X0g_1_23 (pc := 95) C hL dX0_offer_95 ?_
              refine go_iload (pc := 98) C dX0_offer_98 0 rfl ?_
              refine go_iload_n (pc := 100) C dX0_offer_100 rfl 2 rfl ?_
              refine go_iast (pc := 101) C (xpa_1_23 hL) h dX0_offer_101 (fun h => ?_)
              refine go_aload_n (pc := 102) C dX0_offer_102 rfl 1 rfl ?_
              obtain ⟨hz9, h⟩ := chk_some h
              refine X0g_0_0 (pc := 103) C hL (of_decide_eq_true hz9) dX0_offer_103 ?_
              refine X0g_1_23 (pc := 106) C hL dX0_offer_106 ?_
              refine go_iload (pc := 109) C dX0_offer_109 0 rfl ?_
              refine go_iconst (pc := 111) (v := (1 : Int32)) C dX0_offer_111 (by decide) ?_
              refine go_iadd (pc := 112) C dX0_offer_112 ?_
              refine go_iload_n (pc := 113) C dX0_offer_113 rfl 3 rfl ?_
              refine go_iast (pc := 114) C (xpa_1_23 hL) h dX0_offer_114 (fun h => ?_)
              refine go_nm (pc := 115) (fun z9 => (XW Γ.d A L E z9)) (fun s4 es4 => ?_)
              have h := ltv_eq es4 h
              refine go_aload_n (pc := 115) C dX0_offer_115 rfl 1 rfl ?_
              obtain ⟨hz9, h⟩ := chk_some h
              refine X0g_0_0 (pc := 116) C hL (of_decide_eq_true hz9) dX0_offer_116 ?_
              refine X0g_1_23 (pc := 119) C hL dX0_offer_119 ?_
              refine go_iload (pc := 122) C dX0_offer_122 0 rfl ?_
              refine go_iconst (pc := 124) (v := (2 : Int32)) C dX0_offer_124 (by decide) ?_
              refine go_iadd (pc := 125) C dX0_offer_125 ?_
              refine go_iload_n (pc := 126) C dX0_offer_126 rfl 4 rfl ?_
              refine go_iast (pc := 127) C (xpa_1_23 hL) h dX0_offer_127 (fun h => ?_)
              refine go_aload_n (pc := 128) C dX0_offer_128 rfl 1 rfl ?_
              obtain ⟨hz9, h⟩ := chk_some h
              refine X0g_0_0 (pc := 129) C hL (of_decide_eq_true hz9) dX0_offer_129 ?_
              refine go_dup (pc := 132) C dX0_offer_132 rfl ?_
              refine X0g_1_8 (pc := 133) C hL dX0_offer_133 ?_
              refine go_iconst (pc := 136) (v := (1 : Int32)) C dX0_offer_136 (by decide) ?_
              refine go_iadd (pc := 137) C dX0_offer_137 ?_
              refine X0p_1_8 (pc := 138) C hL dX0_offer_138 ?_
              refine go_nm (pc := 141) (fun z9 => (XW Γ.d A L E z9)) (fun s5 es5 => ?_)
              have h := ltv_eq es5 h
              refine go_aload_n (pc := 141) C dX0_offer_141 rfl 1 rfl ?_
              obtain ⟨hz9, h⟩ := chk_some h
              refine X0g_0_0 (pc := 142) C hL (of_decide_eq_true hz9) dX0_offer_142 ?_
              refine X0g_1_8 (pc := 145) C hL dX0_offer_145 ?_
              exact (hE 0 0 _ _ _ (Nat.zero_le _) (Nat.zero_le _)).1 _ rfl dX0_offer_148 ⟨congrArg (fun z => some (Value.int z)) (some2 h).1, congrArg (fun z => (XW Γ.d A L E z)) (some2 h).2⟩
            · refine go_bipush (pc := 77) (v := (-2 : Int32)) C dX0_offer_77 (by decide) ?_
              exact (hE 0 0 _ _ _ (Nat.zero_le _) (Nat.zero_le _)).1 _ rfl dX0_offer_79 ⟨congrArg (fun z => some (Value.int z)) (some2 h).1, congrArg (fun z => (XW Γ.d A L E z)) (some2 h).2⟩
  · refine go_aload_n (pc := 5) C dX0_offer_5 rfl 0 rfl ?_
    by_cases c9n : (s0 0).1 0 = 0
    · have h := (if_pos c9n).symm.trans h
      refine X0g_0_0N (pc := 6) C hL c9n dX0_offer_6 ?_
      refine go_ifnullN (pc := 9) (tgt := 20) C dX0_offer_9 (by decide) ?_
      refine go_iconst (pc := 20) (v := (0 : Int32)) C dX0_offer_20 (by decide) ?_
      exact (hE 0 0 _ _ _ (Nat.zero_le _) (Nat.zero_le _)).1 _ rfl dX0_offer_21 ⟨congrArg (fun z => some (Value.int z)) (some2 h).1, congrArg (fun z => (XW Γ.d A L E z)) (some2 h).2⟩
    · have h := (if_neg c9n).symm.trans h
      refine X0g_0_0 (pc := 6) C hL c9n dX0_offer_6 ?_
      refine go_ifnull (pc := 9) C dX0_offer_9 ?_
      refine go_aload_n (pc := 12) C dX0_offer_12 rfl 0 rfl ?_
      obtain ⟨hz9, h⟩ := chk_some h
      refine X0g_0_0 (pc := 13) C hL (of_decide_eq_true hz9) dX0_offer_13 ?_
      refine go_iconst (pc := 16) (v := (0 : Int32)) C dX0_offer_16 (by decide) ?_
      refine X0p_1_8 (pc := 17) C hL dX0_offer_17 ?_
      refine go_iconst (pc := 20) (v := (0 : Int32)) C dX0_offer_20 (by decide) ?_
      exact (hE 0 0 _ _ _ (Nat.zero_le _) (Nat.zero_le _)).1 _ rfl dX0_offer_21 ⟨congrArg (fun z => some (Value.int z)) (some2 h).1, congrArg (fun z => (XW Γ.d A L E z)) (some2 h).2⟩
theorem w0_staysWith_3 {Γ : Gam} {A : XA} {L : List Nat} {E : va_W} {s0 : (Nat → Bl)} {v1 : Int32} {v2 : Int32} {v3 : Int32} {r9 : Int32} (hN : Γ.nL = 6) (C : Cx Γ cX0_staysWith RX0 (2, 0, 0) 50) (hE : Rets Γ cX0_staysWith (some .int) 0 0 (fun v w => v = some (.int r9) ∧ w = (XW Γ.d A L E s0))) (hL : xOK L) : ∀ (n : Nat) (s : Int32), loop (g0_staysWith_3 s0 v1 v2 v3) n s = some r9 → (fun s : Int32 => Go Γ 0 0 (XW Γ.d A L E s0) 3 [(0, .ref (A.1 0 0)), (1, .int v1), (2, .int v2), (3, .int v3), (4, .int s)] []) s := by
  refine loop_walk (P := fun s : Int32 => Go Γ 0 0 (XW Γ.d A L E s0) 3 [(0, .ref (A.1 0 0)), (1, .int v1), (2, .int v2), (3, .int v3), (4, .int s)] []) ?_
  intro K3 hK3 s h
  obtain ⟨v4, rfl⟩ : ∃ z, z = s := ⟨_, rfl⟩
  dsimp only [g0_staysWith_3] at h
  show Go Γ 0 0 (XW Γ.d A L E s0) 3 [(0, .ref (A.1 0 0)), (1, .int v1), (2, .int v2), (3, .int v3), (4, .int v4)] []
  refine go_iload (pc := 3) C dX0_staysWith_3 4 rfl ?_
  refine go_bipush (pc := 5) (v := (100 : Int32)) C dX0_staysWith_5 (by decide) ?_
  refine go_icmp_ge (pc := 7) (tgt := 91) C dX0_staysWith_7 (by decide) h (fun h => ?_) (fun h => ?_)
  · refine go_bipush (pc := 91) (v := (100 : Int32)) C dX0_staysWith_91 (by decide) ?_
    exact (hE 0 0 _ _ _ (Nat.zero_le _) (Nat.zero_le _)).1 _ rfl dX0_staysWith_93 ⟨congrArg (fun z => some (Value.int z)) (some1 h), rfl⟩
  · refine go_aload_n (pc := 10) C dX0_staysWith_10 rfl 0 rfl ?_
    refine go_iload_n (pc := 11) C dX0_staysWith_11 rfl 1 rfl ?_
    refine go_iload (pc := 12) C dX0_staysWith_12 4 rfl ?_
    obtain ⟨r1, e1, h⟩ := bnd_some h
    refine go_callVi (pc := 14) C [.int v1, .int v4] (m0_bearsThen hL e1) q1128 q1130 qs43 q138 q1131 x0pd_bearsThen (by decide) (by decide) (xO (hL.2 0 (by decide)) hL.1) xc0 rfl (Nat.le_of_ble_eq_true rfl) ⟨Nat.zero_le _, Nat.zero_le _⟩ dX0_staysWith_14 rfl ?_
    refine go_iload_n (pc := 17) C dX0_staysWith_17 rfl 2 rfl ?_
    refine go_isub (pc := 18) C dX0_staysWith_18 ?_
    refine go_istore (pc := 19) C hN dX0_staysWith_19 (by decide) rfl ?_
    refine go_iload_n (pc := 21) C dX0_staysWith_21 rfl 4 rfl ?_
    refine go_iconst (pc := 22) (v := (-1 : Int32)) C dX0_staysWith_22 (by decide) ?_
    refine go_icmp_eq (pc := 23) (tgt := 77) C dX0_staysWith_23 (by decide) h (fun h => ?_) (fun h => ?_)
    · refine go_iload (pc := 77) C dX0_staysWith_77 0 rfl ?_
      refine go_if_ge (pc := 79) (tgt := 85) C dX0_staysWith_79 (by decide) h (fun h => ?_) (fun h => ?_)
      · refine go_iinc (pc := 85) (v := (v4 + (1 : Int32))) C hN dX0_staysWith_85 (q := 5) rfl rfl (by decide) rfl ?_
        refine go_goto (pc := 88) (tgt := 3) C dX0_staysWith_88 (by decide) ?_
        refine go_sub [2, 3, 4, 5, 0] rfl ?_
        exact hK3 (v4 + (1 : Int32)) h
      · refine go_iload (pc := 82) C dX0_staysWith_82 5 rfl ?_
        exact (hE 0 0 _ _ _ (Nat.zero_le _) (Nat.zero_le _)).1 _ rfl dX0_staysWith_84 ⟨congrArg (fun z => some (Value.int z)) (some1 h), rfl⟩
    · refine go_iload (pc := 26) C dX0_staysWith_26 0 rfl ?_
      refine go_iconst (pc := 28) (v := (0 : Int32)) C dX0_staysWith_28 (by decide) ?_
      refine go_aload_n (pc := 29) C dX0_staysWith_29 rfl 1 rfl ?_
      obtain ⟨hz9, h⟩ := chk_some h
      refine X0g_0_0 (pc := 30) C hL (of_decide_eq_true hz9) dX0_staysWith_30 ?_
      refine X0g_1_23 (pc := 33) C hL dX0_staysWith_33 ?_
      refine go_iconst (pc := 36) (v := (3 : Int32)) C dX0_staysWith_36 (by decide) ?_
      refine go_iload_n (pc := 37) C dX0_staysWith_37 rfl 4 rfl ?_
      refine go_imul (pc := 38) C dX0_staysWith_38 ?_
      refine go_iconst (pc := 39) (v := (1 : Int32)) C dX0_staysWith_39 (by decide) ?_
      refine go_iadd (pc := 40) C dX0_staysWith_40 ?_
      refine go_iald (pc := 41) C (xa_1_23 hL) h dX0_staysWith_41 (fun h => ?_)
      refine go_iload (pc := 42) C dX0_staysWith_42 5 rfl ?_
      refine go_aload_n (pc := 44) C dX0_staysWith_44 rfl 1 rfl ?_
      obtain ⟨hz9, h⟩ := chk_some h
      refine X0g_0_0 (pc := 45) C hL (of_decide_eq_true hz9) dX0_staysWith_45 ?_
      refine X0g_1_23 (pc := 48) C hL dX0_staysWith_48 ?_
      refine go_iconst (pc := 51) (v := (3 : Int32)) C dX0_staysWith_51 (by decide) ?_
      refine go_iload_n (pc := 52) C dX0_staysWith_52 rfl 4 rfl ?_
      refine go_imul (pc := 53) C dX0_staysWith_53 ?_
      refine go_iconst (pc := 54) (v := (2 : Int32)) C dX0_staysWith_54 (by decide) ?_
      refine go_iadd (pc := 55) C dX0_staysWith_55 ?_
      refine go_iald (pc := 56) C (xa_1_23 hL) h dX0_staysWith_56 (fun h => ?_)
      refine go_imul (pc := 57) C dX0_staysWith_57 ?_
      refine go_isub (pc := 58) C dX0_staysWith_58 ?_
      refine go_mmax (pc := 59) C q1132 (by decide) (Nat.le_of_ble_eq_true rfl) ⟨Nat.zero_le _, Nat.zero_le _⟩ dX0_staysWith_59 ?_
      refine go_aload_n (pc := 62) C dX0_staysWith_62 rfl 1 rfl ?_
      obtain ⟨hz9, h⟩ := chk_some h
      refine X0g_0_0 (pc := 63) C hL (of_decide_eq_true hz9) dX0_staysWith_63 ?_
      refine X0g_1_23 (pc := 66) C hL dX0_staysWith_66 ?_
      refine go_iconst (pc := 69) (v := (3 : Int32)) C dX0_staysWith_69 (by decide) ?_
      refine go_iload_n (pc := 70) C dX0_staysWith_70 rfl 4 rfl ?_
      refine go_imul (pc := 71) C dX0_staysWith_71 ?_
      refine go_iald (pc := 72) C (xa_1_23 hL) h dX0_staysWith_72 (fun h => ?_)
      refine go_isub (pc := 73) C dX0_staysWith_73 ?_
      refine go_iadd (pc := 74) C dX0_staysWith_74 ?_
      refine go_topi (pc := 75) (fun y2 ey2 => ?_)
      have h := ltv_eq ey2 h
      refine go_istore (pc := 75) C hN dX0_staysWith_75 (by decide) rfl ?_
      refine go_iload (pc := 77) C dX0_staysWith_77 0 rfl ?_
      refine go_if_ge (pc := 79) (tgt := 85) C dX0_staysWith_79 (by decide) h (fun h => ?_) (fun h => ?_)
      · refine go_iinc (pc := 85) (v := (v4 + (1 : Int32))) C hN dX0_staysWith_85 (q := 5) rfl rfl (by decide) rfl ?_
        refine go_goto (pc := 88) (tgt := 3) C dX0_staysWith_88 (by decide) ?_
        refine go_sub [2, 3, 4, 5, 0] rfl ?_
        exact hK3 (v4 + (1 : Int32)) h
      · refine go_iload (pc := 82) C dX0_staysWith_82 5 rfl ?_
        exact (hE 0 0 _ _ _ (Nat.zero_le _) (Nat.zero_le _)).1 _ rfl dX0_staysWith_84 ⟨congrArg (fun z => some (Value.int z)) (some1 h), rfl⟩
theorem m0_staysWith {l : Launch} {d : gD} {A : XA} {L : List Nat} {E : va_W} {s0 : (Nat → Bl)} {v1 : Int32} {v2 : Int32} {v3 : Int32} {r9 : Int32} (hL : xOK L) (h : f0_staysWith s0 v1 v2 v3 = some r9) : Mt l d yX0_staysWith cX0_staysWith 6 (some .int) (2, 0, 0) 50 (XW d A L E s0) [.ref (A.1 0 0), .int v1, .int v2, .int v3] (fun v w => v = some (.int r9) ∧ w = (XW d A L E s0)) := by
  refine Mt.of x0pn (Nat.le_of_ble_eq_true rfl) ?_
  intro Γ hl hd hN C hE
  subst hl; subst hd
  show Go Γ 0 0 (XW Γ.d A L E s0) 0 [(0, .ref (A.1 0 0)), (1, .int v1), (2, .int v2), (3, .int v3)] []
  dsimp only [f0_staysWith] at h
  refine go_iconst (pc := 0) (v := (0 : Int32)) C dX0_staysWith_0 (by decide) ?_
  refine go_istore (pc := 1) C hN dX0_staysWith_1 (by decide) rfl ?_
  refine go_sub [1, 2, 3, 4, 0] rfl ?_
  exact w0_staysWith_3 hN C hE hL FU (0 : Int32) h
theorem w0_take_70 {Γ : Gam} {A : XA} {L : List Nat} {E : va_W} {s0 : (Nat → Bl)} {v2 : Int32} {v3 : Int32} {v4 : Int32} {r9 : Int32} {s9 : (Nat → Bl)} (hN : Γ.nL = 9) (C : Cx Γ cX0_take RX0 (3, 0, 0) 75) (hE : Rets Γ cX0_take (some .int) 0 0 (fun v w => v = some (.int r9) ∧ w = (XW Γ.d A L E s9))) (hL : xOK L) : ∀ (n : Nat) (s : Int32 × Int32 × Int32), loop (g0_take_70 s0 v2 v3 v4) n s = some (r9, s9) → (fun s : Int32 × Int32 × Int32 => Go Γ 0 0 (XW Γ.d A L E s0) 70 [(0, .ref (A.1 0 0)), (2, .int v2), (3, .int v3), (4, .int v4), (5, .int s.1), (6, .int s.2.1), (7, .int s.2.2)] []) s := by
  refine loop_walk (P := fun s : Int32 × Int32 × Int32 => Go Γ 0 0 (XW Γ.d A L E s0) 70 [(0, .ref (A.1 0 0)), (2, .int v2), (3, .int v3), (4, .int v4), (5, .int s.1), (6, .int s.2.1), (7, .int s.2.2)] []) ?_
  intro K70 hK70 s h
  obtain ⟨v5, v6, v7⟩ := s
  dsimp only [g0_take_70] at h
  show Go Γ 0 0 (XW Γ.d A L E s0) 70 [(0, .ref (A.1 0 0)), (2, .int v2), (3, .int v3), (4, .int v4), (5, .int v5), (6, .int v6), (7, .int v7)] []
  refine go_iload (pc := 70) C dX0_take_70 6 rfl ?_
  refine go_aload_n (pc := 72) C dX0_take_72 rfl 0 rfl ?_
  obtain ⟨hz9, h⟩ := chk_some h
  refine X0g_0_0 (pc := 73) C hL (of_decide_eq_true hz9) dX0_take_73 ?_
  refine X0g_1_8 (pc := 76) C hL dX0_take_76 ?_
  refine go_icmp_ge (pc := 79) (tgt := 117) C dX0_take_79 (by decide) h (fun h => ?_) (fun h => ?_)
  · refine go_iload_n (pc := 117) C dX0_take_117 rfl 1 rfl ?_
    refine go_iconst (pc := 118) (v := (1 : Int32)) C dX0_take_118 (by decide) ?_
    refine go_icmp_ne (pc := 119) (tgt := 127) C dX0_take_119 (by decide) h (fun h => ?_) (fun h => ?_)
    · refine go_iload (pc := 127) C dX0_take_127 4 rfl ?_
      refine go_iconst (pc := 129) (v := (-1 : Int32)) C dX0_take_129 (by decide) ?_
      refine go_icmp_ne (pc := 130) (tgt := 138) C dX0_take_130 (by decide) h (fun h => ?_) (fun h => ?_)
      · refine go_iload (pc := 138) C dX0_take_138 4 rfl ?_
        exact (hE 0 0 _ _ _ (Nat.zero_le _) (Nat.zero_le _)).1 _ rfl dX0_take_140 ⟨congrArg (fun z => some (Value.int z)) (some2 h).1, congrArg (fun z => (XW Γ.d A L E z)) (some2 h).2⟩
      · refine go_bipush (pc := 133) (v := (-2 : Int32)) C dX0_take_133 (by decide) ?_
        refine go_goto (pc := 135) (tgt := 140) C dX0_take_135 (by decide) ?_
        exact (hE 0 0 _ _ _ (Nat.zero_le _) (Nat.zero_le _)).1 _ rfl dX0_take_140 ⟨congrArg (fun z => some (Value.int z)) (some2 h).1, congrArg (fun z => (XW Γ.d A L E z)) (some2 h).2⟩
    · refine go_iload (pc := 122) C dX0_take_122 5 rfl ?_
      refine go_goto (pc := 124) (tgt := 140) C dX0_take_124 (by decide) ?_
      exact (hE 0 0 _ _ _ (Nat.zero_le _) (Nat.zero_le _)).1 _ rfl dX0_take_140 ⟨congrArg (fun z => some (Value.int z)) (some2 h).1, congrArg (fun z => (XW Γ.d A L E z)) (some2 h).2⟩
  · refine go_aload_n (pc := 82) C dX0_take_82 rfl 0 rfl ?_
    refine go_iload_n (pc := 83) C dX0_take_83 rfl 2 rfl ?_
    refine go_iload (pc := 84) C dX0_take_84 3 rfl ?_
    refine go_iload (pc := 86) C dX0_take_86 6 rfl ?_
    obtain ⟨r7, e7, h⟩ := bnd_some h
    refine go_callVi (pc := 88) C [.int v3, .int v4, .int v7] (m0_staysWith hL e7) q1196 q1198 qs50 q138 q1199 x0pd_staysWith (by decide) (by decide) (xO (hL.2 0 (by decide)) hL.1) xc0 rfl (Nat.le_of_ble_eq_true rfl) ⟨Nat.zero_le _, Nat.zero_le _⟩ dX0_take_88 rfl ?_
    refine go_istore (pc := 91) C hN dX0_take_91 (by decide) rfl ?_
    refine go_iload (pc := 93) C dX0_take_93 0 rfl ?_
    refine go_iload (pc := 95) C dX0_take_95 6 rfl ?_
    refine go_icmp_gt (pc := 97) (tgt := 103) C dX0_take_97 (by decide) h (fun h => ?_) (fun h => ?_)
    · refine go_iload (pc := 103) C dX0_take_103 7 rfl ?_
      refine go_istore (pc := 105) C hN dX0_take_105 (by decide) rfl ?_
      refine go_iload (pc := 107) C dX0_take_107 1 rfl ?_
      refine go_istore (pc := 109) C hN dX0_take_109 (by decide) rfl ?_
      refine go_iinc (pc := 111) (v := (v7 + (1 : Int32))) C hN dX0_take_111 (q := 7) rfl rfl (by decide) rfl ?_
      refine go_goto (pc := 114) (tgt := 70) C dX0_take_114 (by decide) ?_
      refine go_sub [4, 5, 6, 7, 2, 1, 0] rfl ?_
      exact hK70 (v7, r7, (v7 + (1 : Int32))) h
    · refine go_goto (pc := 100) (tgt := 111) C dX0_take_100 (by decide) ?_
      refine go_iinc (pc := 111) (v := (v7 + (1 : Int32))) C hN dX0_take_111 (q := 7) rfl rfl (by decide) rfl ?_
      refine go_goto (pc := 114) (tgt := 70) C dX0_take_114 (by decide) ?_
      refine go_sub [2, 3, 4, 5, 6, 7, 0] rfl ?_
      exact hK70 (v5, v6, (v7 + (1 : Int32))) h
theorem m0_take {l : Launch} {d : gD} {A : XA} {L : List Nat} {E : va_W} {s0 : (Nat → Bl)} {v1 : Int32} {v2 : Int32} {r9 : Int32} {s9 : (Nat → Bl)} (hL : xOK L) (h : f0_take s0 v1 v2 = some (r9, s9)) : Mt l d yX0_take cX0_take 9 (some .int) (3, 0, 0) 75 (XW d A L E s0) [.ref (A.1 0 0), .int v1, .int v2] (fun v w => v = some (.int r9) ∧ w = (XW d A L E s9)) := by
  refine Mt.of x0pn (Nat.le_of_ble_eq_true rfl) ?_
  intro Γ hl hd hN C hE
  subst hl; subst hd
  show Go Γ 0 0 (XW Γ.d A L E s0) 0 [(0, .ref (A.1 0 0)), (1, .int v1), (2, .int v2)] []
  dsimp only [f0_take] at h
  refine go_aload_n (pc := 0) C dX0_take_0 rfl 0 rfl ?_
  refine go_iload_n (pc := 1) C dX0_take_1 rfl 1 rfl ?_
  obtain ⟨r1, e1, h⟩ := bnd_some h
  refine go_callVi (pc := 2) C [.int v1] (m0_isAfloat hL e1) q914 q916 qs31 q138 q917 x0pd_isAfloat (by decide) (by decide) (xO (hL.2 0 (by decide)) hL.1) xc0 rfl (Nat.le_of_ble_eq_true rfl) ⟨Nat.zero_le _, Nat.zero_le _⟩ dX0_take_2 rfl ?_
  refine go_if_eq (pc := 5) (tgt := 18) C dX0_take_5 (by decide) h (fun h => ?_) (fun h => ?_)
  · refine go_iconst (pc := 18) (v := (-1 : Int32)) C dX0_take_18 (by decide) ?_
    exact (hE 0 0 _ _ _ (Nat.zero_le _) (Nat.zero_le _)).1 _ rfl dX0_take_19 ⟨congrArg (fun z => some (Value.int z)) (some2 h).1, congrArg (fun z => (XW Γ.d A L E z)) (some2 h).2⟩
  · refine go_iload_n (pc := 8) C dX0_take_8 rfl 2 rfl ?_
    refine go_i2l (pc := 9) C dX0_take_9 ?_
    refine go_lconst (pc := 10) (v := (0 : Int64)) C dX0_take_10 (by decide) ?_
    refine go_lconst (pc := 11) (v := (1 : Int64)) C dX0_take_11 (by decide) ?_
    obtain ⟨r2, e2, h⟩ := bnd_some h
    refine go_callSi (pc := 12) C [.long (v2).toInt64, .long (0 : Int64), .long (1 : Int64)] (m0_in e2) q939 q647 q138 q648 x0pd_in (by decide) (by decide) rfl (Nat.le_of_ble_eq_true rfl) ⟨Nat.zero_le _, Nat.zero_le _⟩ dX0_take_12 rfl ?_
    refine go_if_ne (pc := 15) (tgt := 20) C dX0_take_15 (by decide) h (fun h => ?_) (fun h => ?_)
    · refine go_aload_n (pc := 20) C dX0_take_20 rfl 0 rfl ?_
      obtain ⟨hz9, h⟩ := chk_some h
      refine X0g_0_0 (pc := 21) C hL (of_decide_eq_true hz9) dX0_take_21 ?_
      refine go_aload_n (pc := 24) C dX0_take_24 rfl 0 rfl ?_
      obtain ⟨hz9, h⟩ := chk_some h
      refine X0g_0_0 (pc := 25) C hL (of_decide_eq_true hz9) dX0_take_25 ?_
      obtain ⟨r3, e3, h⟩ := bnd_some h
      refine go_callVi (pc := 28) C [] (Mt.x0 (hL.2 1 (by decide)) hL.1 (m1_allRopes e3)) q877 q878 q879 q139 q880 x1pd_allRopes (by decide) (by decide) (xO (hL.2 1 (by decide)) hL.1) xc1 rfl (Nat.le_of_ble_eq_true rfl) ⟨Nat.zero_le _, Nat.zero_le _⟩ dX0_take_28 rfl ?_
      obtain ⟨s4, e4, h⟩ := bnd_some h
      refine go_callVv (pc := 31) C [.int r3] (Mt.x1 (hL.2 1 (by decide)) hL.1 (m1_parts e4)) q881 q882 q883 q139 q884 x1pd_parts (by decide) (by decide) (xO (hL.2 1 (by decide)) hL.1) xc1 rfl (Nat.le_of_ble_eq_true rfl) ⟨Nat.zero_le _, Nat.zero_le _⟩ dX0_take_31 rfl ?_
      refine go_aload_n (pc := 34) C dX0_take_34 rfl 0 rfl ?_
      obtain ⟨hz9, h⟩ := chk_some h
      refine X0g_0_0 (pc := 35) C hL (of_decide_eq_true hz9) dX0_take_35 ?_
      refine X0g_1_28 (pc := 38) C hL dX0_take_38 ?_
      refine go_iload_n (pc := 41) C dX0_take_41 rfl 1 rfl ?_
      refine go_iald (pc := 42) C (xa_1_28 hL) h dX0_take_42 (fun h => ?_)
      refine go_istore_n (pc := 43) C hN dX0_take_43 rfl (by decide) rfl ?_
      refine go_aload_n (pc := 44) C dX0_take_44 rfl 1 rfl ?_
      obtain ⟨hz9, h⟩ := chk_some h
      refine X0g_0_0 (pc := 45) C hL (of_decide_eq_true hz9) dX0_take_45 ?_
      refine go_iload_n (pc := 48) C dX0_take_48 rfl 0 rfl ?_
      obtain ⟨r5, e5, h⟩ := bnd_some h
      refine go_callVi (pc := 49) C [.int (((upX s0 1 s4) 1).2.1 28 (v1).toNatClampNeg)] (Mt.x0 (hL.2 1 (by decide)) hL.1 (m1_ridersOf e5)) q1195 q955 q956 q139 q957 x1pd_ridersOf (by decide) (by decide) (xO (hL.2 1 (by decide)) hL.1) xc1 rfl (Nat.le_of_ble_eq_true rfl) ⟨Nat.zero_le _, Nat.zero_le _⟩ dX0_take_49 rfl ?_
      refine go_istore (pc := 52) C hN dX0_take_52 (by decide) rfl ?_
      refine go_iconst (pc := 54) (v := (-1 : Int32)) C dX0_take_54 (by decide) ?_
      refine go_istore (pc := 55) C hN dX0_take_55 (by decide) rfl ?_
      refine go_aload_n (pc := 57) C dX0_take_57 rfl 3 rfl ?_
      refine go_iload_n (pc := 58) C dX0_take_58 rfl 2 rfl ?_
      refine go_iload (pc := 59) C dX0_take_59 1 rfl ?_
      refine go_iconst (pc := 61) (v := (-1 : Int32)) C dX0_take_61 (by decide) ?_
      obtain ⟨r6, e6, h⟩ := bnd_some h
      refine go_callVi (pc := 62) C [.int (((upX s0 1 s4) 1).2.1 28 (v1).toNatClampNeg), .int r5, .int (-1 : Int32)] (m0_staysWith hL e6) q1196 q1198 qs50 q138 q1199 x0pd_staysWith (by decide) (by decide) (xO (hL.2 0 (by decide)) hL.1) xc0 rfl (Nat.le_of_ble_eq_true rfl) ⟨Nat.zero_le _, Nat.zero_le _⟩ dX0_take_62 rfl ?_
      refine go_istore (pc := 65) C hN dX0_take_65 (by decide) rfl ?_
      refine go_iconst (pc := 67) (v := (0 : Int32)) C dX0_take_67 (by decide) ?_
      refine go_istore (pc := 68) C hN dX0_take_68 (by decide) rfl ?_
      refine go_sub [5, 7, 4, 3, 2, 1, 0] rfl ?_
      exact w0_take_70 hN C hE hL FU ((-1 : Int32), r6, (0 : Int32)) h
    · refine go_iconst (pc := 18) (v := (-1 : Int32)) C dX0_take_18 (by decide) ?_
      exact (hE 0 0 _ _ _ (Nat.zero_le _) (Nat.zero_le _)).1 _ rfl dX0_take_19 ⟨congrArg (fun z => some (Value.int z)) (some2 h).1, congrArg (fun z => (XW Γ.d A L E z)) (some2 h).2⟩
theorem m0_isWon {l : Launch} {d : gD} {A : XA} {L : List Nat} {E : va_W} {s0 : (Nat → Bl)} {v1 : Int32} {v2 : Int32} {r9 : Int32} (hL : xOK L) (h : f0_isWon s0 v1 v2 = some r9) : Mt l d yX0_isWon cX0_isWon 3 (some .boolean) (2, 0, 0) 44 (XW d A L E s0) [.ref (A.1 0 0), .int v1, .int v2] (fun v w => v = some (.int r9) ∧ w = (XW d A L E s0)) := by
  refine Mt.of x0pn (Nat.le_of_ble_eq_true rfl) ?_
  intro Γ hl hd hN C hE
  subst hl; subst hd
  show Go Γ 0 0 (XW Γ.d A L E s0) 0 [(0, .ref (A.1 0 0)), (1, .int v1), (2, .int v2)] []
  dsimp only [f0_isWon] at h
  refine go_iload_n (pc := 0) C dX0_isWon_0 rfl 1 rfl ?_
  refine go_iload_n (pc := 1) C dX0_isWon_1 rfl 2 rfl ?_
  obtain ⟨r1, e1, h⟩ := bnd_some h
  refine go_callSi (pc := 2) C [.int v1, .int v2] (m0_has e1) q1051 q890 q138 q891 x0pd_has (by decide) (by decide) rfl (Nat.le_of_ble_eq_true rfl) ⟨Nat.zero_le _, Nat.zero_le _⟩ dX0_isWon_2 rfl ?_
  refine go_if_eq (pc := 5) (tgt := 44) C dX0_isWon_5 (by decide) h (fun h => ?_) (fun h => ?_)
  · refine go_iconst (pc := 44) (v := (0 : Int32)) C dX0_isWon_44 (by decide) ?_
    exact (hE 0 0 _ _ _ (Nat.zero_le _) (Nat.zero_le _)).2.1 _ rfl (Or.inl rfl) dX0_isWon_45 ⟨congrArg (fun z => some (Value.int z)) (some1 h), rfl⟩
  · refine go_aload_n (pc := 8) C dX0_isWon_8 rfl 0 rfl ?_
    obtain ⟨hz9, h⟩ := chk_some h
    refine X0g_0_0 (pc := 9) C hL (of_decide_eq_true hz9) dX0_isWon_9 ?_
    refine go_iload_n (pc := 12) C dX0_isWon_12 rfl 1 rfl ?_
    refine go_iconst (pc := 13) (v := (1 : Int32)) C dX0_isWon_13 (by decide) ?_
    refine go_iload_n (pc := 14) C dX0_isWon_14 rfl 2 rfl ?_
    refine go_ishl (pc := 15) C dX0_isWon_15 ?_
    refine go_iconst (pc := 16) (v := (-1 : Int32)) C dX0_isWon_16 (by decide) ?_
    refine go_ixor (pc := 17) C dX0_isWon_17 ?_
    refine go_iand (pc := 18) C dX0_isWon_18 ?_
    obtain ⟨r2, e2, h⟩ := bnd_some h
    refine go_callVi (pc := 19) C [.int (v1 &&& (((1 : Int32) <<< (v2 &&& 31)) ^^^ (-1 : Int32)))] (Mt.x0 (hL.2 1 (by decide)) hL.1 (m1_bearsOf e2)) q1117 q951 q952 q139 q953 x1pd_bearsOf (by decide) (by decide) (xO (hL.2 1 (by decide)) hL.1) xc1 rfl (Nat.le_of_ble_eq_true rfl) ⟨Nat.zero_le _, Nat.zero_le _⟩ dX0_isWon_19 rfl ?_
    refine go_if_lt (pc := 22) (tgt := 44) C dX0_isWon_22 (by decide) h (fun h => ?_) (fun h => ?_)
    · refine go_iconst (pc := 44) (v := (0 : Int32)) C dX0_isWon_44 (by decide) ?_
      exact (hE 0 0 _ _ _ (Nat.zero_le _) (Nat.zero_le _)).2.1 _ rfl (Or.inl rfl) dX0_isWon_45 ⟨congrArg (fun z => some (Value.int z)) (some1 h), rfl⟩
    · refine go_aload_n (pc := 25) C dX0_isWon_25 rfl 0 rfl ?_
      refine X0g_0_26 (pc := 26) C hL dX0_isWon_26 ?_
      refine go_iload_n (pc := 29) C dX0_isWon_29 rfl 1 rfl ?_
      refine go_iconst (pc := 30) (v := (1 : Int32)) C dX0_isWon_30 (by decide) ?_
      refine go_iload_n (pc := 31) C dX0_isWon_31 rfl 2 rfl ?_
      refine go_ishl (pc := 32) C dX0_isWon_32 ?_
      refine go_iconst (pc := 33) (v := (-1 : Int32)) C dX0_isWon_33 (by decide) ?_
      refine go_ixor (pc := 34) C dX0_isWon_34 ?_
      refine go_iand (pc := 35) C dX0_isWon_35 ?_
      refine go_zald (pc := 36) C (xa_0_26 hL) h dX0_isWon_36 (fun h => ?_)
      refine go_if_ne (pc := 37) (tgt := 44) C dX0_isWon_37 (by decide) h (fun h => ?_) (fun h => ?_)
      · refine go_iconst (pc := 44) (v := (0 : Int32)) C dX0_isWon_44 (by decide) ?_
        exact (hE 0 0 _ _ _ (Nat.zero_le _) (Nat.zero_le _)).2.1 _ rfl (Or.inl rfl) dX0_isWon_45 ⟨congrArg (fun z => some (Value.int z)) (some1 h), rfl⟩
      · refine go_iconst (pc := 40) (v := (1 : Int32)) C dX0_isWon_40 (by decide) ?_
        refine go_goto (pc := 41) (tgt := 45) C dX0_isWon_41 (by decide) ?_
        exact (hE 0 0 _ _ _ (Nat.zero_le _) (Nat.zero_le _)).2.1 _ rfl (Or.inr rfl) dX0_isWon_45 ⟨congrArg (fun z => some (Value.int z)) (some1 h), rfl⟩
theorem w0_game_122 {Γ : Gam} {A : XA} {L : List Nat} {E : va_W} {s0 : (Nat → Bl)} {v3 : Int32} {r9 : Int32} {s9 : (Nat → Bl)} (hN : Γ.nL = 6) (C : Cx Γ cX0_game RX0 (3, 0, 0) 67) (hE : Rets Γ cX0_game (some .int) 0 0 (fun v w => v = some (.int r9) ∧ w = (XW Γ.d A L E s9))) (hL : xOK L) : ∀ (n : Nat) (s : Int32), loop (g0_game_122 s0 v3) n s = some (r9, s9) → (fun s : Int32 => Go Γ 0 0 (XW Γ.d A L E s0) 122 [(0, .ref (A.1 0 0)), (3, .int v3), (4, .int s)] []) s := by
  refine loop_walk (P := fun s : Int32 => Go Γ 0 0 (XW Γ.d A L E s0) 122 [(0, .ref (A.1 0 0)), (3, .int v3), (4, .int s)] []) ?_
  intro K122 hK122 s h
  obtain ⟨v4, rfl⟩ : ∃ z, z = s := ⟨_, rfl⟩
  dsimp only [g0_game_122] at h
  show Go Γ 0 0 (XW Γ.d A L E s0) 122 [(0, .ref (A.1 0 0)), (3, .int v3), (4, .int v4)] []
  refine go_iload (pc := 122) C dX0_game_122 2 rfl ?_
  refine go_aload_n (pc := 124) C dX0_game_124 rfl 0 rfl ?_
  obtain ⟨hz9, h⟩ := chk_some h
  refine X0g_0_0 (pc := 125) C hL (of_decide_eq_true hz9) dX0_game_125 ?_
  refine X0g_1_2 (pc := 128) C hL dX0_game_128 ?_
  refine go_icmp_ge (pc := 131) (tgt := 153) C dX0_game_131 (by decide) h (fun h => ?_) (fun h => ?_)
  · refine go_bipush (pc := 153) (v := (-2 : Int32)) C dX0_game_153 (by decide) ?_
    exact (hE 0 0 _ _ _ (Nat.zero_le _) (Nat.zero_le _)).1 _ rfl dX0_game_155 ⟨congrArg (fun z => some (Value.int z)) (some2 h).1, congrArg (fun z => (XW Γ.d A L E z)) (some2 h).2⟩
  · refine go_aload_n (pc := 134) C dX0_game_134 rfl 0 rfl ?_
    refine go_iload_n (pc := 135) C dX0_game_135 rfl 1 rfl ?_
    refine go_iload (pc := 136) C dX0_game_136 2 rfl ?_
    obtain ⟨r4, e4, h⟩ := bnd_some h
    refine go_callVi (pc := 138) C [.int v3, .int v4] (m0_isWon hL e4) q1204 q1206 qs51 q138 q1207 x0pd_isWon (by decide) (by decide) (xO (hL.2 0 (by decide)) hL.1) xc0 rfl (Nat.le_of_ble_eq_true rfl) ⟨Nat.zero_le _, Nat.zero_le _⟩ dX0_game_138 rfl ?_
    refine go_if_eq (pc := 141) (tgt := 147) C dX0_game_141 (by decide) h (fun h => ?_) (fun h => ?_)
    · refine go_iinc (pc := 147) (v := (v4 + (1 : Int32))) C hN dX0_game_147 (q := 2) rfl rfl (by decide) rfl ?_
      refine go_goto (pc := 150) (tgt := 122) C dX0_game_150 (by decide) ?_
      refine go_sub [1, 2, 0] rfl ?_
      exact hK122 (v4 + (1 : Int32)) h
    · refine go_iload (pc := 144) C dX0_game_144 2 rfl ?_
      exact (hE 0 0 _ _ _ (Nat.zero_le _) (Nat.zero_le _)).1 _ rfl dX0_game_146 ⟨congrArg (fun z => some (Value.int z)) (some2 h).1, congrArg (fun z => (XW Γ.d A L E z)) (some2 h).2⟩
theorem w0_game_49 {Γ : Gam} {A : XA} {L : List Nat} {E : va_W} {v2 : Int32} {v3 : Int32} {v4 : Int32} {r9 : Int32} {s9 : (Nat → Bl)} {K32 : (Nat → Bl) × Int32 → Option (Int32 × (Nat → Bl))} (hN : Γ.nL = 6) (C : Cx Γ cX0_game RX0 (3, 0, 0) 67) (hE : Rets Γ cX0_game (some .int) 0 0 (fun v w => v = some (.int r9) ∧ w = (XW Γ.d A L E s9))) (hL : xOK L)
    (hK32 : ∀ s, K32 s = some (r9, s9) → (fun s : (Nat → Bl) × Int32 => Go Γ 0 0 (XW Γ.d A L E s.1) 32 [(0, .ref (A.1 0 0)), (2, .int v2), (3, .int v3), (4, .int s.2)] []) s) : ∀ (n : Nat) (s : (Nat → Bl) × Int32), loop (g0_game_49 v2 v3 v4 K32) n s = some (r9, s9) → (fun s : (Nat → Bl) × Int32 => Go Γ 0 0 (XW Γ.d A L E s.1) 49 [(0, .ref (A.1 0 0)), (2, .int v2), (3, .int v3), (4, .int v4), (5, .int s.2)] []) s := by
  refine loop_walk (P := fun s : (Nat → Bl) × Int32 => Go Γ 0 0 (XW Γ.d A L E s.1) 49 [(0, .ref (A.1 0 0)), (2, .int v2), (3, .int v3), (4, .int v4), (5, .int s.2)] []) ?_
  intro K49 hK49 s h
  obtain ⟨s0, v5⟩ := s
  dsimp only [g0_game_49] at h
  show Go Γ 0 0 (XW Γ.d A L E s0) 49 [(0, .ref (A.1 0 0)), (2, .int v2), (3, .int v3), (4, .int v4), (5, .int v5)] []
  refine go_iload (pc := 49) C dX0_game_49 4 rfl ?_
  refine go_aload_n (pc := 51) C dX0_game_51 rfl 0 rfl ?_
  obtain ⟨hz9, h⟩ := chk_some h
  refine X0g_0_0 (pc := 52) C hL (of_decide_eq_true hz9) dX0_game_52 ?_
  refine X0g_1_2 (pc := 55) C hL dX0_game_55 ?_
  refine go_icmp_ge (pc := 58) (tgt := 94) C dX0_game_58 (by decide) h (fun h => ?_) (fun h => ?_)
  · refine go_iinc (pc := 94) (v := (v4 + (1 : Int32))) C hN dX0_game_94 (q := 3) rfl rfl (by decide) rfl ?_
    refine go_goto (pc := 97) (tgt := 32) C dX0_game_97 (by decide) ?_
    refine go_sub [1, 2, 3, 0] rfl ?_
    exact hK32 (s0, (v4 + (1 : Int32))) h
  · refine go_iload (pc := 61) C dX0_game_61 3 rfl ?_
    refine go_iload_n (pc := 63) C dX0_game_63 rfl 2 rfl ?_
    refine go_iconst (pc := 64) (v := (-1 : Int32)) C dX0_game_64 (by decide) ?_
    refine go_ixor (pc := 65) C dX0_game_65 ?_
    refine go_iand (pc := 66) C dX0_game_66 ?_
    refine go_if_ne (pc := 67) (tgt := 94) C dX0_game_67 (by decide) h (fun h => ?_) (fun h => ?_)
    · refine go_iinc (pc := 94) (v := (v4 + (1 : Int32))) C hN dX0_game_94 (q := 3) rfl rfl (by decide) rfl ?_
      refine go_goto (pc := 97) (tgt := 32) C dX0_game_97 (by decide) ?_
      refine go_sub [1, 2, 3, 0] rfl ?_
      exact hK32 (s0, (v4 + (1 : Int32))) h
    · refine go_aload_n (pc := 70) C dX0_game_70 rfl 0 rfl ?_
      refine X0g_0_26 (pc := 71) C hL dX0_game_71 ?_
      refine go_iload (pc := 74) C dX0_game_74 3 rfl ?_
      refine go_dup2 (pc := 76) C dX0_game_76 rfl rfl ?_
      refine go_zald (pc := 77) C (xa_0_26 hL) h dX0_game_77 (fun h => ?_)
      refine go_aload_n (pc := 78) C dX0_game_78 rfl 0 rfl ?_
      refine go_iload (pc := 79) C dX0_game_79 3 rfl ?_
      refine go_iload (pc := 81) C dX0_game_81 4 rfl ?_
      obtain ⟨r5, e5, h⟩ := bnd_some h
      refine go_callVi (pc := 83) C [.int v4, .int v5] (m0_isWon hL e5) q1204 q1206 qs51 q138 q1207 x0pd_isWon (by decide) (by decide) (xO (hL.2 0 (by decide)) hL.1) xc0 rfl (Nat.le_of_ble_eq_true rfl) ⟨Nat.zero_le _, Nat.zero_le _⟩ dX0_game_83 rfl ?_
      refine go_ior (pc := 86) C dX0_game_86 ?_
      refine go_zast (pc := 87) C (xpa_0_26 hL) h dX0_game_87 (fun h => ?_)
      refine go_iinc (pc := 88) (v := (v5 + (1 : Int32))) C hN dX0_game_88 (q := 4) rfl rfl (by decide) rfl ?_
      refine go_goto (pc := 91) (tgt := 49) C dX0_game_91 (by decide) ?_
      refine go_sub [1, 2, 3, 4, 0] rfl ?_
      exact hK49 ((upX s0 0 (bA (s0 0) 26 (v4).toNatClampNeg (vp_nar .boolean (((s0 0).2.1 26 (v4).toNatClampNeg) ||| r5)))), (v5 + (1 : Int32))) h
theorem w0_game_32 {Γ : Gam} {A : XA} {L : List Nat} {E : va_W} {v2 : Int32} {v3 : Int32} {r9 : Int32} {s9 : (Nat → Bl)} (hN : Γ.nL = 6) (C : Cx Γ cX0_game RX0 (3, 0, 0) 67) (hE : Rets Γ cX0_game (some .int) 0 0 (fun v w => v = some (.int r9) ∧ w = (XW Γ.d A L E s9))) (hL : xOK L) : ∀ (n : Nat) (s : (Nat → Bl) × Int32), loop (g0_game_32 v2 v3) n s = some (r9, s9) → (fun s : (Nat → Bl) × Int32 => Go Γ 0 0 (XW Γ.d A L E s.1) 32 [(0, .ref (A.1 0 0)), (2, .int v2), (3, .int v3), (4, .int s.2)] []) s := by
  refine loop_walk (P := fun s : (Nat → Bl) × Int32 => Go Γ 0 0 (XW Γ.d A L E s.1) 32 [(0, .ref (A.1 0 0)), (2, .int v2), (3, .int v3), (4, .int s.2)] []) ?_
  intro K32 hK32 s h
  obtain ⟨s0, v4⟩ := s
  dsimp only [g0_game_32] at h
  show Go Γ 0 0 (XW Γ.d A L E s0) 32 [(0, .ref (A.1 0 0)), (2, .int v2), (3, .int v3), (4, .int v4)] []
  refine go_iload (pc := 32) C dX0_game_32 3 rfl ?_
  refine go_iload_n (pc := 34) C dX0_game_34 rfl 2 rfl ?_
  refine go_icmp_gt (pc := 35) (tgt := 100) C dX0_game_35 (by decide) h (fun h => ?_) (fun h => ?_)
  · refine go_iload_n (pc := 100) C dX0_game_100 rfl 1 rfl ?_
    refine go_if_ne (pc := 101) (tgt := 119) C dX0_game_101 (by decide) h (fun h => ?_) (fun h => ?_)
    · refine go_iconst (pc := 119) (v := (0 : Int32)) C dX0_game_119 (by decide) ?_
      refine go_istore (pc := 120) C hN dX0_game_120 (by decide) rfl ?_
      refine go_sub [1, 3, 0] rfl ?_
      exact w0_game_122 hN C hE hL FU (0 : Int32) h
    · refine go_aload_n (pc := 104) C dX0_game_104 rfl 0 rfl ?_
      refine X0g_0_26 (pc := 105) C hL dX0_game_105 ?_
      refine go_iload_n (pc := 108) C dX0_game_108 rfl 2 rfl ?_
      refine go_zald (pc := 109) C (xa_0_26 hL) h dX0_game_109 (fun h => ?_)
      refine go_if_eq (pc := 110) (tgt := 117) C dX0_game_110 (by decide) h (fun h => ?_) (fun h => ?_)
      · refine go_iconst (pc := 117) (v := (0 : Int32)) C dX0_game_117 (by decide) ?_
        exact (hE 0 0 _ _ _ (Nat.zero_le _) (Nat.zero_le _)).1 _ rfl dX0_game_118 ⟨congrArg (fun z => some (Value.int z)) (some2 h).1, congrArg (fun z => (XW Γ.d A L E z)) (some2 h).2⟩
      · refine go_iconst (pc := 113) (v := (1 : Int32)) C dX0_game_113 (by decide) ?_
        refine go_goto (pc := 114) (tgt := 118) C dX0_game_114 (by decide) ?_
        exact (hE 0 0 _ _ _ (Nat.zero_le _) (Nat.zero_le _)).1 _ rfl dX0_game_118 ⟨congrArg (fun z => some (Value.int z)) (some2 h).1, congrArg (fun z => (XW Γ.d A L E z)) (some2 h).2⟩
  · refine go_aload_n (pc := 38) C dX0_game_38 rfl 0 rfl ?_
    refine X0g_0_26 (pc := 39) C hL dX0_game_39 ?_
    refine go_iload (pc := 42) C dX0_game_42 3 rfl ?_
    refine go_iconst (pc := 44) (v := (0 : Int32)) C dX0_game_44 (by decide) ?_
    refine go_zast (pc := 45) C (xpa_0_26 hL) h dX0_game_45 (fun h => ?_)
    refine go_iconst (pc := 46) (v := (0 : Int32)) C dX0_game_46 (by decide) ?_
    refine go_istore (pc := 47) C hN dX0_game_47 (by decide) rfl ?_
    refine go_sub [1, 2, 3, 4, 0] rfl ?_
    exact w0_game_49 hN C hE hL hK32 FU ((upX s0 0 (bA (s0 0) 26 (v4).toNatClampNeg (vp_nar .boolean (0 : Int32)))), (0 : Int32)) h
theorem m0_game {l : Launch} {d : gD} {A : XA} {L : List Nat} {E : va_W} {s0 : (Nat → Bl)} {v1 : Int32} {v2 : Int32} {r9 : Int32} {s9 : (Nat → Bl)} (hL : xOK L) (h : f0_game s0 v1 v2 = some (r9, s9)) : Mt l d yX0_game cX0_game 6 (some .int) (3, 0, 0) 67 (XW d A L E s0) [.ref (A.1 0 0), .int v1, .int v2] (fun v w => v = some (.int r9) ∧ w = (XW d A L E s9)) := by
  refine Mt.of x0pn (Nat.le_of_ble_eq_true rfl) ?_
  intro Γ hl hd hN C hE
  subst hl; subst hd
  show Go Γ 0 0 (XW Γ.d A L E s0) 0 [(0, .ref (A.1 0 0)), (1, .int v1), (2, .int v2)] []
  dsimp only [f0_game] at h
  refine go_aload_n (pc := 0) C dX0_game_0 rfl 0 rfl ?_
  refine go_iload_n (pc := 1) C dX0_game_1 rfl 1 rfl ?_
  obtain ⟨r1, e1, h⟩ := bnd_some h
  refine go_callVi (pc := 2) C [.int v1] (m0_isAfloat hL e1) q914 q916 qs31 q138 q917 x0pd_isAfloat (by decide) (by decide) (xO (hL.2 0 (by decide)) hL.1) xc0 rfl (Nat.le_of_ble_eq_true rfl) ⟨Nat.zero_le _, Nat.zero_le _⟩ dX0_game_2 rfl ?_
  refine go_if_eq (pc := 5) (tgt := 18) C dX0_game_5 (by decide) h (fun h => ?_) (fun h => ?_)
  · refine go_iconst (pc := 18) (v := (-1 : Int32)) C dX0_game_18 (by decide) ?_
    exact (hE 0 0 _ _ _ (Nat.zero_le _) (Nat.zero_le _)).1 _ rfl dX0_game_19 ⟨congrArg (fun z => some (Value.int z)) (some2 h).1, congrArg (fun z => (XW Γ.d A L E z)) (some2 h).2⟩
  · refine go_iload_n (pc := 8) C dX0_game_8 rfl 2 rfl ?_
    refine go_i2l (pc := 9) C dX0_game_9 ?_
    refine go_lconst (pc := 10) (v := (0 : Int64)) C dX0_game_10 (by decide) ?_
    refine go_lconst (pc := 11) (v := (1 : Int64)) C dX0_game_11 (by decide) ?_
    obtain ⟨r2, e2, h⟩ := bnd_some h
    refine go_callSi (pc := 12) C [.long (v2).toInt64, .long (0 : Int64), .long (1 : Int64)] (m0_in e2) q939 q647 q138 q648 x0pd_in (by decide) (by decide) rfl (Nat.le_of_ble_eq_true rfl) ⟨Nat.zero_le _, Nat.zero_le _⟩ dX0_game_12 rfl ?_
    refine go_if_ne (pc := 15) (tgt := 20) C dX0_game_15 (by decide) h (fun h => ?_) (fun h => ?_)
    · refine go_aload_n (pc := 20) C dX0_game_20 rfl 0 rfl ?_
      obtain ⟨hz9, h⟩ := chk_some h
      refine X0g_0_0 (pc := 21) C hL (of_decide_eq_true hz9) dX0_game_21 ?_
      refine go_iload_n (pc := 24) C dX0_game_24 rfl 1 rfl ?_
      obtain ⟨r3, e3, h⟩ := bnd_some h
      refine go_callVi (pc := 25) C [.int v1] (Mt.x0 (hL.2 1 (by decide)) hL.1 (m1_pieceOf e3)) q922 q923 q924 q139 q925 x1pd_pieceOf (by decide) (by decide) (xO (hL.2 1 (by decide)) hL.1) xc1 rfl (Nat.le_of_ble_eq_true rfl) ⟨Nat.zero_le _, Nat.zero_le _⟩ dX0_game_25 rfl ?_
      refine go_istore_n (pc := 28) C hN dX0_game_28 rfl (by decide) rfl ?_
      refine go_iconst (pc := 29) (v := (0 : Int32)) C dX0_game_29 (by decide) ?_
      refine go_istore (pc := 30) C hN dX0_game_30 (by decide) rfl ?_
      refine go_sub [2, 4, 1, 0] rfl ?_
      exact w0_game_32 hN C hE hL FU (s0, (0 : Int32)) h
    · refine go_iconst (pc := 18) (v := (-1 : Int32)) C dX0_game_18 (by decide) ?_
      exact (hE 0 0 _ _ _ (Nat.zero_le _) (Nat.zero_le _)).1 _ rfl dX0_game_19 ⟨congrArg (fun z => some (Value.int z)) (some2 h).1, congrArg (fun z => (XW Γ.d A L E z)) (some2 h).2⟩
theorem m0_seed {l : Launch} {d : gD} {A : XA} {L : List Nat} {E : va_W} {s0 : (Nat → Bl)} {v1 : Int32} {r9 : Int32} {s9 : (Nat → Bl)} (hL : xOK L) (h : f0_seed s0 v1 = some (r9, s9)) : Mt l d yX0_seed cX0_seed 3 (some .int) (0, 0, 0) 0 (XW d A L E s0) [.ref (A.1 0 0), .int v1] (fun v w => v = some (.int r9) ∧ w = (XW d A L E s9)) := by
  refine Mt.of x0pn (Nat.le_of_ble_eq_true rfl) ?_
  intro Γ hl hd hN C hE
  subst hl; subst hd
  show Go Γ 0 0 (XW Γ.d A L E s0) 0 [(0, .ref (A.1 0 0)), (1, .int v1)] []
  dsimp only [f0_seed] at h
  refine go_iload_n (pc := 0) C dX0_seed_0 rfl 1 rfl ?_
  refine go_if_ge (pc := 1) (tgt := 6) C dX0_seed_1 (by decide) h (fun h => ?_) (fun h => ?_)
  · refine go_aload_n (pc := 6) C dX0_seed_6 rfl 0 rfl ?_
    refine X0g_0_5 (pc := 7) C hL dX0_seed_7 ?_
    refine go_istore_n (pc := 10) C hN dX0_seed_10 rfl (by decide) rfl ?_
    refine go_aload_n (pc := 11) C dX0_seed_11 rfl 1 rfl ?_
    refine go_iload_n (pc := 12) C dX0_seed_12 rfl 2 rfl ?_
    refine X0p_0_5 (pc := 13) C hL dX0_seed_13 ?_
    refine go_iload_n (pc := 16) C dX0_seed_16 rfl 0 rfl ?_
    exact (hE 0 0 _ _ _ (Nat.zero_le _) (Nat.zero_le _)).1 _ rfl dX0_seed_17 ⟨congrArg (fun z => some (Value.int z)) (some2 h).1, congrArg (fun z => (XW Γ.d A L E z)) (some2 h).2⟩
  · refine go_iconst (pc := 4) (v := (-1 : Int32)) C dX0_seed_4 (by decide) ?_
    exact (hE 0 0 _ _ _ (Nat.zero_le _) (Nat.zero_le _)).1 _ rfl dX0_seed_5 ⟨congrArg (fun z => some (Value.int z)) (some2 h).1, congrArg (fun z => (XW Γ.d A L E z)) (some2 h).2⟩
theorem m0_draw {l : Launch} {d : gD} {A : XA} {L : List Nat} {E : va_W} {s0 : (Nat → Bl)} {v1 : Int32} {r9 : Int32} {s9 : (Nat → Bl)} (hL : xOK L) (h : f0_draw s0 v1 = some (r9, s9)) : Mt l d yX0_draw cX0_draw 2 (some .int) (0, 0, 0) 0 (XW d A L E s0) [.ref (A.1 0 0), .int v1] (fun v w => v = some (.int r9) ∧ w = (XW d A L E s9)) := by
  refine Mt.of x0pn (Nat.le_of_ble_eq_true rfl) ?_
  intro Γ hl hd hN C hE
  subst hl; subst hd
  show Go Γ 0 0 (XW Γ.d A L E s0) 0 [(0, .ref (A.1 0 0)), (1, .int v1)] []
  dsimp only [f0_draw] at h
  refine go_aload_n (pc := 0) C dX0_draw_0 rfl 0 rfl ?_
  refine go_aload_n (pc := 1) C dX0_draw_1 rfl 0 rfl ?_
  refine X0g_0_27 (pc := 2) C hL dX0_draw_2 ?_
  refine go_i2l (pc := 5) C dX0_draw_5 ?_
  refine go_ldc2 (pc := 6) C dX0_draw_6 q1222 ?_
  refine go_lmul (pc := 9) C dX0_draw_9 ?_
  refine go_ldc2 (pc := 10) C dX0_draw_10 q1223 ?_
  refine go_ladd (pc := 13) C dX0_draw_13 ?_
  refine go_ldc2 (pc := 14) C dX0_draw_14 q1224 ?_
  refine go_lrem (pc := 17) C dX0_draw_17 (by decide) ?_
  refine go_l2i (pc := 18) C dX0_draw_18 ?_
  refine X0p_0_27 (pc := 19) C hL dX0_draw_19 ?_
  refine go_nm (pc := 22) (fun z9 => (XW Γ.d A L E z9)) (fun s1 es1 => ?_)
  have h := ltv_eq es1 h
  refine go_aload_n (pc := 22) C dX0_draw_22 rfl 0 rfl ?_
  refine X0g_0_27 (pc := 23) C hL dX0_draw_23 ?_
  refine go_ldc_w (pc := 26) C dX0_draw_26 q1225 ?_
  refine go_idiv (pc := 29) C dX0_draw_29 (by decide) ?_
  refine go_iload_n (pc := 30) C dX0_draw_30 rfl 1 rfl ?_
  obtain ⟨hne, h⟩ := chk_some h
  refine go_irem (pc := 31) C dX0_draw_31 (of_decide_eq_true hne) ?_
  exact (hE 0 0 _ _ _ (Nat.zero_le _) (Nat.zero_le _)).1 _ rfl dX0_draw_32 ⟨congrArg (fun z => some (Value.int z)) (some2 h).1, congrArg (fun z => (XW Γ.d A L E z)) (some2 h).2⟩
theorem w0_drawn_115 {Γ : Gam} {A : XA} {L : List Nat} {E : va_W} {v1 : Int32} {v2 : Int32} {v3 : Int32} {v8 : Int32} {r9 : Int32} {s9 : (Nat → Bl)} {K96 : (Nat → Bl) × Int32 × Int32 × Int32 × Int32 → Option (Int32 × (Nat → Bl))} (hN : Γ.nL = 10) (C : Cx Γ cX0_drawn RX0 (6, 0, 0) 143) (hE : Rets Γ cX0_drawn (some .int) 0 0 (fun v w => v = some (.int r9) ∧ w = (XW Γ.d A L E s9))) (hL : xOK L)
    (hK96 : ∀ s, K96 s = some (r9, s9) → (fun s : (Nat → Bl) × Int32 × Int32 × Int32 × Int32 => Go Γ 0 0 (XW Γ.d A L E s.1) 96 [(0, .ref (A.1 0 0)), (1, .int v1), (2, .int v2), (3, .int v3), (4, .int s.2.1), (5, .int s.2.2.1), (6, .int s.2.2.2.1), (7, .ref (A.1 2 0)), (8, .int s.2.2.2.2)] []) s) : ∀ (n : Nat) (s : (Nat → Bl) × Int32 × Int32 × Int32 × Int32), loop (g0_drawn_115 v1 v2 v3 v8 K96) n s = some (r9, s9) → (fun s : (Nat → Bl) × Int32 × Int32 × Int32 × Int32 => Go Γ 0 0 (XW Γ.d A L E s.1) 115 [(0, .ref (A.1 0 0)), (1, .int v1), (2, .int v2), (3, .int v3), (4, .int s.2.1), (5, .int s.2.2.1), (6, .int s.2.2.2.1), (7, .ref (A.1 2 0)), (8, .int v8), (9, .int s.2.2.2.2)] []) s := by
  refine loop_walk (P := fun s : (Nat → Bl) × Int32 × Int32 × Int32 × Int32 => Go Γ 0 0 (XW Γ.d A L E s.1) 115 [(0, .ref (A.1 0 0)), (1, .int v1), (2, .int v2), (3, .int v3), (4, .int s.2.1), (5, .int s.2.2.1), (6, .int s.2.2.2.1), (7, .ref (A.1 2 0)), (8, .int v8), (9, .int s.2.2.2.2)] []) ?_
  intro K115 hK115 s h
  obtain ⟨s0, v4, v5, v6, v9⟩ := s
  dsimp only [g0_drawn_115] at h
  show Go Γ 0 0 (XW Γ.d A L E s0) 115 [(0, .ref (A.1 0 0)), (1, .int v1), (2, .int v2), (3, .int v3), (4, .int v4), (5, .int v5), (6, .int v6), (7, .ref (A.1 2 0)), (8, .int v8), (9, .int v9)] []
  refine go_iload (pc := 115) C dX0_drawn_115 9 rfl ?_
  refine go_iload_n (pc := 117) C dX0_drawn_117 rfl 2 rfl ?_
  refine go_icmp_ge (pc := 118) (tgt := 178) C dX0_drawn_118 (by decide) h (fun h => ?_) (fun h => ?_)
  · refine go_iinc (pc := 178) (v := (v8 + (1 : Int32))) C hN dX0_drawn_178 (q := 8) rfl rfl (by decide) rfl ?_
    refine go_goto (pc := 181) (tgt := 96) C dX0_drawn_181 (by decide) ?_
    refine go_sub [1, 2, 3, 4, 5, 6, 7, 8, 0] rfl ?_
    exact hK96 (s0, v4, v5, v6, (v8 + (1 : Int32))) h
  · refine go_iload (pc := 121) C dX0_drawn_121 4 rfl ?_
    refine go_aload (pc := 123) C dX0_drawn_123 7 rfl ?_
    refine go_aload_n (pc := 125) C dX0_drawn_125 rfl 0 rfl ?_
    refine go_bipush (pc := 126) (v := (10 : Int32)) C dX0_drawn_126 (by decide) ?_
    obtain ⟨r6, s6, e6, h⟩ := bnd2_some h
    refine go_callVi (pc := 128) C [.int (10 : Int32)] (m0_draw hL e6) q1218 q1220 qs52 q138 q1221 x0pd_draw (by decide) (by decide) (xO (hL.2 0 (by decide)) hL.1) xc0 rfl (Nat.le_of_ble_eq_true rfl) ⟨Nat.zero_le _, Nat.zero_le _⟩ dX0_drawn_128 rfl ?_
    refine go_aload (pc := 131) C dX0_drawn_131 7 rfl ?_
    refine go_aload (pc := 133) C dX0_drawn_133 7 rfl ?_
    refine X0g_2_6 (pc := 135) C hL dX0_drawn_135 ?_
    refine go_iconst (pc := 138) (v := (1 : Int32)) C dX0_drawn_138 (by decide) ?_
    refine go_iadd (pc := 139) C dX0_drawn_139 ?_
    obtain ⟨r7, e7, h⟩ := bnd_some h
    refine go_callVi (pc := 140) C [.int (((s6 2).1 6) + (1 : Int32))] (Mt.x0 (hL.2 2 (by decide)) hL.1 (m1_forceAt e7)) q940 q680 q681 q139 q682 x1pd_forceAt (by decide) (by decide) (xO (hL.2 2 (by decide)) hL.1) xc2 rfl (Nat.le_of_ble_eq_true rfl) ⟨Nat.zero_le _, Nat.zero_le _⟩ dX0_drawn_140 rfl ?_
    refine go_mmax (pc := 143) C q1132 (by decide) (Nat.le_of_ble_eq_true rfl) ⟨Nat.zero_le _, Nat.zero_le _⟩ dX0_drawn_143 ?_
    obtain ⟨r8, s8, e8, h⟩ := bnd2_some h
    refine go_callVi (pc := 146) C [.int (if r6 < r7 then r7 else r6)] (Mt.x1 (hL.2 2 (by decide)) hL.1 (m1_goes e8)) q1226 q986 q987 q139 q988 x1pd_goes (by decide) (by decide) (xO (hL.2 2 (by decide)) hL.1) xc2 rfl (Nat.le_of_ble_eq_true rfl) ⟨Nat.zero_le _, Nat.zero_le _⟩ dX0_drawn_146 rfl ?_
    refine go_iadd (pc := 149) C dX0_drawn_149 ?_
    refine go_istore (pc := 150) C hN dX0_drawn_150 (by decide) rfl ?_
    refine go_iload (pc := 152) C dX0_drawn_152 5 rfl ?_
    refine go_aload (pc := 154) C dX0_drawn_154 7 rfl ?_
    refine X0g_2_26 (pc := 156) C hL dX0_drawn_156 ?_
    refine go_iadd (pc := 159) C dX0_drawn_159 ?_
    refine go_istore (pc := 160) C hN dX0_drawn_160 (by decide) rfl ?_
    refine go_iload (pc := 162) C dX0_drawn_162 6 rfl ?_
    refine go_aload (pc := 164) C dX0_drawn_164 7 rfl ?_
    refine X0g_2_27 (pc := 166) C hL dX0_drawn_166 ?_
    refine go_iadd (pc := 169) C dX0_drawn_169 ?_
    refine go_istore (pc := 170) C hN dX0_drawn_170 (by decide) rfl ?_
    refine go_iinc (pc := 172) (v := (v9 + (1 : Int32))) C hN dX0_drawn_172 (q := 9) rfl rfl (by decide) rfl ?_
    refine go_goto (pc := 175) (tgt := 115) C dX0_drawn_175 (by decide) ?_
    refine go_sub [4, 5, 6, 7, 3, 2, 1, 8, 9, 0] rfl ?_
    exact hK115 ((upX s6 2 s8), (v4 + r8), (v5 + (((upX s6 2 s8) 2).1 26)), (v6 + (((upX s6 2 s8) 2).1 27)), (v9 + (1 : Int32))) h
theorem w0_drawn_96 {Γ : Gam} {A : XA} {L : List Nat} {E : va_W} {v1 : Int32} {v2 : Int32} {v3 : Int32} {r9 : Int32} {s9 : (Nat → Bl)} (hN : Γ.nL = 10) (C : Cx Γ cX0_drawn RX0 (6, 0, 0) 143) (hE : Rets Γ cX0_drawn (some .int) 0 0 (fun v w => v = some (.int r9) ∧ w = (XW Γ.d A L E s9))) (hL : xOK L) : ∀ (n : Nat) (s : (Nat → Bl) × Int32 × Int32 × Int32 × Int32), loop (g0_drawn_96 v1 v2 v3) n s = some (r9, s9) → (fun s : (Nat → Bl) × Int32 × Int32 × Int32 × Int32 => Go Γ 0 0 (XW Γ.d A L E s.1) 96 [(0, .ref (A.1 0 0)), (1, .int v1), (2, .int v2), (3, .int v3), (4, .int s.2.1), (5, .int s.2.2.1), (6, .int s.2.2.2.1), (7, .ref (A.1 2 0)), (8, .int s.2.2.2.2)] []) s := by
  refine loop_walk (P := fun s : (Nat → Bl) × Int32 × Int32 × Int32 × Int32 => Go Γ 0 0 (XW Γ.d A L E s.1) 96 [(0, .ref (A.1 0 0)), (1, .int v1), (2, .int v2), (3, .int v3), (4, .int s.2.1), (5, .int s.2.2.1), (6, .int s.2.2.2.1), (7, .ref (A.1 2 0)), (8, .int s.2.2.2.2)] []) ?_
  intro K96 hK96 s h
  obtain ⟨s0, v4, v5, v6, v8⟩ := s
  dsimp only [g0_drawn_96] at h
  show Go Γ 0 0 (XW Γ.d A L E s0) 96 [(0, .ref (A.1 0 0)), (1, .int v1), (2, .int v2), (3, .int v3), (4, .int v4), (5, .int v5), (6, .int v6), (7, .ref (A.1 2 0)), (8, .int v8)] []
  refine go_iload (pc := 96) C dX0_drawn_96 8 rfl ?_
  refine go_iload_n (pc := 98) C dX0_drawn_98 rfl 1 rfl ?_
  refine go_icmp_ge (pc := 99) (tgt := 184) C dX0_drawn_99 (by decide) h (fun h => ?_) (fun h => ?_)
  · refine go_iload_n (pc := 184) C dX0_drawn_184 rfl 3 rfl ?_
    refine go_if_ne (pc := 185) (tgt := 193) C dX0_drawn_185 (by decide) h (fun h => ?_) (fun h => ?_)
    · refine go_iload_n (pc := 193) C dX0_drawn_193 rfl 3 rfl ?_
      refine go_iconst (pc := 194) (v := (1 : Int32)) C dX0_drawn_194 (by decide) ?_
      refine go_icmp_ne (pc := 195) (tgt := 203) C dX0_drawn_195 (by decide) h (fun h => ?_) (fun h => ?_)
      · refine go_iload (pc := 203) C dX0_drawn_203 6 rfl ?_
        exact (hE 0 0 _ _ _ (Nat.zero_le _) (Nat.zero_le _)).1 _ rfl dX0_drawn_205 ⟨congrArg (fun z => some (Value.int z)) (some2 h).1, congrArg (fun z => (XW Γ.d A L E z)) (some2 h).2⟩
      · refine go_iload (pc := 198) C dX0_drawn_198 5 rfl ?_
        refine go_goto (pc := 200) (tgt := 205) C dX0_drawn_200 (by decide) ?_
        exact (hE 0 0 _ _ _ (Nat.zero_le _) (Nat.zero_le _)).1 _ rfl dX0_drawn_205 ⟨congrArg (fun z => some (Value.int z)) (some2 h).1, congrArg (fun z => (XW Γ.d A L E z)) (some2 h).2⟩
    · refine go_iload (pc := 188) C dX0_drawn_188 4 rfl ?_
      refine go_goto (pc := 190) (tgt := 205) C dX0_drawn_190 (by decide) ?_
      exact (hE 0 0 _ _ _ (Nat.zero_le _) (Nat.zero_le _)).1 _ rfl dX0_drawn_205 ⟨congrArg (fun z => some (Value.int z)) (some2 h).1, congrArg (fun z => (XW Γ.d A L E z)) (some2 h).2⟩
  · refine go_aload (pc := 102) C dX0_drawn_102 7 rfl ?_
    refine go_aload_n (pc := 104) C dX0_drawn_104 rfl 0 rfl ?_
    obtain ⟨hz9, h⟩ := chk_some h
    refine X0g_0_0 (pc := 105) C hL (of_decide_eq_true hz9) dX0_drawn_105 ?_
    obtain ⟨s5, e5, h⟩ := bnd_some h
    refine go_callVa (pc := 108) C [.ref (A.1 1 0)] (Mt.x2 (hL.2 2 (by decide)) (hL.2 1 (by decide)) (by decide) hL.1 (m1_standsAs e5)) q1217 q559 q560 q139 q561 x1pd_standsAs (by decide) (by decide) (xO (hL.2 2 (by decide)) hL.1) xc2 rfl (Nat.le_of_ble_eq_true rfl) ⟨Nat.zero_le _, Nat.zero_le _⟩ dX0_drawn_108 rfl ?_
    refine go_pop (pc := 111) C dX0_drawn_111 rfl ?_
    refine go_iconst (pc := 112) (v := (0 : Int32)) C dX0_drawn_112 (by decide) ?_
    refine go_istore (pc := 113) C hN dX0_drawn_113 (by decide) rfl ?_
    refine go_sub [1, 2, 3, 4, 5, 6, 7, 8, 9, 0] rfl ?_
    exact w0_drawn_115 hN C hE hL hK96 FU ((upX s0 2 s5), v4, v5, v6, (0 : Int32)) h
theorem m0_drawn {l : Launch} {d : gD} {A : XA} {L : List Nat} {E : va_W} {s0 : (Nat → Bl)} {v1 : Int32} {v2 : Int32} {v3 : Int32} {r9 : Int32} {s9 : (Nat → Bl)} (hL : xOK L) (h : f0_drawn s0 v1 v2 v3 = some (r9, s9)) : Mt l d yX0_drawn cX0_drawn 10 (some .int) (6, 0, 0) 143 (XW d A L E s0) [.ref (A.1 0 0), .int v1, .int v2, .int v3] (fun v w => v = some (.int r9) ∧ w = (XW d A L E s9)) := by
  refine Mt.of x0pn (Nat.le_of_ble_eq_true rfl) ?_
  intro Γ hl hd hN C hE
  subst hl; subst hd
  show Go Γ 0 0 (XW Γ.d A L E s0) 0 [(0, .ref (A.1 0 0)), (1, .int v1), (2, .int v2), (3, .int v3)] []
  dsimp only [f0_drawn] at h
  refine go_aload_n (pc := 0) C dX0_drawn_0 rfl 0 rfl ?_
  by_cases c4n : (s0 0).1 0 = 0
  · have h := (if_pos c4n).symm.trans h
    refine X0g_0_0N (pc := 1) C hL c4n dX0_drawn_1 ?_
    refine go_ifnullN (pc := 4) (tgt := 61) C dX0_drawn_4 (by decide) ?_
    refine go_iconst (pc := 61) (v := (-1 : Int32)) C dX0_drawn_61 (by decide) ?_
    exact (hE 0 0 _ _ _ (Nat.zero_le _) (Nat.zero_le _)).1 _ rfl dX0_drawn_62 ⟨congrArg (fun z => some (Value.int z)) (some2 h).1, congrArg (fun z => (XW Γ.d A L E z)) (some2 h).2⟩
  · have h := (if_neg c4n).symm.trans h
    refine X0g_0_0 (pc := 1) C hL c4n dX0_drawn_1 ?_
    refine go_ifnull (pc := 4) C dX0_drawn_4 ?_
    refine go_iload_n (pc := 7) C dX0_drawn_7 rfl 1 rfl ?_
    refine go_i2l (pc := 8) C dX0_drawn_8 ?_
    refine go_lconst (pc := 9) (v := (1 : Int64)) C dX0_drawn_9 (by decide) ?_
    refine go_ldc2 (pc := 10) C dX0_drawn_10 q1216 ?_
    obtain ⟨r1, e1, h⟩ := bnd_some h
    refine go_callSi (pc := 13) C [.long (v1).toInt64, .long (1 : Int64), .long (20 : Int64)] (m0_in e1) q939 q647 q138 q648 x0pd_in (by decide) (by decide) rfl (Nat.le_of_ble_eq_true rfl) ⟨Nat.zero_le _, Nat.zero_le _⟩ dX0_drawn_13 rfl ?_
    refine go_if_eq (pc := 16) (tgt := 61) C dX0_drawn_16 (by decide) h (fun h => ?_) (fun h => ?_)
    · refine go_iconst (pc := 61) (v := (-1 : Int32)) C dX0_drawn_61 (by decide) ?_
      exact (hE 0 0 _ _ _ (Nat.zero_le _) (Nat.zero_le _)).1 _ rfl dX0_drawn_62 ⟨congrArg (fun z => some (Value.int z)) (some2 h).1, congrArg (fun z => (XW Γ.d A L E z)) (some2 h).2⟩
    · refine go_iload_n (pc := 19) C dX0_drawn_19 rfl 2 rfl ?_
      refine go_i2l (pc := 20) C dX0_drawn_20 ?_
      refine go_lconst (pc := 21) (v := (1 : Int64)) C dX0_drawn_21 (by decide) ?_
      refine go_bipush (pc := 22) (v := (60 : Int32)) C dX0_drawn_22 (by decide) ?_
      refine go_aload_n (pc := 24) C dX0_drawn_24 rfl 0 rfl ?_
      obtain ⟨hz9, h⟩ := chk_some h
      refine X0g_0_0 (pc := 25) C hL (of_decide_eq_true hz9) dX0_drawn_25 ?_
      refine X0g_1_0 (pc := 28) C hL dX0_drawn_28 ?_
      refine go_aload_n (pc := 31) C dX0_drawn_31 rfl 0 rfl ?_
      obtain ⟨hz9, h⟩ := chk_some h
      refine X0g_0_0 (pc := 32) C hL (of_decide_eq_true hz9) dX0_drawn_32 ?_
      refine X0g_1_6 (pc := 35) C hL dX0_drawn_35 ?_
      refine go_isub (pc := 38) C dX0_drawn_38 ?_
      refine go_mmin (pc := 39) C q1056 (by decide) (Nat.le_of_ble_eq_true rfl) ⟨Nat.zero_le _, Nat.zero_le _⟩ dX0_drawn_39 ?_
      refine go_i2l (pc := 42) C dX0_drawn_42 ?_
      obtain ⟨r2, e2, h⟩ := bnd_some h
      refine go_callSi (pc := 43) C [.long (v2).toInt64, .long (1 : Int64), .long ((if (((s0 1).1 0) - ((s0 1).1 6)) < (60 : Int32) then (((s0 1).1 0) - ((s0 1).1 6)) else (60 : Int32))).toInt64] (m0_in e2) q939 q647 q138 q648 x0pd_in (by decide) (by decide) rfl (Nat.le_of_ble_eq_true rfl) ⟨Nat.zero_le _, Nat.zero_le _⟩ dX0_drawn_43 rfl ?_
      refine go_if_eq (pc := 46) (tgt := 61) C dX0_drawn_46 (by decide) h (fun h => ?_) (fun h => ?_)
      · refine go_iconst (pc := 61) (v := (-1 : Int32)) C dX0_drawn_61 (by decide) ?_
        exact (hE 0 0 _ _ _ (Nat.zero_le _) (Nat.zero_le _)).1 _ rfl dX0_drawn_62 ⟨congrArg (fun z => some (Value.int z)) (some2 h).1, congrArg (fun z => (XW Γ.d A L E z)) (some2 h).2⟩
      · refine go_iload_n (pc := 49) C dX0_drawn_49 rfl 3 rfl ?_
        refine go_i2l (pc := 50) C dX0_drawn_50 ?_
        refine go_lconst (pc := 51) (v := (0 : Int64)) C dX0_drawn_51 (by decide) ?_
        refine go_ldc2 (pc := 52) C dX0_drawn_52 q1145 ?_
        obtain ⟨r3, e3, h⟩ := bnd_some h
        refine go_callSi (pc := 55) C [.long (v3).toInt64, .long (0 : Int64), .long (2 : Int64)] (m0_in e3) q939 q647 q138 q648 x0pd_in (by decide) (by decide) rfl (Nat.le_of_ble_eq_true rfl) ⟨Nat.zero_le _, Nat.zero_le _⟩ dX0_drawn_55 rfl ?_
        refine go_if_ne (pc := 58) (tgt := 63) C dX0_drawn_58 (by decide) h (fun h => ?_) (fun h => ?_)
        · refine go_aload_n (pc := 63) C dX0_drawn_63 rfl 0 rfl ?_
          refine go_aload_n (pc := 64) C dX0_drawn_64 rfl 0 rfl ?_
          refine X0g_0_5 (pc := 65) C hL dX0_drawn_65 ?_
          refine X0p_0_27 (pc := 68) C hL dX0_drawn_68 ?_
          refine go_iconst (pc := 71) (v := (0 : Int32)) C dX0_drawn_71 (by decide) ?_
          refine go_istore (pc := 72) C hN dX0_drawn_72 (by decide) rfl ?_
          refine go_iconst (pc := 74) (v := (0 : Int32)) C dX0_drawn_74 (by decide) ?_
          refine go_istore (pc := 75) C hN dX0_drawn_75 (by decide) rfl ?_
          refine go_iconst (pc := 77) (v := (0 : Int32)) C dX0_drawn_77 (by decide) ?_
          refine go_istore (pc := 78) C hN dX0_drawn_78 (by decide) rfl ?_
          refine go_aload_n (pc := 80) C dX0_drawn_80 rfl 3 rfl ?_
          refine X0g_0_2 (pc := 81) C hL dX0_drawn_81 ?_
          refine go_aload_n (pc := 84) C dX0_drawn_84 rfl 3 rfl ?_
          obtain ⟨hz9, h⟩ := chk_some h
          refine X0g_0_0 (pc := 85) C hL (of_decide_eq_true hz9) dX0_drawn_85 ?_
          obtain ⟨s4, e4, h⟩ := bnd_some h
          refine go_callVa (pc := 88) C [.ref (A.1 1 0)] (Mt.x2 (hL.2 2 (by decide)) (hL.2 1 (by decide)) (by decide) hL.1 (m1_copies e4)) q691 q552 q553 q139 q554 x1pd_copies (by decide) (by decide) (xO (hL.2 2 (by decide)) hL.1) xc2 rfl (Nat.le_of_ble_eq_true rfl) ⟨Nat.zero_le _, Nat.zero_le _⟩ dX0_drawn_88 rfl ?_
          refine go_astore (pc := 91) C hN dX0_drawn_91 (by decide) rfl ?_
          refine go_iconst (pc := 93) (v := (0 : Int32)) C dX0_drawn_93 (by decide) ?_
          refine go_istore (pc := 94) C hN dX0_drawn_94 (by decide) rfl ?_
          refine go_sub [5, 6, 7, 8, 4, 3, 2, 1, 0] rfl ?_
          exact w0_drawn_96 hN C hE hL FU ((upX (upX s0 0 (bI (s0 0) 27 ((s0 0).1 5))) 2 s4), (0 : Int32), (0 : Int32), (0 : Int32), (0 : Int32)) h
        · refine go_iconst (pc := 61) (v := (-1 : Int32)) C dX0_drawn_61 (by decide) ?_
          exact (hE 0 0 _ _ _ (Nat.zero_le _) (Nat.zero_le _)).1 _ rfl dX0_drawn_62 ⟨congrArg (fun z => some (Value.int z)) (some2 h).1, congrArg (fun z => (XW Γ.d A L E z)) (some2 h).2⟩
theorem w0_pieces_4 {Γ : Gam} {A : XA} {L : List Nat} {E : va_W} {s0 : (Nat → Bl)} {r9 : Int32} (hN : Γ.nL = 3) (C : Cx Γ cX0_pieces RX0 (3, 0, 0) 67) (hE : Rets Γ cX0_pieces (some .int) 0 0 (fun v w => v = some (.int r9) ∧ w = (XW Γ.d A L E s0))) (hL : xOK L) : ∀ (n : Nat) (s : Int32 × Int32), loop (g0_pieces_4 s0) n s = some r9 → (fun s : Int32 × Int32 => Go Γ 0 0 (XW Γ.d A L E s0) 4 [(0, .ref (A.1 0 0)), (1, .int s.1), (2, .int s.2)] []) s := by
  refine loop_walk (P := fun s : Int32 × Int32 => Go Γ 0 0 (XW Γ.d A L E s0) 4 [(0, .ref (A.1 0 0)), (1, .int s.1), (2, .int s.2)] []) ?_
  intro K4 hK4 s h
  obtain ⟨v1, v2⟩ := s
  dsimp only [g0_pieces_4] at h
  show Go Γ 0 0 (XW Γ.d A L E s0) 4 [(0, .ref (A.1 0 0)), (1, .int v1), (2, .int v2)] []
  refine go_iload_n (pc := 4) C dX0_pieces_4 rfl 2 rfl ?_
  refine go_aload_n (pc := 5) C dX0_pieces_5 rfl 0 rfl ?_
  obtain ⟨hz9, h⟩ := chk_some h
  refine X0g_0_0 (pc := 6) C hL (of_decide_eq_true hz9) dX0_pieces_6 ?_
  refine X0g_1_2 (pc := 9) C hL dX0_pieces_9 ?_
  refine go_icmp_ge (pc := 12) (tgt := 52) C dX0_pieces_12 (by decide) h (fun h => ?_) (fun h => ?_)
  · refine go_iload_n (pc := 52) C dX0_pieces_52 rfl 1 rfl ?_
    exact (hE 0 0 _ _ _ (Nat.zero_le _) (Nat.zero_le _)).1 _ rfl dX0_pieces_53 ⟨congrArg (fun z => some (Value.int z)) (some1 h), rfl⟩
  · refine go_iload_n (pc := 15) C dX0_pieces_15 rfl 1 rfl ?_
    refine go_aload_n (pc := 16) C dX0_pieces_16 rfl 0 rfl ?_
    refine go_iload_n (pc := 17) C dX0_pieces_17 rfl 2 rfl ?_
    obtain ⟨r1, e1, h⟩ := bnd_some h
    refine go_callVi (pc := 18) C [.int v2] (m0_isAfloat hL e1) q914 q916 qs31 q138 q917 x0pd_isAfloat (by decide) (by decide) (xO (hL.2 0 (by decide)) hL.1) xc0 rfl (Nat.le_of_ble_eq_true rfl) ⟨Nat.zero_le _, Nat.zero_le _⟩ dX0_pieces_18 rfl ?_
    refine go_if_eq (pc := 21) (tgt := 43) C dX0_pieces_21 (by decide) h (fun h => ?_) (fun h => ?_)
    · refine go_iconst (pc := 43) (v := (0 : Int32)) C dX0_pieces_43 (by decide) ?_
      refine go_iadd (pc := 44) C dX0_pieces_44 ?_
      refine go_istore_n (pc := 45) C hN dX0_pieces_45 rfl (by decide) rfl ?_
      refine go_iinc (pc := 46) (v := (v2 + (1 : Int32))) C hN dX0_pieces_46 (q := 2) rfl rfl (by decide) rfl ?_
      refine go_goto (pc := 49) (tgt := 4) C dX0_pieces_49 (by decide) ?_
      refine go_sub [2, 1, 0] rfl ?_
      exact hK4 ((v1 + (0 : Int32)), (v2 + (1 : Int32))) h
    · refine go_aload_n (pc := 24) C dX0_pieces_24 rfl 0 rfl ?_
      obtain ⟨hz9, h⟩ := chk_some h
      refine X0g_0_0 (pc := 25) C hL (of_decide_eq_true hz9) dX0_pieces_25 ?_
      refine go_iload_n (pc := 28) C dX0_pieces_28 rfl 2 rfl ?_
      obtain ⟨r2, e2, h⟩ := bnd_some h
      refine go_callVi (pc := 29) C [.int v2] (Mt.x0 (hL.2 1 (by decide)) hL.1 (m1_pieceOf e2)) q922 q923 q924 q139 q925 x1pd_pieceOf (by decide) (by decide) (xO (hL.2 1 (by decide)) hL.1) xc1 rfl (Nat.le_of_ble_eq_true rfl) ⟨Nat.zero_le _, Nat.zero_le _⟩ dX0_pieces_29 rfl ?_
      obtain ⟨r3, e3, h⟩ := bnd_some h
      refine go_callSi (pc := 32) C [.int r2] (mJ8_numberOfTrailingZeros e3) q1161 q1162 q162 q1163 j8pd_numberOfTrailingZeros (by decide) (by decide) rfl (Nat.le_of_ble_eq_true rfl) ⟨Nat.zero_le _, Nat.zero_le _⟩ dX0_pieces_32 rfl ?_
      refine go_iload_n (pc := 35) C dX0_pieces_35 rfl 2 rfl ?_
      refine go_icmp_ne (pc := 36) (tgt := 43) C dX0_pieces_36 (by decide) h (fun h => ?_) (fun h => ?_)
      · refine go_iconst (pc := 43) (v := (0 : Int32)) C dX0_pieces_43 (by decide) ?_
        refine go_iadd (pc := 44) C dX0_pieces_44 ?_
        refine go_istore_n (pc := 45) C hN dX0_pieces_45 rfl (by decide) rfl ?_
        refine go_iinc (pc := 46) (v := (v2 + (1 : Int32))) C hN dX0_pieces_46 (q := 2) rfl rfl (by decide) rfl ?_
        refine go_goto (pc := 49) (tgt := 4) C dX0_pieces_49 (by decide) ?_
        refine go_sub [2, 1, 0] rfl ?_
        exact hK4 ((v1 + (0 : Int32)), (v2 + (1 : Int32))) h
      · refine go_iconst (pc := 39) (v := (1 : Int32)) C dX0_pieces_39 (by decide) ?_
        refine go_goto (pc := 40) (tgt := 44) C dX0_pieces_40 (by decide) ?_
        refine go_iadd (pc := 44) C dX0_pieces_44 ?_
        refine go_istore_n (pc := 45) C hN dX0_pieces_45 rfl (by decide) rfl ?_
        refine go_iinc (pc := 46) (v := (v2 + (1 : Int32))) C hN dX0_pieces_46 (q := 2) rfl rfl (by decide) rfl ?_
        refine go_goto (pc := 49) (tgt := 4) C dX0_pieces_49 (by decide) ?_
        refine go_sub [2, 1, 0] rfl ?_
        exact hK4 ((v1 + (1 : Int32)), (v2 + (1 : Int32))) h
theorem m0_pieces {l : Launch} {d : gD} {A : XA} {L : List Nat} {E : va_W} {s0 : (Nat → Bl)} {r9 : Int32} (hL : xOK L) (h : f0_pieces s0 = some r9) : Mt l d yX0_pieces cX0_pieces 3 (some .int) (3, 0, 0) 67 (XW d A L E s0) [.ref (A.1 0 0)] (fun v w => v = some (.int r9) ∧ w = (XW d A L E s0)) := by
  refine Mt.of x0pn (Nat.le_of_ble_eq_true rfl) ?_
  intro Γ hl hd hN C hE
  subst hl; subst hd
  show Go Γ 0 0 (XW Γ.d A L E s0) 0 [(0, .ref (A.1 0 0))] []
  dsimp only [f0_pieces] at h
  refine go_iconst (pc := 0) (v := (0 : Int32)) C dX0_pieces_0 (by decide) ?_
  refine go_istore_n (pc := 1) C hN dX0_pieces_1 rfl (by decide) rfl ?_
  refine go_iconst (pc := 2) (v := (0 : Int32)) C dX0_pieces_2 (by decide) ?_
  refine go_istore_n (pc := 3) C hN dX0_pieces_3 rfl (by decide) rfl ?_
  refine go_sub [2, 1, 0] rfl ?_
  exact w0_pieces_4 hN C hE hL FU ((0 : Int32), (0 : Int32)) h
theorem m0_count {l : Launch} {d : gD} {A : XA} {L : List Nat} {E : va_W} {s0 : (Nat → Bl)} {v1 : Int32} {r9 : Int32} (hL : xOK L) (h : f0_count s0 v1 = some r9) : Mt l d yX0_count cX0_count 2 (some .int) (4, 0, 0) 89 (XW d A L E s0) [.ref (A.1 0 0), .int v1] (fun v w => v = some (.int r9) ∧ w = (XW d A L E s0)) := by
  refine Mt.of x0pn (Nat.le_of_ble_eq_true rfl) ?_
  intro Γ hl hd hN C hE
  subst hl; subst hd
  show Go Γ 0 0 (XW Γ.d A L E s0) 0 [(0, .ref (A.1 0 0)), (1, .int v1)] []
  dsimp only [f0_count] at h
  refine go_iload_n (pc := 0) C dX0_count_0 rfl 1 rfl ?_
  by_cases c1_6 : v1 = (6 : Int32)
  · have h := (if_pos c1_6).symm.trans h
    refine go_lookK (pc := 1) (tgt := 36) C c1_6 dX0_count_1 (by decide) rfl (by decide) ?_
    refine go_aload_n (pc := 36) C dX0_count_36 rfl 0 rfl ?_
    refine X0g_0_13 (pc := 37) C hL dX0_count_37 ?_
    exact (hE 0 0 _ _ _ (Nat.zero_le _) (Nat.zero_le _)).1 _ rfl dX0_count_40 ⟨congrArg (fun z => some (Value.int z)) (some1 h), rfl⟩
  have h := (if_neg c1_6).symm.trans h
  by_cases c1_12 : v1 = (12 : Int32)
  · have h := (if_pos c1_12).symm.trans h
    refine go_lookK (pc := 1) (tgt := 41) C c1_12 dX0_count_1 (by decide) rfl (by decide) ?_
    refine go_aload_n (pc := 41) C dX0_count_41 rfl 0 rfl ?_
    refine X0g_0_5 (pc := 42) C hL dX0_count_42 ?_
    exact (hE 0 0 _ _ _ (Nat.zero_le _) (Nat.zero_le _)).1 _ rfl dX0_count_45 ⟨congrArg (fun z => some (Value.int z)) (some1 h), rfl⟩
  have h := (if_neg c1_12).symm.trans h
  by_cases c1_13 : v1 = (13 : Int32)
  · have h := (if_pos c1_13).symm.trans h
    refine go_lookK (pc := 1) (tgt := 46) C c1_13 dX0_count_1 (by decide) rfl (by decide) ?_
    refine go_aload_n (pc := 46) C dX0_count_46 rfl 0 rfl ?_
    refine X0g_0_8 (pc := 47) C hL dX0_count_47 ?_
    exact (hE 0 0 _ _ _ (Nat.zero_le _) (Nat.zero_le _)).1 _ rfl dX0_count_50 ⟨congrArg (fun z => some (Value.int z)) (some1 h), rfl⟩
  have h := (if_neg c1_13).symm.trans h
  refine go_lookK (pc := 1) (tgt := 51) (off := 50) (z := v1) C rfl dX0_count_1 (by decide) ((lv_osw c1_6 rfl).trans ((lv_osw c1_12 rfl).trans ((lv_osw c1_13 rfl).trans rfl))) (by decide) ?_
  refine go_iload_n (pc := 51) C dX0_count_51 rfl 1 rfl ?_
  refine go_i2l (pc := 52) C dX0_count_52 ?_
  refine go_lconst (pc := 53) (v := (0 : Int64)) C dX0_count_53 (by decide) ?_
  refine go_ldc2 (pc := 54) C dX0_count_54 q1231 ?_
  obtain ⟨r4, e4, h⟩ := bnd_some h
  refine go_callSi (pc := 57) C [.long (v1).toInt64, .long (0 : Int64), .long (13 : Int64)] (m0_in e4) q939 q647 q138 q648 x0pd_in (by decide) (by decide) rfl (Nat.le_of_ble_eq_true rfl) ⟨Nat.zero_le _, Nat.zero_le _⟩ dX0_count_57 rfl ?_
  refine go_if_ne (pc := 60) (tgt := 65) C dX0_count_60 (by decide) h (fun h => ?_) (fun h => ?_)
  · refine go_aload_n (pc := 65) C dX0_count_65 rfl 0 rfl ?_
    by_cases c69n : (s0 0).1 0 = 0
    · have h := (if_pos c69n).symm.trans h
      refine X0g_0_0N (pc := 66) C hL c69n dX0_count_66 ?_
      refine go_ifnonnullN (pc := 69) C dX0_count_69 ?_
      refine go_iconst (pc := 72) (v := (0 : Int32)) C dX0_count_72 (by decide) ?_
      exact (hE 0 0 _ _ _ (Nat.zero_le _) (Nat.zero_le _)).1 _ rfl dX0_count_73 ⟨congrArg (fun z => some (Value.int z)) (some1 h), rfl⟩
    · have h := (if_neg c69n).symm.trans h
      refine X0g_0_0 (pc := 66) C hL c69n dX0_count_66 ?_
      refine go_ifnonnull (pc := 69) (tgt := 74) C dX0_count_69 (by decide) ?_
      refine go_iload_n (pc := 74) C dX0_count_74 rfl 1 rfl ?_
      by_cases c75_0 : v1 = (0 : Int32)
      · have h := (if_pos c75_0).symm.trans h
        refine go_tableK (pc := 75) (tgt := 132) C c75_0 dX0_count_75 (by decide) (by decide) rfl (by decide) ?_
        refine go_aload_n (pc := 132) C dX0_count_132 rfl 0 rfl ?_
        obtain ⟨hz9, h⟩ := chk_some h
        refine X0g_0_0 (pc := 133) C hL (of_decide_eq_true hz9) dX0_count_133 ?_
        refine X0g_1_0 (pc := 136) C hL dX0_count_136 ?_
        exact (hE 0 0 _ _ _ (Nat.zero_le _) (Nat.zero_le _)).1 _ rfl dX0_count_139 ⟨congrArg (fun z => some (Value.int z)) (some1 h), rfl⟩
      have h := (if_neg c75_0).symm.trans h
      by_cases c75_1 : v1 = (1 : Int32)
      · have h := (if_pos c75_1).symm.trans h
        refine go_tableK (pc := 75) (tgt := 140) C c75_1 dX0_count_75 (by decide) (by decide) rfl (by decide) ?_
        refine go_aload_n (pc := 140) C dX0_count_140 rfl 0 rfl ?_
        obtain ⟨hz9, h⟩ := chk_some h
        refine X0g_0_0 (pc := 141) C hL (of_decide_eq_true hz9) dX0_count_141 ?_
        refine X0g_1_4 (pc := 144) C hL dX0_count_144 ?_
        exact (hE 0 0 _ _ _ (Nat.zero_le _) (Nat.zero_le _)).1 _ rfl dX0_count_147 ⟨congrArg (fun z => some (Value.int z)) (some1 h), rfl⟩
      have h := (if_neg c75_1).symm.trans h
      by_cases c75_2 : v1 = (2 : Int32)
      · have h := (if_pos c75_2).symm.trans h
        refine go_tableK (pc := 75) (tgt := 148) C c75_2 dX0_count_75 (by decide) (by decide) rfl (by decide) ?_
        refine go_aload_n (pc := 148) C dX0_count_148 rfl 0 rfl ?_
        obtain ⟨hz9, h⟩ := chk_some h
        refine X0g_0_0 (pc := 149) C hL (of_decide_eq_true hz9) dX0_count_149 ?_
        refine X0g_1_1 (pc := 152) C hL dX0_count_152 ?_
        exact (hE 0 0 _ _ _ (Nat.zero_le _) (Nat.zero_le _)).1 _ rfl dX0_count_155 ⟨congrArg (fun z => some (Value.int z)) (some1 h), rfl⟩
      have h := (if_neg c75_2).symm.trans h
      by_cases c75_3 : v1 = (3 : Int32)
      · have h := (if_pos c75_3).symm.trans h
        refine go_tableK (pc := 75) (tgt := 156) C c75_3 dX0_count_75 (by decide) (by decide) rfl (by decide) ?_
        refine go_aload_n (pc := 156) C dX0_count_156 rfl 0 rfl ?_
        obtain ⟨hz9, h⟩ := chk_some h
        refine X0g_0_0 (pc := 157) C hL (of_decide_eq_true hz9) dX0_count_157 ?_
        refine X0g_1_2 (pc := 160) C hL dX0_count_160 ?_
        exact (hE 0 0 _ _ _ (Nat.zero_le _) (Nat.zero_le _)).1 _ rfl dX0_count_163 ⟨congrArg (fun z => some (Value.int z)) (some1 h), rfl⟩
      have h := (if_neg c75_3).symm.trans h
      by_cases c75_4 : v1 = (4 : Int32)
      · have h := (if_pos c75_4).symm.trans h
        refine go_tableK (pc := 75) (tgt := 164) C c75_4 dX0_count_75 (by decide) (by decide) rfl (by decide) ?_
        refine go_aload_n (pc := 164) C dX0_count_164 rfl 0 rfl ?_
        obtain ⟨hz9, h⟩ := chk_some h
        refine X0g_0_0 (pc := 165) C hL (of_decide_eq_true hz9) dX0_count_165 ?_
        refine X0g_1_5 (pc := 168) C hL dX0_count_168 ?_
        exact (hE 0 0 _ _ _ (Nat.zero_le _) (Nat.zero_le _)).1 _ rfl dX0_count_171 ⟨congrArg (fun z => some (Value.int z)) (some1 h), rfl⟩
      have h := (if_neg c75_4).symm.trans h
      by_cases c75_5 : v1 = (5 : Int32)
      · have h := (if_pos c75_5).symm.trans h
        refine go_tableK (pc := 75) (tgt := 172) C c75_5 dX0_count_75 (by decide) (by decide) rfl (by decide) ?_
        refine go_aload_n (pc := 172) C dX0_count_172 rfl 0 rfl ?_
        obtain ⟨hz9, h⟩ := chk_some h
        refine X0g_0_0 (pc := 173) C hL (of_decide_eq_true hz9) dX0_count_173 ?_
        refine X0g_1_3 (pc := 176) C hL dX0_count_176 ?_
        exact (hE 0 0 _ _ _ (Nat.zero_le _) (Nat.zero_le _)).1 _ rfl dX0_count_179 ⟨congrArg (fun z => some (Value.int z)) (some1 h), rfl⟩
      have h := (if_neg c75_5).symm.trans h
      by_cases c75_7 : v1 = (7 : Int32)
      · have h := (if_pos c75_7).symm.trans h
        refine go_tableK (pc := 75) (tgt := 180) C c75_7 dX0_count_75 (by decide) (by decide) rfl (by decide) ?_
        refine go_aload_n (pc := 180) C dX0_count_180 rfl 0 rfl ?_
        obtain ⟨hz9, h⟩ := chk_some h
        refine X0g_0_0 (pc := 181) C hL (of_decide_eq_true hz9) dX0_count_181 ?_
        refine X0g_1_6 (pc := 184) C hL dX0_count_184 ?_
        exact (hE 0 0 _ _ _ (Nat.zero_le _) (Nat.zero_le _)).1 _ rfl dX0_count_187 ⟨congrArg (fun z => some (Value.int z)) (some1 h), rfl⟩
      have h := (if_neg c75_7).symm.trans h
      by_cases c75_8 : v1 = (8 : Int32)
      · have h := (if_pos c75_8).symm.trans h
        refine go_tableK (pc := 75) (tgt := 188) C c75_8 dX0_count_75 (by decide) (by decide) rfl (by decide) ?_
        refine go_aload_n (pc := 188) C dX0_count_188 rfl 0 rfl ?_
        obtain ⟨r13, e13, h⟩ := bnd_some h
        refine go_callVi (pc := 189) C [] (m0_pieces hL e13) q1232 q1234 qs53 q138 q1235 x0pd_pieces (by decide) (by decide) (xO (hL.2 0 (by decide)) hL.1) xc0 rfl (Nat.le_of_ble_eq_true rfl) ⟨Nat.zero_le _, Nat.zero_le _⟩ dX0_count_189 rfl ?_
        exact (hE 0 0 _ _ _ (Nat.zero_le _) (Nat.zero_le _)).1 _ rfl dX0_count_192 ⟨congrArg (fun z => some (Value.int z)) (some1 h), rfl⟩
      have h := (if_neg c75_8).symm.trans h
      by_cases c75_9 : v1 = (9 : Int32)
      · have h := (if_pos c75_9).symm.trans h
        refine go_tableK (pc := 75) (tgt := 193) C c75_9 dX0_count_75 (by decide) (by decide) rfl (by decide) ?_
        refine go_aload_n (pc := 193) C dX0_count_193 rfl 0 rfl ?_
        obtain ⟨hz9, h⟩ := chk_some h
        refine X0g_0_0 (pc := 194) C hL (of_decide_eq_true hz9) dX0_count_194 ?_
        obtain ⟨r14, e14, h⟩ := bnd_some h
        refine go_callVi (pc := 197) C [] (Mt.x0 (hL.2 1 (by decide)) hL.1 (m1_afloat e14)) q1057 q1058 q1059 q139 q1060 x1pd_afloat (by decide) (by decide) (xO (hL.2 1 (by decide)) hL.1) xc1 rfl (Nat.le_of_ble_eq_true rfl) ⟨Nat.zero_le _, Nat.zero_le _⟩ dX0_count_197 rfl ?_
        exact (hE 0 0 _ _ _ (Nat.zero_le _) (Nat.zero_le _)).1 _ rfl dX0_count_200 ⟨congrArg (fun z => some (Value.int z)) (some1 h), rfl⟩
      have h := (if_neg c75_9).symm.trans h
      by_cases c75_10 : v1 = (10 : Int32)
      · have h := (if_pos c75_10).symm.trans h
        refine go_tableK (pc := 75) (tgt := 201) C c75_10 dX0_count_75 (by decide) (by decide) rfl (by decide) ?_
        refine go_aload_n (pc := 201) C dX0_count_201 rfl 0 rfl ?_
        obtain ⟨hz9, h⟩ := chk_some h
        refine X0g_0_0 (pc := 202) C hL (of_decide_eq_true hz9) dX0_count_202 ?_
        refine X0g_1_8 (pc := 205) C hL dX0_count_205 ?_
        exact (hE 0 0 _ _ _ (Nat.zero_le _) (Nat.zero_le _)).1 _ rfl dX0_count_208 ⟨congrArg (fun z => some (Value.int z)) (some1 h), rfl⟩
      have h := (if_neg c75_10).symm.trans h
      refine go_tableD (pc := 75) (tgt := 209) C [(0 : Int32), (1 : Int32), (2 : Int32), (3 : Int32), (4 : Int32), (5 : Int32), (7 : Int32), (8 : Int32), (9 : Int32), (10 : Int32)] (List.forall_mem_cons.mpr ⟨c75_0, List.forall_mem_cons.mpr ⟨c75_1, List.forall_mem_cons.mpr ⟨c75_2, List.forall_mem_cons.mpr ⟨c75_3, List.forall_mem_cons.mpr ⟨c75_4, List.forall_mem_cons.mpr ⟨c75_5, List.forall_mem_cons.mpr ⟨c75_7, List.forall_mem_cons.mpr ⟨c75_8, List.forall_mem_cons.mpr ⟨c75_9, List.forall_mem_cons.mpr ⟨c75_10, fun _ h9 => absurd h9 List.not_mem_nil⟩⟩⟩⟩⟩⟩⟩⟩⟩⟩) dX0_count_75 (by decide) (by decide +kernel) (by decide) (by decide) (by decide) ?_
      refine go_aload_n (pc := 209) C dX0_count_209 rfl 0 rfl ?_
      obtain ⟨hz9, h⟩ := chk_some h
      refine X0g_0_0 (pc := 210) C hL (of_decide_eq_true hz9) dX0_count_210 ?_
      refine X0g_1_7 (pc := 213) C hL dX0_count_213 ?_
      exact (hE 0 0 _ _ _ (Nat.zero_le _) (Nat.zero_le _)).1 _ rfl dX0_count_216 ⟨congrArg (fun z => some (Value.int z)) (some1 h), rfl⟩
  · refine go_iconst (pc := 63) (v := (-1 : Int32)) C dX0_count_63 (by decide) ?_
    exact (hE 0 0 _ _ _ (Nat.zero_le _) (Nat.zero_le _)).1 _ rfl dX0_count_64 ⟨congrArg (fun z => some (Value.int z)) (some1 h), rfl⟩
