/-! tiesBy, run: by a rule; printed by gen/raft.py -/
theorem go_rules {Γ : Gam} {cc : ByteArray} {own : String} {fr : Nat × Nat × Nat} {lo k n pc : Nat} {A : XA} {L : List Nat} {E : va_W} {x : Nat → Bl} {lv : List (Nat × Value)} {st : List Value} (C : Cx Γ cc own fr lo) (hL : xOK L) {i : Int32} (hi : inB i 6 = true) (hz : ¬ (x 0).2.1 12 i.toNatClampNeg = 0) (hd : decode cc pc = .ok (.aaload, 1)) (kk : Go Γ k n (XW Γ.d A L E x) (pc + 1) lv (.ref (A.2.2 i.toNatClampNeg) :: st)) : Go Γ k n (XW Γ.d A L E x) pc lv (.int i :: .ref (A.1 0 (12 + 1)) :: st) := by
  refine go_aaldK (t := 6) C (xa_0_12 hL) rfl hi hd ?_
  have e : xrq Γ.d A 0 12 i.toNatClampNeg ((x 0).2.1 12 i.toNatClampNeg) = some (A.2.2 i.toNatClampNeg) := if_neg hz
  rw [e]
  exact kk
set_option maxRecDepth 100000
set_option maxHeartbeats 4000000
def g0_tiesBy_26 (cs : List Cls) (v2 : Int32) (v6 : Int32) (K8 : (Nat → Bl) × Int32 × Int64 × Int32 → Option (Nat → Bl)) : ((Nat → Bl) × Int32 × Int64 × Int32 → Option (Nat → Bl)) → (Nat → Bl) × Int32 × Int64 × Int32 → Option (Nat → Bl) := fun K26 s => match s with
  | (s0, v3, v4, v7) =>
    (chk (decide (¬ (s0 0).1 0 = 0)) (if ((s0 1).1 2) ≤ v7 then
 (K8 (s0, v3, v4, (v6 + (1 : Int32))))
 else
 (bnd (f0_isAfloat s0 v6) (fun r2 =>
 (if r2 = 0 then
 (K26 (s0, v3, v4, (v7 + (1 : Int32))))
 else
 (bnd (f0_isAfloat s0 v7) (fun r3 =>
 (if r3 = 0 then
 (K26 (s0, v3, v4, (v7 + (1 : Int32))))
 else
 (chk (decide (¬ (s0 0).1 0 = 0)) (bnd (f1_ropeOf (s0 1) v6 v7) (fun r4 =>
 (if r4 = (-1 : Int32) then
 (bnd (f0_wordsOf s0 v6 v7) (fun s5 =>
 (if 0 < (lg_cmp (sumV ((s5 0).2.2 14) cs) v4) then
 (K26 (s5, (((8 : Int32) * v6) + v7), (sumV ((s5 0).2.2 14) cs), (v7 + (1 : Int32))))
 else
 (K26 (s5, v3, v4, (v7 + (1 : Int32)))))))
 else
 (K26 (s0, v3, v4, (v7 + (1 : Int32))))))))))))))))
def g0_tiesBy_8 (cs : List Cls) (v2 : Int32) : ((Nat → Bl) × Int32 × Int64 × Int32 → Option (Nat → Bl)) → (Nat → Bl) × Int32 × Int64 × Int32 → Option (Nat → Bl) := fun K8 s => match s with
  | (s0, v3, v4, v6) =>
    (chk (decide (¬ (s0 0).1 0 = 0)) (if ((s0 1).1 2) ≤ v6 then
 (if v3 = (-1 : Int32) then
 (some s0)
 else
 (chk (decide (¬ (s0 0).1 0 = 0)) (bnd (f1_binds (s0 1) (v3 / (8 : Int32)) (v3 - v3 / (8 : Int32) * (8 : Int32)) v2) (fun s1 =>
 (chk (decide (¬ ((upX s0 1 s1) 0).1 0 = 0)) (some (upX (upX s0 1 s1) 1 (bI ((upX s0 1 s1) 1) 4 ((((upX s0 1 s1) 1).1 4) - v2)))))))))
 else
 (loop (g0_tiesBy_26 cs v2 v6 K8) FU (s0, v3, v4, (v6 + (1 : Int32))))))
def f0_tiesBy (s0 : (Nat → Bl)) (cs : List Cls) (v2 : Int32) : Option (Nat → Bl) :=
    (loop (g0_tiesBy_8 cs v2) FU (s0, (-1 : Int32), (0 : Int64), (0 : Int32)))
def g0_run_108 (nR : Nat) (R : Nat → List Cls) (K68 : (Nat → Bl) × Int32 × Int32 → Option (Int32 × (Nat → Bl))) (s0 : (Nat → Bl)) (v1 : Int32) (v2 : Int32) (v3 : Int32) (v4 : Int32) (v5 : Int32) : Option (Int32 × (Nat → Bl)) :=
    (chk (decide (¬ (s0 0).1 0 = 0)) (bnd2 (f1_goesOn (s0 1)) (fun r4 s4 =>
 (K68 ((upX s0 1 s4), (v4 + r4), (v5 + (1 : Int32)))))))
def g0_run_68 (nR : Nat) (R : Nat → List Cls) (v1 : Int32) (v2 : Int32) (v3 : Int32) : ((Nat → Bl) × Int32 × Int32 → Option (Int32 × (Nat → Bl))) → (Nat → Bl) × Int32 × Int32 → Option (Int32 × (Nat → Bl)) := fun K68 s => match s with
  | (s0, v4, v5) =>
    (if v2 ≤ v5 then
 (some (v4, s0))
 else
 (chk (decide (¬ (s0 0).1 0 = 0)) (if ((s0 1).1 4) < v3 then
 (g0_run_108 nR R K68 s0 v1 v2 v3 v4 v5)
 else
 (chk (decide (¬ (s0 0).1 0 = 0)) (if (12 : Int32) ≤ ((s0 1).1 5) then
 (g0_run_108 nR R K68 s0 v1 v2 v3 v4 v5)
 else
 (chk (inB v1 6 && (decide (¬ (s0 0).2.1 12 (v1).toNatClampNeg = 0) && decide ((v1).toNatClampNeg < nR))) (bnd (f0_tiesBy s0 (R (v1).toNatClampNeg) v3) (fun s6 =>
 (g0_run_108 nR R K68 s6 v1 v2 v3 v4 v5)))))))))
def f0_run (s0 : (Nat → Bl)) (nR : Nat) (R : Nat → List Cls) (v1 : Int32) (v2 : Int32) (v3 : Int32) : Option (Int32 × (Nat → Bl)) :=
    (if (s0 0).1 0 = 0 then
 (some ((-1 : Int32), s0))
 else
 (bnd (f0_isRule s0 v1) (fun r1 =>
 (if r1 = 0 then
 (some ((-1 : Int32), s0))
 else
 (chk (decide (¬ (s0 0).1 0 = 0)) (chk (decide (¬ (s0 0).1 0 = 0)) (bnd (f0_in (v2).toInt64 (1 : Int64) ((((s0 1).1 0) - ((s0 1).1 6))).toInt64) (fun r2 =>
 (if r2 = 0 then
 (some ((-1 : Int32), s0))
 else
 (bnd (f0_in (v3).toInt64 (1 : Int64) (9 : Int64)) (fun r3 =>
 (if r3 = 0 then
 (some ((-1 : Int32), s0))
 else
 (chk (decide (¬ (s0 0).1 0 = 0)) (loop (g0_run_68 nR R v1 v2 v3) FU ((upX s0 1 (bI (s0 1) 7 (0 : Int32))), (0 : Int32), (0 : Int32))))))))))))))))
theorem w0_tiesBy_26 {Γ : Gam} {A : XA} {L : List Nat} {E : va_W} {ra : Nat} {cs : List Cls} {v2 : Int32} {v6 : Int32} {s9 : (Nat → Bl)} {K8 : (Nat → Bl) × Int32 × Int64 × Int32 → Option (Nat → Bl)} (hN : Γ.nL = 10) (C : Cx Γ cX0_tiesBy RX0 (203, 0, 0) 8110) (hE : Rets Γ cX0_tiesBy none 0 0 (fun v w => v = none ∧ w = (XW Γ.d A L E s9))) (hL : xOK L) (hr : rAt E Γ.d 200 ra cs)
    (hK8 : ∀ s, K8 s = some s9 → (fun s : (Nat → Bl) × Int32 × Int64 × Int32 => Go Γ 0 0 (XW Γ.d A L E s.1) 8 [(0, .ref (A.1 0 0)), (1, .ref ra), (2, .int v2), (3, .int s.2.1), (4, .long s.2.2.1), (6, .int s.2.2.2)] []) s) : ∀ (n : Nat) (s : (Nat → Bl) × Int32 × Int64 × Int32), loop (g0_tiesBy_26 cs v2 v6 K8) n s = some s9 → (fun s : (Nat → Bl) × Int32 × Int64 × Int32 => Go Γ 0 0 (XW Γ.d A L E s.1) 26 [(0, .ref (A.1 0 0)), (1, .ref ra), (2, .int v2), (3, .int s.2.1), (4, .long s.2.2.1), (6, .int v6), (7, .int s.2.2.2)] []) s := by
  refine loop_walk (P := fun s : (Nat → Bl) × Int32 × Int64 × Int32 => Go Γ 0 0 (XW Γ.d A L E s.1) 26 [(0, .ref (A.1 0 0)), (1, .ref ra), (2, .int v2), (3, .int s.2.1), (4, .long s.2.2.1), (6, .int v6), (7, .int s.2.2.2)] []) ?_
  intro K26 hK26 s h
  obtain ⟨s0, v3, v4, v7⟩ := s
  dsimp only [g0_tiesBy_26] at h
  show Go Γ 0 0 (XW Γ.d A L E s0) 26 [(0, .ref (A.1 0 0)), (1, .ref ra), (2, .int v2), (3, .int v3), (4, .long v4), (6, .int v6), (7, .int v7)] []
  refine go_iload (pc := 26) C dX0_tiesBy_26 6 rfl ?_
  refine go_aload_n (pc := 28) C dX0_tiesBy_28 rfl 0 rfl ?_
  obtain ⟨hz9, h⟩ := chk_some h
  refine X0g_0_0 (pc := 29) C hL (of_decide_eq_true hz9) dX0_tiesBy_29 ?_
  refine X0g_1_2 (pc := 32) C hL dX0_tiesBy_32 ?_
  refine go_icmp_ge (pc := 35) (tgt := 118) C dX0_tiesBy_35 (by decide) h (fun h => ?_) (fun h => ?_)
  · refine go_iinc (pc := 118) (v := (v6 + (1 : Int32))) C hN dX0_tiesBy_118 (q := 5) rfl rfl (by decide) rfl ?_
    refine go_goto (pc := 121) (tgt := 8) C dX0_tiesBy_121 (by decide) ?_
    refine go_sub [1, 2, 3, 4, 5, 0] rfl ?_
    exact hK8 (s0, v3, v4, (v6 + (1 : Int32))) h
  · refine go_aload_n (pc := 38) C dX0_tiesBy_38 rfl 0 rfl ?_
    refine go_iload (pc := 39) C dX0_tiesBy_39 5 rfl ?_
    obtain ⟨r2, e2, h⟩ := bnd_some h
    refine go_callVi (pc := 41) C [.int v6] (m0_isAfloat hL e2) q914 q916 qs31 q138 q917 x0pd_isAfloat (by decide) (by decide) (xO (hL.2 0 (by decide)) hL.1) xc0 rfl (Nat.le_of_ble_eq_true rfl) ⟨Nat.zero_le _, Nat.zero_le _⟩ dX0_tiesBy_41 rfl ?_
    refine go_if_eq (pc := 44) (tgt := 112) C dX0_tiesBy_44 (by decide) h (fun h => ?_) (fun h => ?_)
    · refine go_iinc (pc := 112) (v := (v7 + (1 : Int32))) C hN dX0_tiesBy_112 (q := 6) rfl rfl (by decide) rfl ?_
      refine go_goto (pc := 115) (tgt := 26) C dX0_tiesBy_115 (by decide) ?_
      refine go_sub [1, 2, 3, 4, 5, 6, 0] rfl ?_
      exact hK26 (s0, v3, v4, (v7 + (1 : Int32))) h
    · refine go_aload_n (pc := 47) C dX0_tiesBy_47 rfl 0 rfl ?_
      refine go_iload (pc := 48) C dX0_tiesBy_48 6 rfl ?_
      obtain ⟨r3, e3, h⟩ := bnd_some h
      refine go_callVi (pc := 50) C [.int v7] (m0_isAfloat hL e3) q914 q916 qs31 q138 q917 x0pd_isAfloat (by decide) (by decide) (xO (hL.2 0 (by decide)) hL.1) xc0 rfl (Nat.le_of_ble_eq_true rfl) ⟨Nat.zero_le _, Nat.zero_le _⟩ dX0_tiesBy_50 rfl ?_
      refine go_if_eq (pc := 53) (tgt := 112) C dX0_tiesBy_53 (by decide) h (fun h => ?_) (fun h => ?_)
      · refine go_iinc (pc := 112) (v := (v7 + (1 : Int32))) C hN dX0_tiesBy_112 (q := 6) rfl rfl (by decide) rfl ?_
        refine go_goto (pc := 115) (tgt := 26) C dX0_tiesBy_115 (by decide) ?_
        refine go_sub [1, 2, 3, 4, 5, 6, 0] rfl ?_
        exact hK26 (s0, v3, v4, (v7 + (1 : Int32))) h
      · refine go_aload_n (pc := 56) C dX0_tiesBy_56 rfl 0 rfl ?_
        obtain ⟨hz9, h⟩ := chk_some h
        refine X0g_0_0 (pc := 57) C hL (of_decide_eq_true hz9) dX0_tiesBy_57 ?_
        refine go_iload (pc := 60) C dX0_tiesBy_60 5 rfl ?_
        refine go_iload (pc := 62) C dX0_tiesBy_62 6 rfl ?_
        obtain ⟨r4, e4, h⟩ := bnd_some h
        refine go_callVi (pc := 64) C [.int v6, .int v7] (Mt.x0 (hL.2 1 (by decide)) hL.1 (m1_ropeOf e4)) q1018 q662 q663 q139 q664 x1pd_ropeOf (by decide) (by decide) (xO (hL.2 1 (by decide)) hL.1) xc1 rfl (Nat.le_of_ble_eq_true rfl) ⟨Nat.zero_le _, Nat.zero_le _⟩ dX0_tiesBy_64 rfl ?_
        refine go_iconst (pc := 67) (v := (-1 : Int32)) C dX0_tiesBy_67 (by decide) ?_
        refine go_icmp_eq (pc := 68) (tgt := 74) C dX0_tiesBy_68 (by decide) h (fun h => ?_) (fun h => ?_)
        · refine go_aload_n (pc := 74) C dX0_tiesBy_74 rfl 1 rfl ?_
          refine go_aload_n (pc := 75) C dX0_tiesBy_75 rfl 0 rfl ?_
          refine go_iload (pc := 76) C dX0_tiesBy_76 5 rfl ?_
          refine go_iload (pc := 78) C dX0_tiesBy_78 6 rfl ?_
          obtain ⟨s5, e5, h⟩ := bnd_some h
          refine go_callVa (pc := 80) C [.int v6, .int v7] (m0_wordsOf hL e5) q1047 q1049 qs39 q138 q1050 x0pd_wordsOf (by decide) (by decide) (xO (hL.2 0 (by decide)) hL.1) xc0 rfl (Nat.le_of_ble_eq_true rfl) ⟨Nat.zero_le _, Nat.zero_le _⟩ dX0_tiesBy_80 rfl ?_
          refine go_callVl (pc := 83) C [.ref (A.1 0 15)] (m5_sumFor (hr.mono (fun _ _ _ h => h.appR) (fun _ _ h => h.appR)) (xa_0_14 hL)) q1061 q1062 q1063 q152 q1064 x5pd_sumFor (by decide) (by decide) (hr.choose_spec.choose_spec.1.appR) rfl rfl (Nat.le_of_ble_eq_true rfl) ⟨Nat.zero_le _, Nat.zero_le _⟩ dX0_tiesBy_83 rfl ?_
          refine go_lstore (pc := 86) C hN dX0_tiesBy_86 (by decide) rfl ?_
          refine go_lload (pc := 88) C dX0_tiesBy_88 0 rfl ?_
          refine go_lload (pc := 90) C dX0_tiesBy_90 5 rfl ?_
          refine go_lcmp (pc := 92) C dX0_tiesBy_92 ?_
          refine go_if_gt (pc := 93) (tgt := 99) C dX0_tiesBy_93 (by decide) h (fun h => ?_) (fun h => ?_)
          · refine go_bipush (pc := 99) (v := (8 : Int32)) C dX0_tiesBy_99 (by decide) ?_
            refine go_iload (pc := 101) C dX0_tiesBy_101 6 rfl ?_
            refine go_imul (pc := 103) C dX0_tiesBy_103 ?_
            refine go_iload (pc := 104) C dX0_tiesBy_104 7 rfl ?_
            refine go_iadd (pc := 106) C dX0_tiesBy_106 ?_
            refine go_istore_n (pc := 107) C hN dX0_tiesBy_107 rfl (by decide) rfl ?_
            refine go_lload (pc := 108) C dX0_tiesBy_108 1 rfl ?_
            refine go_lstore (pc := 110) C hN dX0_tiesBy_110 (by decide) rfl ?_
            refine go_iinc (pc := 112) (v := (v7 + (1 : Int32))) C hN dX0_tiesBy_112 (q := 7) rfl rfl (by decide) rfl ?_
            refine go_goto (pc := 115) (tgt := 26) C dX0_tiesBy_115 (by decide) ?_
            refine go_sub [4, 5, 6, 2, 1, 7, 0] rfl ?_
            exact hK26 (s5, (((8 : Int32) * v6) + v7), (sumV ((s5 0).2.2 14) cs), (v7 + (1 : Int32))) h
          · refine go_goto (pc := 96) (tgt := 112) C dX0_tiesBy_96 (by decide) ?_
            refine go_iinc (pc := 112) (v := (v7 + (1 : Int32))) C hN dX0_tiesBy_112 (q := 7) rfl rfl (by decide) rfl ?_
            refine go_goto (pc := 115) (tgt := 26) C dX0_tiesBy_115 (by decide) ?_
            refine go_sub [2, 3, 4, 5, 6, 7, 0] rfl ?_
            exact hK26 (s5, v3, v4, (v7 + (1 : Int32))) h
        · refine go_goto (pc := 71) (tgt := 112) C dX0_tiesBy_71 (by decide) ?_
          refine go_iinc (pc := 112) (v := (v7 + (1 : Int32))) C hN dX0_tiesBy_112 (q := 6) rfl rfl (by decide) rfl ?_
          refine go_goto (pc := 115) (tgt := 26) C dX0_tiesBy_115 (by decide) ?_
          refine go_sub [1, 2, 3, 4, 5, 6, 0] rfl ?_
          exact hK26 (s0, v3, v4, (v7 + (1 : Int32))) h
theorem w0_tiesBy_8 {Γ : Gam} {A : XA} {L : List Nat} {E : va_W} {ra : Nat} {cs : List Cls} {v2 : Int32} {s9 : (Nat → Bl)} (hN : Γ.nL = 10) (C : Cx Γ cX0_tiesBy RX0 (203, 0, 0) 8110) (hE : Rets Γ cX0_tiesBy none 0 0 (fun v w => v = none ∧ w = (XW Γ.d A L E s9))) (hL : xOK L) (hr : rAt E Γ.d 200 ra cs) : ∀ (n : Nat) (s : (Nat → Bl) × Int32 × Int64 × Int32), loop (g0_tiesBy_8 cs v2) n s = some s9 → (fun s : (Nat → Bl) × Int32 × Int64 × Int32 => Go Γ 0 0 (XW Γ.d A L E s.1) 8 [(0, .ref (A.1 0 0)), (1, .ref ra), (2, .int v2), (3, .int s.2.1), (4, .long s.2.2.1), (6, .int s.2.2.2)] []) s := by
  refine loop_walk (P := fun s : (Nat → Bl) × Int32 × Int64 × Int32 => Go Γ 0 0 (XW Γ.d A L E s.1) 8 [(0, .ref (A.1 0 0)), (1, .ref ra), (2, .int v2), (3, .int s.2.1), (4, .long s.2.2.1), (6, .int s.2.2.2)] []) ?_
  intro K8 hK8 s h
  obtain ⟨s0, v3, v4, v6⟩ := s
  dsimp only [g0_tiesBy_8] at h
  show Go Γ 0 0 (XW Γ.d A L E s0) 8 [(0, .ref (A.1 0 0)), (1, .ref ra), (2, .int v2), (3, .int v3), (4, .long v4), (6, .int v6)] []
  refine go_iload (pc := 8) C dX0_tiesBy_8 5 rfl ?_
  refine go_aload_n (pc := 10) C dX0_tiesBy_10 rfl 0 rfl ?_
  obtain ⟨hz9, h⟩ := chk_some h
  refine X0g_0_0 (pc := 11) C hL (of_decide_eq_true hz9) dX0_tiesBy_11 ?_
  refine X0g_1_2 (pc := 14) C hL dX0_tiesBy_14 ?_
  refine go_icmp_ge (pc := 17) (tgt := 124) C dX0_tiesBy_17 (by decide) h (fun h => ?_) (fun h => ?_)
  · refine go_iload_n (pc := 124) C dX0_tiesBy_124 rfl 3 rfl ?_
    refine go_iconst (pc := 125) (v := (-1 : Int32)) C dX0_tiesBy_125 (by decide) ?_
    refine go_icmp_ne (pc := 126) (tgt := 130) C dX0_tiesBy_126 (by decide) h (fun h => ?_) (fun h => ?_)
    · refine go_aload_n (pc := 130) C dX0_tiesBy_130 rfl 0 rfl ?_
      obtain ⟨hz9, h⟩ := chk_some h
      refine X0g_0_0 (pc := 131) C hL (of_decide_eq_true hz9) dX0_tiesBy_131 ?_
      refine go_iload_n (pc := 134) C dX0_tiesBy_134 rfl 3 rfl ?_
      refine go_bipush (pc := 135) (v := (8 : Int32)) C dX0_tiesBy_135 (by decide) ?_
      refine go_idiv (pc := 137) C dX0_tiesBy_137 (by decide) ?_
      refine go_iload_n (pc := 138) C dX0_tiesBy_138 rfl 3 rfl ?_
      refine go_bipush (pc := 139) (v := (8 : Int32)) C dX0_tiesBy_139 (by decide) ?_
      refine go_irem (pc := 141) C dX0_tiesBy_141 (by decide) ?_
      refine go_iload_n (pc := 142) C dX0_tiesBy_142 rfl 2 rfl ?_
      obtain ⟨s1, e1, h⟩ := bnd_some h
      refine go_callVv (pc := 143) C [.int (v3 / (8 : Int32)), .int (v3 - v3 / (8 : Int32) * (8 : Int32)), .int v2] (Mt.x1 (hL.2 1 (by decide)) hL.1 (m1_binds e1)) q1019 q672 q673 q139 q674 x1pd_binds (by decide) (by decide) (xO (hL.2 1 (by decide)) hL.1) xc1 rfl (Nat.le_of_ble_eq_true rfl) ⟨Nat.zero_le _, Nat.zero_le _⟩ dX0_tiesBy_143 rfl ?_
      refine go_aload_n (pc := 146) C dX0_tiesBy_146 rfl 0 rfl ?_
      obtain ⟨hz9, h⟩ := chk_some h
      refine X0g_0_0 (pc := 147) C hL (of_decide_eq_true hz9) dX0_tiesBy_147 ?_
      refine go_dup (pc := 150) C dX0_tiesBy_150 rfl ?_
      refine X0g_1_4 (pc := 151) C hL dX0_tiesBy_151 ?_
      refine go_iload_n (pc := 154) C dX0_tiesBy_154 rfl 2 rfl ?_
      refine go_isub (pc := 155) C dX0_tiesBy_155 ?_
      refine X0p_1_4 (pc := 156) C hL dX0_tiesBy_156 ?_
      exact (hE 0 0 _ _ _ (Nat.zero_le _) (Nat.zero_le _)).2.2.2.1 rfl dX0_tiesBy_159 ⟨rfl, congrArg (fun z => (XW Γ.d A L E z)) (some1 h)⟩
    · exact (hE 0 0 _ _ _ (Nat.zero_le _) (Nat.zero_le _)).2.2.2.1 rfl dX0_tiesBy_129 ⟨rfl, congrArg (fun z => (XW Γ.d A L E z)) (some1 h)⟩
  · refine go_iload (pc := 20) C dX0_tiesBy_20 5 rfl ?_
    refine go_iconst (pc := 22) (v := (1 : Int32)) C dX0_tiesBy_22 (by decide) ?_
    refine go_iadd (pc := 23) C dX0_tiesBy_23 ?_
    refine go_istore (pc := 24) C hN dX0_tiesBy_24 (by decide) rfl ?_
    refine go_sub [1, 2, 3, 4, 5, 6, 0] rfl ?_
    exact w0_tiesBy_26 hN C hE hL hr hK8 FU (s0, v3, v4, (v6 + (1 : Int32))) h
theorem m0_tiesBy {l : Launch} {d : gD} {A : XA} {L : List Nat} {E : va_W} {ra : Nat} {s0 : (Nat → Bl)} {cs : List Cls} {v2 : Int32} {s9 : (Nat → Bl)} (hL : xOK L) (hr : rAt E d 200 ra cs) (h : f0_tiesBy s0 cs v2 = some s9) : Mt l d yX0_tiesBy cX0_tiesBy 10 none (203, 0, 0) 8110 (XW d A L E s0) [.ref (A.1 0 0), .ref ra, .int v2] (fun v w => v = none ∧ w = (XW d A L E s9)) := by
  refine Mt.of x0pn (Nat.le_of_ble_eq_true rfl) ?_
  intro Γ hl hd hN C hE
  subst hl; subst hd
  show Go Γ 0 0 (XW Γ.d A L E s0) 0 [(0, .ref (A.1 0 0)), (1, .ref ra), (2, .int v2)] []
  dsimp only [f0_tiesBy] at h
  refine go_iconst (pc := 0) (v := (-1 : Int32)) C dX0_tiesBy_0 (by decide) ?_
  refine go_istore_n (pc := 1) C hN dX0_tiesBy_1 rfl (by decide) rfl ?_
  refine go_lconst (pc := 2) (v := (0 : Int64)) C dX0_tiesBy_2 (by decide) ?_
  refine go_lstore (pc := 3) C hN dX0_tiesBy_3 (by decide) rfl ?_
  refine go_iconst (pc := 5) (v := (0 : Int32)) C dX0_tiesBy_5 (by decide) ?_
  refine go_istore (pc := 6) C hN dX0_tiesBy_6 (by decide) rfl ?_
  refine go_sub [3, 4, 5, 2, 1, 0] rfl ?_
  exact w0_tiesBy_8 hN C hE hL hr FU (s0, (-1 : Int32), (0 : Int64), (0 : Int32)) h
theorem w0_run_108 {Γ : Gam} {A : XA} {L : List Nat} {E : va_W} {nR : Nat} {R : Nat → List Cls} {v1 : Int32} {v2 : Int32} {v3 : Int32} {s0 : (Nat → Bl)} {v4 : Int32} {v5 : Int32} {r9 : Int32} {s9 : (Nat → Bl)} {K68 : (Nat → Bl) × Int32 × Int32 → Option (Int32 × (Nat → Bl))} (hN : Γ.nL = 6) (C : Cx Γ cX0_run RX0 (204, 0, 0) 8139) (hE : Rets Γ cX0_run (some .int) 0 0 (fun v w => v = some (.int r9) ∧ w = (XW Γ.d A L E s9))) (hL : xOK L) (hR : ∀ k, k < nR → rAt E Γ.d 200 (A.2.2 k) (R k))
    (hK68 : ∀ s, K68 s = some (r9, s9) → (fun s : (Nat → Bl) × Int32 × Int32 => Go Γ 0 0 (XW Γ.d A L E s.1) 68 [(0, .ref (A.1 0 0)), (1, .int v1), (2, .int v2), (3, .int v3), (4, .int s.2.1), (5, .int s.2.2)] []) s) (h : g0_run_108 nR R K68 s0 v1 v2 v3 v4 v5 = some (r9, s9)) : Go Γ 0 0 (XW Γ.d A L E s0) 108 [(0, .ref (A.1 0 0)), (1, .int v1), (2, .int v2), (3, .int v3), (4, .int v4), (5, .int v5)] [] := by
  dsimp only [g0_run_108] at h
  refine go_iload (pc := 108) C dX0_run_108 4 rfl ?_
  refine go_aload_n (pc := 110) C dX0_run_110 rfl 0 rfl ?_
  obtain ⟨hz9, h⟩ := chk_some h
  refine X0g_0_0 (pc := 111) C hL (of_decide_eq_true hz9) dX0_run_111 ?_
  obtain ⟨r4, s4, e4, h⟩ := bnd2_some h
  refine go_callVi (pc := 114) C [] (Mt.x1 (hL.2 1 (by decide)) hL.1 (m1_goesOn e4)) q980 q981 q982 q139 q983 x1pd_goesOn (by decide) (by decide) (xO (hL.2 1 (by decide)) hL.1) xc1 rfl (Nat.le_of_ble_eq_true rfl) ⟨Nat.zero_le _, Nat.zero_le _⟩ dX0_run_114 rfl ?_
  refine go_iadd (pc := 117) C dX0_run_117 ?_
  refine go_istore (pc := 118) C hN dX0_run_118 (by decide) rfl ?_
  refine go_iinc (pc := 120) (v := (v5 + (1 : Int32))) C hN dX0_run_120 (q := 5) rfl rfl (by decide) rfl ?_
  refine go_goto (pc := 123) (tgt := 68) C dX0_run_123 (by decide) ?_
  refine go_sub [2, 3, 4, 5, 1, 0] rfl ?_
  exact hK68 ((upX s0 1 s4), (v4 + r4), (v5 + (1 : Int32))) h
theorem w0_run_68 {Γ : Gam} {A : XA} {L : List Nat} {E : va_W} {nR : Nat} {R : Nat → List Cls} {v1 : Int32} {v2 : Int32} {v3 : Int32} {r9 : Int32} {s9 : (Nat → Bl)} (hN : Γ.nL = 6) (C : Cx Γ cX0_run RX0 (204, 0, 0) 8139) (hE : Rets Γ cX0_run (some .int) 0 0 (fun v w => v = some (.int r9) ∧ w = (XW Γ.d A L E s9))) (hL : xOK L) (hR : ∀ k, k < nR → rAt E Γ.d 200 (A.2.2 k) (R k)) : ∀ (n : Nat) (s : (Nat → Bl) × Int32 × Int32), loop (g0_run_68 nR R v1 v2 v3) n s = some (r9, s9) → (fun s : (Nat → Bl) × Int32 × Int32 => Go Γ 0 0 (XW Γ.d A L E s.1) 68 [(0, .ref (A.1 0 0)), (1, .int v1), (2, .int v2), (3, .int v3), (4, .int s.2.1), (5, .int s.2.2)] []) s := by
  refine loop_walk (P := fun s : (Nat → Bl) × Int32 × Int32 => Go Γ 0 0 (XW Γ.d A L E s.1) 68 [(0, .ref (A.1 0 0)), (1, .int v1), (2, .int v2), (3, .int v3), (4, .int s.2.1), (5, .int s.2.2)] []) ?_
  intro K68 hK68 s h
  obtain ⟨s0, v4, v5⟩ := s
  dsimp only [g0_run_68] at h
  show Go Γ 0 0 (XW Γ.d A L E s0) 68 [(0, .ref (A.1 0 0)), (1, .int v1), (2, .int v2), (3, .int v3), (4, .int v4), (5, .int v5)] []
  refine go_iload (pc := 68) C dX0_run_68 5 rfl ?_
  refine go_iload_n (pc := 70) C dX0_run_70 rfl 2 rfl ?_
  refine go_icmp_ge (pc := 71) (tgt := 126) C dX0_run_71 (by decide) h (fun h => ?_) (fun h => ?_)
  · refine go_iload (pc := 126) C dX0_run_126 4 rfl ?_
    exact (hE 0 0 _ _ _ (Nat.zero_le _) (Nat.zero_le _)).1 _ rfl dX0_run_128 ⟨congrArg (fun z => some (Value.int z)) (some2 h).1, congrArg (fun z => (XW Γ.d A L E z)) (some2 h).2⟩
  · refine go_iload_n (pc := 74) C dX0_run_74 rfl 3 rfl ?_
    refine go_aload_n (pc := 75) C dX0_run_75 rfl 0 rfl ?_
    obtain ⟨hz9, h⟩ := chk_some h
    refine X0g_0_0 (pc := 76) C hL (of_decide_eq_true hz9) dX0_run_76 ?_
    refine X0g_1_4 (pc := 79) C hL dX0_run_79 ?_
    refine go_icmp_gt (pc := 82) (tgt := 108) C dX0_run_82 (by decide) h (fun h => ?_) (fun h => ?_)
    · exact w0_run_108 hN C hE hL hR hK68 h
    · refine go_aload_n (pc := 85) C dX0_run_85 rfl 0 rfl ?_
      obtain ⟨hz9, h⟩ := chk_some h
      refine X0g_0_0 (pc := 86) C hL (of_decide_eq_true hz9) dX0_run_86 ?_
      refine X0g_1_5 (pc := 89) C hL dX0_run_89 ?_
      refine go_bipush (pc := 92) (v := (12 : Int32)) C dX0_run_92 (by decide) ?_
      refine go_icmp_ge (pc := 94) (tgt := 108) C dX0_run_94 (by decide) h (fun h => ?_) (fun h => ?_)
      · exact w0_run_108 hN C hE hL hR hK68 h
      · refine go_aload_n (pc := 97) C dX0_run_97 rfl 0 rfl ?_
        refine go_aload_n (pc := 98) C dX0_run_98 rfl 0 rfl ?_
        refine X0g_0_12 (pc := 99) C hL dX0_run_99 ?_
        refine go_iload_n (pc := 102) C dX0_run_102 rfl 1 rfl ?_
        obtain ⟨hq5, h⟩ := chk_some h
        simp only [Bool.and_eq_true] at hq5
        refine go_rules (pc := 103) C hL hq5.1 (of_decide_eq_true hq5.2.1) dX0_run_103 ?_
        refine go_iload_n (pc := 104) C dX0_run_104 rfl 3 rfl ?_
        obtain ⟨s6, e6, h⟩ := bnd_some h
        refine go_callVv (pc := 105) C [.ref (A.2.2 (v1).toNatClampNeg), .int v3] (m0_tiesBy hL (hR _ (of_decide_eq_true hq5.2.2)) e6) q1043 q1045 qs38 q138 q1046 x0pd_tiesBy (by decide) (by decide) (xO (hL.2 0 (by decide)) hL.1) xc0 rfl (Nat.le_of_ble_eq_true rfl) ⟨Nat.zero_le _, Nat.zero_le _⟩ dX0_run_105 rfl ?_
        exact w0_run_108 hN C hE hL hR hK68 h
theorem m0_run {l : Launch} {d : gD} {A : XA} {L : List Nat} {E : va_W} {s0 : (Nat → Bl)} {nR : Nat} {R : Nat → List Cls} {v1 : Int32} {v2 : Int32} {v3 : Int32} {r9 : Int32} {s9 : (Nat → Bl)} (hL : xOK L) (hR : ∀ k, k < nR → rAt E d 200 (A.2.2 k) (R k)) (h : f0_run s0 nR R v1 v2 v3 = some (r9, s9)) : Mt l d yX0_run cX0_run 6 (some .int) (204, 0, 0) 8139 (XW d A L E s0) [.ref (A.1 0 0), .int v1, .int v2, .int v3] (fun v w => v = some (.int r9) ∧ w = (XW d A L E s9)) := by
  refine Mt.of x0pn (Nat.le_of_ble_eq_true rfl) ?_
  intro Γ hl hd hN C hE
  subst hl; subst hd
  show Go Γ 0 0 (XW Γ.d A L E s0) 0 [(0, .ref (A.1 0 0)), (1, .int v1), (2, .int v2), (3, .int v3)] []
  dsimp only [f0_run] at h
  refine go_aload_n (pc := 0) C dX0_run_0 rfl 0 rfl ?_
  by_cases c4n : (s0 0).1 0 = 0
  · have h := (if_pos c4n).symm.trans h
    refine X0g_0_0N (pc := 1) C hL c4n dX0_run_1 ?_
    refine go_ifnullN (pc := 4) (tgt := 52) C dX0_run_4 (by decide) ?_
    refine go_iconst (pc := 52) (v := (-1 : Int32)) C dX0_run_52 (by decide) ?_
    exact (hE 0 0 _ _ _ (Nat.zero_le _) (Nat.zero_le _)).1 _ rfl dX0_run_53 ⟨congrArg (fun z => some (Value.int z)) (some2 h).1, congrArg (fun z => (XW Γ.d A L E z)) (some2 h).2⟩
  · have h := (if_neg c4n).symm.trans h
    refine X0g_0_0 (pc := 1) C hL c4n dX0_run_1 ?_
    refine go_ifnull (pc := 4) C dX0_run_4 ?_
    refine go_aload_n (pc := 7) C dX0_run_7 rfl 0 rfl ?_
    refine go_iload_n (pc := 8) C dX0_run_8 rfl 1 rfl ?_
    obtain ⟨r1, e1, h⟩ := bnd_some h
    refine go_callVi (pc := 9) C [.int v1] (m0_isRule hL e1) q1039 q1041 qs37 q138 q1042 x0pd_isRule (by decide) (by decide) (xO (hL.2 0 (by decide)) hL.1) xc0 rfl (Nat.le_of_ble_eq_true rfl) ⟨Nat.zero_le _, Nat.zero_le _⟩ dX0_run_9 rfl ?_
    refine go_if_eq (pc := 12) (tgt := 52) C dX0_run_12 (by decide) h (fun h => ?_) (fun h => ?_)
    · refine go_iconst (pc := 52) (v := (-1 : Int32)) C dX0_run_52 (by decide) ?_
      exact (hE 0 0 _ _ _ (Nat.zero_le _) (Nat.zero_le _)).1 _ rfl dX0_run_53 ⟨congrArg (fun z => some (Value.int z)) (some2 h).1, congrArg (fun z => (XW Γ.d A L E z)) (some2 h).2⟩
    · refine go_iload_n (pc := 15) C dX0_run_15 rfl 2 rfl ?_
      refine go_i2l (pc := 16) C dX0_run_16 ?_
      refine go_lconst (pc := 17) (v := (1 : Int64)) C dX0_run_17 (by decide) ?_
      refine go_aload_n (pc := 18) C dX0_run_18 rfl 0 rfl ?_
      obtain ⟨hz9, h⟩ := chk_some h
      refine X0g_0_0 (pc := 19) C hL (of_decide_eq_true hz9) dX0_run_19 ?_
      refine X0g_1_0 (pc := 22) C hL dX0_run_22 ?_
      refine go_aload_n (pc := 25) C dX0_run_25 rfl 0 rfl ?_
      obtain ⟨hz9, h⟩ := chk_some h
      refine X0g_0_0 (pc := 26) C hL (of_decide_eq_true hz9) dX0_run_26 ?_
      refine X0g_1_6 (pc := 29) C hL dX0_run_29 ?_
      refine go_isub (pc := 32) C dX0_run_32 ?_
      refine go_i2l (pc := 33) C dX0_run_33 ?_
      obtain ⟨r2, e2, h⟩ := bnd_some h
      refine go_callSi (pc := 34) C [.long (v2).toInt64, .long (1 : Int64), .long ((((s0 1).1 0) - ((s0 1).1 6))).toInt64] (m0_in e2) q939 q647 q138 q648 x0pd_in (by decide) (by decide) rfl (Nat.le_of_ble_eq_true rfl) ⟨Nat.zero_le _, Nat.zero_le _⟩ dX0_run_34 rfl ?_
      refine go_if_eq (pc := 37) (tgt := 52) C dX0_run_37 (by decide) h (fun h => ?_) (fun h => ?_)
      · refine go_iconst (pc := 52) (v := (-1 : Int32)) C dX0_run_52 (by decide) ?_
        exact (hE 0 0 _ _ _ (Nat.zero_le _) (Nat.zero_le _)).1 _ rfl dX0_run_53 ⟨congrArg (fun z => some (Value.int z)) (some2 h).1, congrArg (fun z => (XW Γ.d A L E z)) (some2 h).2⟩
      · refine go_iload_n (pc := 40) C dX0_run_40 rfl 3 rfl ?_
        refine go_i2l (pc := 41) C dX0_run_41 ?_
        refine go_lconst (pc := 42) (v := (1 : Int64)) C dX0_run_42 (by decide) ?_
        refine go_ldc2 (pc := 43) C dX0_run_43 q1017 ?_
        obtain ⟨r3, e3, h⟩ := bnd_some h
        refine go_callSi (pc := 46) C [.long (v3).toInt64, .long (1 : Int64), .long (9 : Int64)] (m0_in e3) q939 q647 q138 q648 x0pd_in (by decide) (by decide) rfl (Nat.le_of_ble_eq_true rfl) ⟨Nat.zero_le _, Nat.zero_le _⟩ dX0_run_46 rfl ?_
        refine go_if_ne (pc := 49) (tgt := 54) C dX0_run_49 (by decide) h (fun h => ?_) (fun h => ?_)
        · refine go_aload_n (pc := 54) C dX0_run_54 rfl 0 rfl ?_
          obtain ⟨hz9, h⟩ := chk_some h
          refine X0g_0_0 (pc := 55) C hL (of_decide_eq_true hz9) dX0_run_55 ?_
          refine go_iconst (pc := 58) (v := (0 : Int32)) C dX0_run_58 (by decide) ?_
          refine X0p_1_7 (pc := 59) C hL dX0_run_59 ?_
          refine go_iconst (pc := 62) (v := (0 : Int32)) C dX0_run_62 (by decide) ?_
          refine go_istore (pc := 63) C hN dX0_run_63 (by decide) rfl ?_
          refine go_iconst (pc := 65) (v := (0 : Int32)) C dX0_run_65 (by decide) ?_
          refine go_istore (pc := 66) C hN dX0_run_66 (by decide) rfl ?_
          refine go_sub [2, 3, 4, 5, 1, 0] rfl ?_
          exact w0_run_68 hN C hE hL hR FU ((upX s0 1 (bI (s0 1) 7 (0 : Int32))), (0 : Int32), (0 : Int32)) h
        · refine go_iconst (pc := 52) (v := (-1 : Int32)) C dX0_run_52 (by decide) ?_
          exact (hE 0 0 _ _ _ (Nat.zero_le _) (Nat.zero_le _)).1 _ rfl dX0_run_53 ⟨congrArg (fun z => some (Value.int z)) (some2 h).1, congrArg (fun z => (XW Γ.d A L E z)) (some2 h).2⟩
