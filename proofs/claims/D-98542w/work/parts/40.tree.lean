/-! RULES: what their parts answer (Value.of, Test.is): by class, to any height; partly printed by gen/tree.py -/
set_option maxRecDepth 100000
theorem x8pn : plainName RX8 = true := by decide +kernel
theorem x9pn : plainName RX9 = true := by decide +kernel
theorem x10pn : plainName RX10 = true := by decide +kernel
theorem x12pn : plainName RX12 = true := by decide +kernel
theorem x13pn : plainName RX13 = true := by decide +kernel
theorem x14pn : plainName RX14 = true := by decide +kernel
def b01 (b : Bool) : Int32 := if b = true then 1 else 0
theorem b01_or (b : Bool) : b01 b = 0 ∨ b01 b = 1 := by cases b <;> simp [b01]
theorem pd_of : "PartyRaft$Value" ≠ "java/lang/invoke/MethodHandle" ∧ "PartyRaft$Value" ≠ "java/lang/invoke/VarHandle" ∧ (parseMethodDescriptor "([J)J").map (fun d => d.parameters.length) = some 1 := by decide +kernel
theorem pd_is : "PartyRaft$Test" ≠ "java/lang/invoke/MethodHandle" ∧ "PartyRaft$Test" ≠ "java/lang/invoke/VarHandle" ∧ (parseMethodDescriptor "([J)Z").map (fun d => d.parameters.length) = some 1 := by decide +kernel
section GO
variable {Γ : Gam} {cc : ByteArray} {own : String} {fr : Nat × Nat × Nat} {lo k n pc : Nat} {ws ws' : va_W} {lv : List (Nat × Value)} {st : List Value}
/-- a call of a method that is named at an abstract class -/
theorem go_callA (C : Cx Γ cc own fr lo) {x y : MethodName} {c2 : ByteArray} {nL2 lo2 fr2 ix b ci N nA : Nat} {ret2 : Option FieldType} {As fs : List Value} {post : Option Value → va_W → Prop} {C2 : String} {T : u_T}
    (hM : Mt Γ.l Γ.d y c2 nL2 ret2 (fr2, 0, 0) lo2 ws (.ref b :: As) post) (hlk : Cond.methodLink own ix x ∈ lw_all) (hsm : Cond.sameMethod x.cls x.cls x.name x.desc ∈ lw_all) (hse : Cond.selects C2 x y ∈ lw_all) (hin : Cond.instanceMethod y ∈ lw_all) (hini : Cond.initialized y.cls ∈ lw_all) (h5 : Cond.code y c2 nL2 ret2 ∈ lw_all) (hdc : Cond.declares ⟨x.cls, x.name, x.desc⟩ ∈ lw_tbl)
    (hd0 : x.cls ≠ "java/lang/invoke/MethodHandle" ∧ x.cls ≠ "java/lang/invoke/VarHandle" ∧ (parseMethodDescriptor x.desc).map (fun d => d.parameters.length) = some nA) (hfr : fr2 + 1 ≤ fr.1 ∧ 8 + (nL2 + 11) + lo2 ≤ lo) (ho : hasO ws b ci fs) (hc : CL[ci]? = some (C2, T, N)) (hn : As.length = nA) (hcat : (st.map fun v => v.category).sum ≤ 8) (hroom : k ≤ fr.2.1 ∧ n ≤ fr.2.2) (hd : decode cc pc = .ok (.invokevirtual ix, 3)) {st0 : List Value} (hst : As.reverse ++ .ref b :: st = st0)
    (kk : ∀ (v : Option Value) (ws' : va_W), post v ws' → Go Γ k n ws' (pc + 3) lv (v.toList ++ st)) : Go Γ k n ws pc lv st0 := by
  subst hst
  refine go_of_run (c2 := c2) (y := y) (as := .ref b :: As) (ce := 0) (sl := 0) (post := post) C ?_ kk
  obtain ⟨p, l, e, R, s, m, args, below, meth, c, nL, d, A, Q⟩ := Γ
  obtain ⟨hx, hb, hml, hown, hts, hlk9, hK, hA, hZ, ⟨hfr0, hce, hsl⟩, hlo⟩ := C
  intro H locs ls hP hD hS hl
  obtain ⟨q, hq⟩ := ho
  have hF : ∀ q, va_A ws H.size q → A q := by
    intro q h
    rcases h with ⟨j, e9, h⟩ | h
    · exact hD.2 j (q, e9) h
    · exact hA q (Nat.le_trans hS.1 h)
  have hG : GoodIn lw_all (va_wsU own ix C2 x.cls x y (ws_ y c2 nL2 ret2)) := by
    refine lw_app ?_ (lw_meth h5)
    intro w hw
    simp only [List.mem_cons, List.not_mem_nil, or_false] at hw
    rcases hw with e | e | e | e | e
    · rw [e]; exact hlk
    · rw [e]; exact hsm
    · rw [e]; exact hse
    · rw [e]; exact hin
    · rw [e]; exact hini
  exact va_runU (As := As) (rest := st) ⟨hx, hb, hml, hown, hts⟩ (hM H.size) (va_cwA nA hts hG rfl rfl rfl (hZ.2.2 _ (lw_n hdc rfl)) hd0 ⟨Nat.le_trans hfr.1 hfr0, Nat.le_trans hfr.2 hlo⟩) ⟨Pc_blind, va_recv hK hP hc hq, fun U hU hW => ⟨rfl, by rw [hU], by rw [hU]; exact hP, va_K.moved hW.alike hK, hD.weaken (fun _ _ _ _ => trivial), hZ.at hS hF hU hW⟩⟩ rfl hn hl.1 rfl (lv_room hcat) hd ⟨Nat.le_trans hroom.1 hce, Nat.le_trans hroom.2 hsl⟩
end GO
/-- the value at a answers x on the words, with n frames -/
def VOf (l : Launch) (d : gD) (ws : va_W) (wa : Nat) (wds : Nat → Int64) (n a : Nat) (x : Int64) : Prop :=
  (∃ z : Int64, hasO ws a 7 [.long z] ∧ Mt l d yX8_of cX8_of 2 (some .long) (n, 0, 0) (n * 40) ws [.ref a, .ref wa] (fun v w => v = some (.long x) ∧ w = ws)) ∨
  (∃ z : Int32, hasO ws a 8 [.int z] ∧ Mt l d yX9_of cX9_of 2 (some .long) (n, 0, 0) (n * 40) ws [.ref a, .ref wa] (fun v w => v = some (.long x) ∧ w = ws)) ∨
  (∃ (a1 a2 : Nat) (sg : Int32), hasO ws a 9 [.ref a1, .ref a2, .int sg] ∧ Mt l d yX10_of cX10_of 6 (some .long) (n, 0, 0) (n * 40) ws [.ref a, .ref wa] (fun v w => v = some (.long x) ∧ w = ws))
/-- the test at a answers t on the words, with n frames -/
def TOf (l : Launch) (d : gD) (ws : va_W) (wa : Nat) (wds : Nat → Int64) (n a : Nat) (t : Bool) : Prop :=
  (∃ a1 : Nat, hasO ws a 10 [.ref a1] ∧ Mt l d yX12_is cX12_is 2 (some .boolean) (n, 0, 0) (n * 40) ws [.ref a, .ref wa] (fun v w => v = some (.int (b01 t)) ∧ w = ws)) ∨
  (∃ (a1 a2 : Nat) (sg : Int32), hasO ws a 11 [.ref a1, .ref a2, .int sg] ∧ Mt l d yX13_is cX13_is 6 (some .boolean) (n, 0, 0) (n * 40) ws [.ref a, .ref wa] (fun v w => v = some (.int (b01 t)) ∧ w = ws)) ∨
  (∃ (a1 a2 : Nat) (ia : Int32), hasO ws a 12 [.ref a1, .ref a2, .int ia] ∧ Mt l d yX14_is cX14_is 2 (some .boolean) (n, 0, 0) (n * 40) ws [.ref a, .ref wa] (fun v w => v = some (.int (b01 t)) ∧ w = ws))
section GO
variable {Γ : Gam} {cc : ByteArray} {own : String} {fr : Nat × Nat × Nat} {lo k n pc : Nat} {ws ws' : va_W} {lv : List (Nat × Value)} {st : List Value}
theorem go_val (C : Cx Γ cc own fr lo) {wa a m ix : Nat} {wds : Nat → Int64} {x : Int64} (hv : VOf Γ.l Γ.d ws wa wds m a x) (hwa : hasA ws wa (Γ.d.2.1 3, 12, .inr (.inl wds))) (hw : Cond.methodLink own ix ⟨"PartyRaft$Value", "of", "([J)J"⟩ ∈ lw_all) (hfr : m + 1 ≤ fr.1) (hlo : m * 40 + 40 ≤ lo) (hcat : (st.map fun v => v.category).sum ≤ 8) (hroom : k ≤ fr.2.1 ∧ n ≤ fr.2.2) (hd : decode cc pc = .ok (.invokevirtual ix, 3)) (kk : Go Γ k n ws (pc + 3) lv (.long x :: st)) : Go Γ k n ws pc lv (.ref wa :: .ref a :: st) := by
  rcases hv with ⟨z, ho, hM⟩ | ⟨z, ho, hM⟩ | ⟨a1, a2, sg, ho, hM⟩
  · exact go_callA (As := [.ref wa]) C hM hw q1080 q1081 q1082 q155 q1083 q1079 pd_of ⟨hfr, by omega⟩ ho rfl rfl hcat hroom hd rfl (fun v w hp => by obtain ⟨rfl, rfl⟩ := hp; exact kk)
  · exact go_callA (As := [.ref wa]) C hM hw q1080 q1090 q1088 q156 q1089 q1079 pd_of ⟨hfr, by omega⟩ ho rfl rfl hcat hroom hd rfl (fun v w hp => by obtain ⟨rfl, rfl⟩ := hp; exact kk)
  · exact go_callA (As := [.ref wa]) C hM hw q1080 q1084 q1085 q157 q1086 q1079 pd_of ⟨hfr, by omega⟩ ho rfl rfl hcat hroom hd rfl (fun v w hp => by obtain ⟨rfl, rfl⟩ := hp; exact kk)
theorem go_tst (C : Cx Γ cc own fr lo) {wa a m ix : Nat} {wds : Nat → Int64} {t : Bool} (hv : TOf Γ.l Γ.d ws wa wds m a t) (hwa : hasA ws wa (Γ.d.2.1 3, 12, .inr (.inl wds))) (hw : Cond.methodLink own ix ⟨"PartyRaft$Test", "is", "([J)Z"⟩ ∈ lw_all) (hfr : m + 1 ≤ fr.1) (hlo : m * 40 + 40 ≤ lo) (hcat : (st.map fun v => v.category).sum ≤ 8) (hroom : k ≤ fr.2.1 ∧ n ≤ fr.2.2) (hd : decode cc pc = .ok (.invokevirtual ix, 3)) (kk : Go Γ k n ws (pc + 3) lv (.int (b01 t) :: st)) : Go Γ k n ws pc lv (.ref wa :: .ref a :: st) := by
  rcases hv with ⟨a1, ho, hM⟩ | ⟨a1, a2, sg, ho, hM⟩ | ⟨a1, a2, sg, ho, hM⟩
  · exact go_callA (As := [.ref wa]) C hM hw q1071 q1095 q1091 q159 q1092 q1070 pd_is ⟨hfr, by omega⟩ ho rfl rfl hcat hroom hd rfl (fun v w hp => by obtain ⟨rfl, rfl⟩ := hp; exact kk)
  · exact go_callA (As := [.ref wa]) C hM hw q1071 q1094 q1076 q160 q1077 q1070 pd_is ⟨hfr, by omega⟩ ho rfl rfl hcat hroom hd rfl (fun v w hp => by obtain ⟨rfl, rfl⟩ := hp; exact kk)
  · exact go_callA (As := [.ref wa]) C hM hw q1071 q1072 q1073 q161 q1074 q1070 pd_is ⟨hfr, by omega⟩ ho rfl rfl hcat hroom hd rfl (fun v w hp => by obtain ⟨rfl, rfl⟩ := hp; exact kk)
end GO

set_option maxHeartbeats 4000000
def f8_of (z : Int64) : Option Int64 :=
    (some z)
def f9_of (wd : Int32) (wds : Nat → Int64) : Option Int64 :=
    (chk (inB wd 12) (some (wds (wd).toNatClampNeg)))
def f10_of (sg : Int32) (x1 : Int64) (x2 : Int64) : Option Int64 :=
    (if sg = (37 : Int32) then
 (if (lg_cmp x2 (0 : Int64)) = 0 then
 (some (0 : Int64))
 else
 (chk (decide (¬ x2 = 0)) (some (x1 - x1 / x2 * x2))))
 else
 (if sg = (42 : Int32) then
 (some (x1 * x2))
 else
 (if sg = (43 : Int32) then
 (some (x1 + x2))
 else
 (if sg = (45 : Int32) then
 (some (x1 - x2))
 else
 (if (lg_cmp x2 (0 : Int64)) = 0 then
 (some (0 : Int64))
 else
 (chk (decide (¬ x2 = 0)) (some (x1 / x2))))))))
def f12_is (t1 : Bool) : Option Int32 :=
    (if (b01 t1) = 0 then
 (some (1 : Int32))
 else
 (some (0 : Int32)))
def f13_is (sg : Int32) (x1 : Int64) (x2 : Int64) : Option Int32 :=
    (if sg = (0 : Int32) then
 (if 0 ≤ (lg_cmp x1 x2) then
 (some (0 : Int32))
 else
 (some (1 : Int32)))
 else
 (if sg = (1 : Int32) then
 (if 0 < (lg_cmp x1 x2) then
 (some (0 : Int32))
 else
 (some (1 : Int32)))
 else
 (if sg = (2 : Int32) then
 (if (lg_cmp x1 x2) = 0 then
 (some (1 : Int32))
 else
 (some (0 : Int32)))
 else
 (if sg = (3 : Int32) then
 (if (lg_cmp x1 x2) < 0 then
 (some (0 : Int32))
 else
 (some (1 : Int32)))
 else
 (if (lg_cmp x1 x2) ≤ 0 then
 (some (0 : Int32))
 else
 (some (1 : Int32)))))))
def f14_is (ia : Int32) (t1 : Bool) (t2 : Bool) : Option Int32 :=
    (if ia = 0 then
 (if (b01 t1) = 0 then
 (if (b01 t2) = 0 then
 (some (0 : Int32))
 else
 (some (1 : Int32)))
 else
 (some (1 : Int32)))
 else
 (if (b01 t1) = 0 then
 (some (0 : Int32))
 else
 (if (b01 t2) = 0 then
 (some (0 : Int32))
 else
 (some (1 : Int32)))))
theorem mtX8_of {l : Launch} {d : gD} {ws : va_W} {a0 wa n : Nat} {wds : Nat → Int64} {z : Int64} {r9 : Int64} (ho : hasO ws a0 7 [.long z]) (hwa : hasA ws wa (d.2.1 3, 12, .inr (.inl wds))) (h : f8_of z = some r9) : Mt l d yX8_of cX8_of 2 (some .long) (n + 1, 0, 0) ((n + 1) * 40) ws [.ref a0, .ref wa] (fun v w => v = some (.long r9) ∧ w = ws) := by
  refine Mt.of x8pn (Nat.le_of_ble_eq_true rfl) ?_
  intro Γ hl hd hN C hE
  subst hl; subst hd
  have hfr : n + 1 ≤ n + 1 := Nat.le_refl _
  have hlo : n * 40 + 40 ≤ (n + 1) * 40 := by omega
  show Go Γ 0 0 ws 0 [(0, .ref a0), (1, .ref wa)] []
  dsimp only [f8_of] at h
  refine go_aload_n (pc := 0) C dX8_of_0 rfl 0 rfl ?_
  refine go_getfield (pc := 1) C ho rfl in_X8 0 (by decide) q766 rfl dX8_of_1 ?_
  exact (hE 0 0 _ _ _ (Nat.zero_le _) (Nat.zero_le _)).2.2.1 _ rfl dX8_of_4 ⟨congrArg (fun z => some (Value.long z)) (some1 h), rfl⟩
theorem mtX9_of {l : Launch} {d : gD} {ws : va_W} {a0 wa n : Nat} {wds : Nat → Int64} {wd : Int32} {r9 : Int64} (ho : hasO ws a0 8 [.int wd]) (hwa : hasA ws wa (d.2.1 3, 12, .inr (.inl wds))) (h : f9_of wd wds = some r9) : Mt l d yX9_of cX9_of 2 (some .long) (n + 1, 0, 0) ((n + 1) * 40) ws [.ref a0, .ref wa] (fun v w => v = some (.long r9) ∧ w = ws) := by
  refine Mt.of x9pn (Nat.le_of_ble_eq_true rfl) ?_
  intro Γ hl hd hN C hE
  subst hl; subst hd
  have hfr : n + 1 ≤ n + 1 := Nat.le_refl _
  have hlo : n * 40 + 40 ≤ (n + 1) * 40 := by omega
  show Go Γ 0 0 ws 0 [(0, .ref a0), (1, .ref wa)] []
  dsimp only [f9_of] at h
  refine go_aload_n (pc := 0) C dX9_of_0 rfl 1 rfl ?_
  refine go_aload_n (pc := 1) C dX9_of_1 rfl 0 rfl ?_
  refine go_getfield (pc := 2) C ho rfl in_X9 0 (by decide) q776 rfl dX9_of_2 ?_
  refine go_lald (pc := 5) C hwa h dX9_of_5 (fun h => ?_)
  exact (hE 0 0 _ _ _ (Nat.zero_le _) (Nat.zero_le _)).2.2.1 _ rfl dX9_of_6 ⟨congrArg (fun z => some (Value.long z)) (some1 h), rfl⟩
theorem mtX10_of {l : Launch} {d : gD} {ws : va_W} {a0 wa n : Nat} {wds : Nat → Int64} {a1 a2 : Nat} {sg : Int32} {x1 x2 : Int64} {r9 : Int64} (ho : hasO ws a0 9 [.ref a1, .ref a2, .int sg]) (hwa : hasA ws wa (d.2.1 3, 12, .inr (.inl wds))) (hv1 : VOf l d ws wa wds n a1 x1) (hv2 : VOf l d ws wa wds n a2 x2) (h : f10_of sg x1 x2 = some r9) : Mt l d yX10_of cX10_of 6 (some .long) (n + 1, 0, 0) ((n + 1) * 40) ws [.ref a0, .ref wa] (fun v w => v = some (.long r9) ∧ w = ws) := by
  refine Mt.of x10pn (Nat.le_of_ble_eq_true rfl) ?_
  intro Γ hl hd hN C hE
  subst hl; subst hd
  have hfr : n + 1 ≤ n + 1 := Nat.le_refl _
  have hlo : n * 40 + 40 ≤ (n + 1) * 40 := by omega
  show Go Γ 0 0 ws 0 [(0, .ref a0), (1, .ref wa)] []
  dsimp only [f10_of] at h
  refine go_aload_n (pc := 0) C dX10_of_0 rfl 0 rfl ?_
  refine go_getfield (pc := 1) C ho rfl in_X10 0 (by decide) q786 rfl dX10_of_1 ?_
  refine go_aload_n (pc := 4) C dX10_of_4 rfl 1 rfl ?_
  refine go_val (pc := 5) C hv1 hwa q1087 hfr hlo (Nat.le_of_ble_eq_true rfl) ⟨Nat.zero_le _, Nat.zero_le _⟩ dX10_of_5 ?_
  refine go_lstore_n (pc := 8) C hN dX10_of_8 rfl (by decide) rfl ?_
  refine go_aload_n (pc := 9) C dX10_of_9 rfl 1 rfl ?_
  refine go_getfield (pc := 10) C ho rfl in_X10 1 (by decide) q787 rfl dX10_of_10 ?_
  refine go_aload_n (pc := 13) C dX10_of_13 rfl 2 rfl ?_
  refine go_val (pc := 14) C hv2 hwa q1087 hfr hlo (Nat.le_of_ble_eq_true rfl) ⟨Nat.zero_le _, Nat.zero_le _⟩ dX10_of_14 ?_
  refine go_lstore (pc := 17) C hN dX10_of_17 (by decide) rfl ?_
  refine go_aload_n (pc := 19) C dX10_of_19 rfl 2 rfl ?_
  refine go_getfield (pc := 20) C ho rfl in_X10 2 (by decide) q788 rfl dX10_of_20 ?_
  by_cases c23_37 : sg = (37 : Int32)
  · have h := (if_pos c23_37).symm.trans h
    refine go_tableK (pc := 23) (tgt := 87) C c23_37 dX10_of_23 (by decide) (by decide) rfl (by decide) ?_
    refine go_lload (pc := 87) C dX10_of_87 0 rfl ?_
    refine go_lconst (pc := 89) (v := (0 : Int64)) C dX10_of_89 (by decide) ?_
    refine go_lcmp (pc := 90) C dX10_of_90 ?_
    refine go_if_ne (pc := 91) (tgt := 98) C dX10_of_91 (by decide) h (fun h => ?_) (fun h => ?_)
    · refine go_lload_n (pc := 98) C dX10_of_98 rfl 1 rfl ?_
      refine go_lload (pc := 99) C dX10_of_99 0 rfl ?_
      obtain ⟨hne, h⟩ := chk_some h
      refine go_lrem (pc := 101) C dX10_of_101 (of_decide_eq_true hne) ?_
      exact (hE 0 0 _ _ _ (Nat.zero_le _) (Nat.zero_le _)).2.2.1 _ rfl dX10_of_102 ⟨congrArg (fun z => some (Value.long z)) (some1 h), rfl⟩
    · refine go_lconst (pc := 94) (v := (0 : Int64)) C dX10_of_94 (by decide) ?_
      refine go_goto (pc := 95) (tgt := 102) C dX10_of_95 (by decide) ?_
      exact (hE 0 0 _ _ _ (Nat.zero_le _) (Nat.zero_le _)).2.2.1 _ rfl dX10_of_102 ⟨congrArg (fun z => some (Value.long z)) (some1 h), rfl⟩
  have h := (if_neg c23_37).symm.trans h
  by_cases c23_42 : sg = (42 : Int32)
  · have h := (if_pos c23_42).symm.trans h
    refine go_tableK (pc := 23) (tgt := 82) C c23_42 dX10_of_23 (by decide) (by decide) rfl (by decide) ?_
    refine go_lload_n (pc := 82) C dX10_of_82 rfl 1 rfl ?_
    refine go_lload (pc := 83) C dX10_of_83 0 rfl ?_
    refine go_lmul (pc := 85) C dX10_of_85 ?_
    exact (hE 0 0 _ _ _ (Nat.zero_le _) (Nat.zero_le _)).2.2.1 _ rfl dX10_of_86 ⟨congrArg (fun z => some (Value.long z)) (some1 h), rfl⟩
  have h := (if_neg c23_42).symm.trans h
  by_cases c23_43 : sg = (43 : Int32)
  · have h := (if_pos c23_43).symm.trans h
    refine go_tableK (pc := 23) (tgt := 72) C c23_43 dX10_of_23 (by decide) (by decide) rfl (by decide) ?_
    refine go_lload_n (pc := 72) C dX10_of_72 rfl 1 rfl ?_
    refine go_lload (pc := 73) C dX10_of_73 0 rfl ?_
    refine go_ladd (pc := 75) C dX10_of_75 ?_
    exact (hE 0 0 _ _ _ (Nat.zero_le _) (Nat.zero_le _)).2.2.1 _ rfl dX10_of_76 ⟨congrArg (fun z => some (Value.long z)) (some1 h), rfl⟩
  have h := (if_neg c23_43).symm.trans h
  by_cases c23_45 : sg = (45 : Int32)
  · have h := (if_pos c23_45).symm.trans h
    refine go_tableK (pc := 23) (tgt := 77) C c23_45 dX10_of_23 (by decide) (by decide) rfl (by decide) ?_
    refine go_lload_n (pc := 77) C dX10_of_77 rfl 1 rfl ?_
    refine go_lload (pc := 78) C dX10_of_78 0 rfl ?_
    refine go_lsub (pc := 80) C dX10_of_80 ?_
    exact (hE 0 0 _ _ _ (Nat.zero_le _) (Nat.zero_le _)).2.2.1 _ rfl dX10_of_81 ⟨congrArg (fun z => some (Value.long z)) (some1 h), rfl⟩
  have h := (if_neg c23_45).symm.trans h
  refine go_tableD (pc := 23) (tgt := 103) C [(37 : Int32), (42 : Int32), (43 : Int32), (45 : Int32)] (List.forall_mem_cons.mpr ⟨c23_37, List.forall_mem_cons.mpr ⟨c23_42, List.forall_mem_cons.mpr ⟨c23_43, List.forall_mem_cons.mpr ⟨c23_45, fun _ h9 => absurd h9 List.not_mem_nil⟩⟩⟩⟩) dX10_of_23 (by decide) (by decide +kernel) (by decide) (by decide) (by decide) ?_
  refine go_lload (pc := 103) C dX10_of_103 0 rfl ?_
  refine go_lconst (pc := 105) (v := (0 : Int64)) C dX10_of_105 (by decide) ?_
  refine go_lcmp (pc := 106) C dX10_of_106 ?_
  refine go_if_ne (pc := 107) (tgt := 114) C dX10_of_107 (by decide) h (fun h => ?_) (fun h => ?_)
  · refine go_lload_n (pc := 114) C dX10_of_114 rfl 1 rfl ?_
    refine go_lload (pc := 115) C dX10_of_115 0 rfl ?_
    obtain ⟨hne, h⟩ := chk_some h
    refine go_ldiv (pc := 117) C dX10_of_117 (of_decide_eq_true hne) ?_
    exact (hE 0 0 _ _ _ (Nat.zero_le _) (Nat.zero_le _)).2.2.1 _ rfl dX10_of_118 ⟨congrArg (fun z => some (Value.long z)) (some1 h), rfl⟩
  · refine go_lconst (pc := 110) (v := (0 : Int64)) C dX10_of_110 (by decide) ?_
    refine go_goto (pc := 111) (tgt := 118) C dX10_of_111 (by decide) ?_
    exact (hE 0 0 _ _ _ (Nat.zero_le _) (Nat.zero_le _)).2.2.1 _ rfl dX10_of_118 ⟨congrArg (fun z => some (Value.long z)) (some1 h), rfl⟩
theorem mtX12_is {l : Launch} {d : gD} {ws : va_W} {a0 wa n : Nat} {wds : Nat → Int64} {a1 : Nat} {t1 : Bool} {r9 : Int32} (ho : hasO ws a0 10 [.ref a1]) (hwa : hasA ws wa (d.2.1 3, 12, .inr (.inl wds))) (hv1 : TOf l d ws wa wds n a1 t1) (h : f12_is t1 = some r9) : Mt l d yX12_is cX12_is 2 (some .boolean) (n + 1, 0, 0) ((n + 1) * 40) ws [.ref a0, .ref wa] (fun v w => v = some (.int r9) ∧ w = ws) := by
  refine Mt.of x12pn (Nat.le_of_ble_eq_true rfl) ?_
  intro Γ hl hd hN C hE
  subst hl; subst hd
  have hfr : n + 1 ≤ n + 1 := Nat.le_refl _
  have hlo : n * 40 + 40 ≤ (n + 1) * 40 := by omega
  show Go Γ 0 0 ws 0 [(0, .ref a0), (1, .ref wa)] []
  dsimp only [f12_is] at h
  refine go_aload_n (pc := 0) C dX12_is_0 rfl 0 rfl ?_
  refine go_getfield (pc := 1) C ho rfl in_X12 0 (by decide) q827 rfl dX12_is_1 ?_
  refine go_aload_n (pc := 4) C dX12_is_4 rfl 1 rfl ?_
  refine go_tst (pc := 5) C hv1 hwa q1093 hfr hlo (Nat.le_of_ble_eq_true rfl) ⟨Nat.zero_le _, Nat.zero_le _⟩ dX12_is_5 ?_
  refine go_if_ne (pc := 8) (tgt := 15) C dX12_is_8 (by decide) h (fun h => ?_) (fun h => ?_)
  · refine go_iconst (pc := 15) (v := (0 : Int32)) C dX12_is_15 (by decide) ?_
    exact (hE 0 0 _ _ _ (Nat.zero_le _) (Nat.zero_le _)).2.1 _ rfl (Or.inl rfl) dX12_is_16 ⟨congrArg (fun z => some (Value.int z)) (some1 h), rfl⟩
  · refine go_iconst (pc := 11) (v := (1 : Int32)) C dX12_is_11 (by decide) ?_
    refine go_goto (pc := 12) (tgt := 16) C dX12_is_12 (by decide) ?_
    exact (hE 0 0 _ _ _ (Nat.zero_le _) (Nat.zero_le _)).2.1 _ rfl (Or.inr rfl) dX12_is_16 ⟨congrArg (fun z => some (Value.int z)) (some1 h), rfl⟩
theorem mtX13_is {l : Launch} {d : gD} {ws : va_W} {a0 wa n : Nat} {wds : Nat → Int64} {a1 a2 : Nat} {sg : Int32} {x1 x2 : Int64} {r9 : Int32} (ho : hasO ws a0 11 [.ref a1, .ref a2, .int sg]) (hwa : hasA ws wa (d.2.1 3, 12, .inr (.inl wds))) (hv1 : VOf l d ws wa wds n a1 x1) (hv2 : VOf l d ws wa wds n a2 x2) (h : f13_is sg x1 x2 = some r9) : Mt l d yX13_is cX13_is 6 (some .boolean) (n + 1, 0, 0) ((n + 1) * 40) ws [.ref a0, .ref wa] (fun v w => v = some (.int r9) ∧ w = ws) := by
  refine Mt.of x13pn (Nat.le_of_ble_eq_true rfl) ?_
  intro Γ hl hd hN C hE
  subst hl; subst hd
  have hfr : n + 1 ≤ n + 1 := Nat.le_refl _
  have hlo : n * 40 + 40 ≤ (n + 1) * 40 := by omega
  show Go Γ 0 0 ws 0 [(0, .ref a0), (1, .ref wa)] []
  dsimp only [f13_is] at h
  refine go_aload_n (pc := 0) C dX13_is_0 rfl 0 rfl ?_
  refine go_getfield (pc := 1) C ho rfl in_X13 0 (by decide) q841 rfl dX13_is_1 ?_
  refine go_aload_n (pc := 4) C dX13_is_4 rfl 1 rfl ?_
  refine go_val (pc := 5) C hv1 hwa q1078 hfr hlo (Nat.le_of_ble_eq_true rfl) ⟨Nat.zero_le _, Nat.zero_le _⟩ dX13_is_5 ?_
  refine go_lstore_n (pc := 8) C hN dX13_is_8 rfl (by decide) rfl ?_
  refine go_aload_n (pc := 9) C dX13_is_9 rfl 1 rfl ?_
  refine go_getfield (pc := 10) C ho rfl in_X13 1 (by decide) q842 rfl dX13_is_10 ?_
  refine go_aload_n (pc := 13) C dX13_is_13 rfl 2 rfl ?_
  refine go_val (pc := 14) C hv2 hwa q1078 hfr hlo (Nat.le_of_ble_eq_true rfl) ⟨Nat.zero_le _, Nat.zero_le _⟩ dX13_is_14 ?_
  refine go_lstore (pc := 17) C hN dX13_is_17 (by decide) rfl ?_
  refine go_aload_n (pc := 19) C dX13_is_19 rfl 2 rfl ?_
  refine go_getfield (pc := 20) C ho rfl in_X13 2 (by decide) q843 rfl dX13_is_20 ?_
  by_cases c23_0 : sg = (0 : Int32)
  · have h := (if_pos c23_0).symm.trans h
    refine go_tableK (pc := 23) (tgt := 52) C c23_0 dX13_is_23 (by decide) (by decide) rfl (by decide) ?_
    refine go_lload_n (pc := 52) C dX13_is_52 rfl 1 rfl ?_
    refine go_lload (pc := 53) C dX13_is_53 0 rfl ?_
    refine go_lcmp (pc := 55) C dX13_is_55 ?_
    refine go_if_ge (pc := 56) (tgt := 63) C dX13_is_56 (by decide) h (fun h => ?_) (fun h => ?_)
    · refine go_iconst (pc := 63) (v := (0 : Int32)) C dX13_is_63 (by decide) ?_
      exact (hE 0 0 _ _ _ (Nat.zero_le _) (Nat.zero_le _)).2.1 _ rfl (Or.inl rfl) dX13_is_64 ⟨congrArg (fun z => some (Value.int z)) (some1 h), rfl⟩
    · refine go_iconst (pc := 59) (v := (1 : Int32)) C dX13_is_59 (by decide) ?_
      refine go_goto (pc := 60) (tgt := 64) C dX13_is_60 (by decide) ?_
      exact (hE 0 0 _ _ _ (Nat.zero_le _) (Nat.zero_le _)).2.1 _ rfl (Or.inr rfl) dX13_is_64 ⟨congrArg (fun z => some (Value.int z)) (some1 h), rfl⟩
  have h := (if_neg c23_0).symm.trans h
  by_cases c23_1 : sg = (1 : Int32)
  · have h := (if_pos c23_1).symm.trans h
    refine go_tableK (pc := 23) (tgt := 65) C c23_1 dX13_is_23 (by decide) (by decide) rfl (by decide) ?_
    refine go_lload_n (pc := 65) C dX13_is_65 rfl 1 rfl ?_
    refine go_lload (pc := 66) C dX13_is_66 0 rfl ?_
    refine go_lcmp (pc := 68) C dX13_is_68 ?_
    refine go_if_gt (pc := 69) (tgt := 76) C dX13_is_69 (by decide) h (fun h => ?_) (fun h => ?_)
    · refine go_iconst (pc := 76) (v := (0 : Int32)) C dX13_is_76 (by decide) ?_
      exact (hE 0 0 _ _ _ (Nat.zero_le _) (Nat.zero_le _)).2.1 _ rfl (Or.inl rfl) dX13_is_77 ⟨congrArg (fun z => some (Value.int z)) (some1 h), rfl⟩
    · refine go_iconst (pc := 72) (v := (1 : Int32)) C dX13_is_72 (by decide) ?_
      refine go_goto (pc := 73) (tgt := 77) C dX13_is_73 (by decide) ?_
      exact (hE 0 0 _ _ _ (Nat.zero_le _) (Nat.zero_le _)).2.1 _ rfl (Or.inr rfl) dX13_is_77 ⟨congrArg (fun z => some (Value.int z)) (some1 h), rfl⟩
  have h := (if_neg c23_1).symm.trans h
  by_cases c23_2 : sg = (2 : Int32)
  · have h := (if_pos c23_2).symm.trans h
    refine go_tableK (pc := 23) (tgt := 78) C c23_2 dX13_is_23 (by decide) (by decide) rfl (by decide) ?_
    refine go_lload_n (pc := 78) C dX13_is_78 rfl 1 rfl ?_
    refine go_lload (pc := 79) C dX13_is_79 0 rfl ?_
    refine go_lcmp (pc := 81) C dX13_is_81 ?_
    refine go_if_ne (pc := 82) (tgt := 89) C dX13_is_82 (by decide) h (fun h => ?_) (fun h => ?_)
    · refine go_iconst (pc := 89) (v := (0 : Int32)) C dX13_is_89 (by decide) ?_
      exact (hE 0 0 _ _ _ (Nat.zero_le _) (Nat.zero_le _)).2.1 _ rfl (Or.inl rfl) dX13_is_90 ⟨congrArg (fun z => some (Value.int z)) (some1 h), rfl⟩
    · refine go_iconst (pc := 85) (v := (1 : Int32)) C dX13_is_85 (by decide) ?_
      refine go_goto (pc := 86) (tgt := 90) C dX13_is_86 (by decide) ?_
      exact (hE 0 0 _ _ _ (Nat.zero_le _) (Nat.zero_le _)).2.1 _ rfl (Or.inr rfl) dX13_is_90 ⟨congrArg (fun z => some (Value.int z)) (some1 h), rfl⟩
  have h := (if_neg c23_2).symm.trans h
  by_cases c23_3 : sg = (3 : Int32)
  · have h := (if_pos c23_3).symm.trans h
    refine go_tableK (pc := 23) (tgt := 91) C c23_3 dX13_is_23 (by decide) (by decide) rfl (by decide) ?_
    refine go_lload_n (pc := 91) C dX13_is_91 rfl 1 rfl ?_
    refine go_lload (pc := 92) C dX13_is_92 0 rfl ?_
    refine go_lcmp (pc := 94) C dX13_is_94 ?_
    refine go_if_lt (pc := 95) (tgt := 102) C dX13_is_95 (by decide) h (fun h => ?_) (fun h => ?_)
    · refine go_iconst (pc := 102) (v := (0 : Int32)) C dX13_is_102 (by decide) ?_
      exact (hE 0 0 _ _ _ (Nat.zero_le _) (Nat.zero_le _)).2.1 _ rfl (Or.inl rfl) dX13_is_103 ⟨congrArg (fun z => some (Value.int z)) (some1 h), rfl⟩
    · refine go_iconst (pc := 98) (v := (1 : Int32)) C dX13_is_98 (by decide) ?_
      refine go_goto (pc := 99) (tgt := 103) C dX13_is_99 (by decide) ?_
      exact (hE 0 0 _ _ _ (Nat.zero_le _) (Nat.zero_le _)).2.1 _ rfl (Or.inr rfl) dX13_is_103 ⟨congrArg (fun z => some (Value.int z)) (some1 h), rfl⟩
  have h := (if_neg c23_3).symm.trans h
  refine go_tableD (pc := 23) (tgt := 104) C [(0 : Int32), (1 : Int32), (2 : Int32), (3 : Int32)] (List.forall_mem_cons.mpr ⟨c23_0, List.forall_mem_cons.mpr ⟨c23_1, List.forall_mem_cons.mpr ⟨c23_2, List.forall_mem_cons.mpr ⟨c23_3, fun _ h9 => absurd h9 List.not_mem_nil⟩⟩⟩⟩) dX13_is_23 (by decide) (by decide +kernel) (by decide) (by decide) (by decide) ?_
  refine go_lload_n (pc := 104) C dX13_is_104 rfl 1 rfl ?_
  refine go_lload (pc := 105) C dX13_is_105 0 rfl ?_
  refine go_lcmp (pc := 107) C dX13_is_107 ?_
  refine go_if_le (pc := 108) (tgt := 115) C dX13_is_108 (by decide) h (fun h => ?_) (fun h => ?_)
  · refine go_iconst (pc := 115) (v := (0 : Int32)) C dX13_is_115 (by decide) ?_
    exact (hE 0 0 _ _ _ (Nat.zero_le _) (Nat.zero_le _)).2.1 _ rfl (Or.inl rfl) dX13_is_116 ⟨congrArg (fun z => some (Value.int z)) (some1 h), rfl⟩
  · refine go_iconst (pc := 111) (v := (1 : Int32)) C dX13_is_111 (by decide) ?_
    refine go_goto (pc := 112) (tgt := 116) C dX13_is_112 (by decide) ?_
    exact (hE 0 0 _ _ _ (Nat.zero_le _) (Nat.zero_le _)).2.1 _ rfl (Or.inr rfl) dX13_is_116 ⟨congrArg (fun z => some (Value.int z)) (some1 h), rfl⟩
theorem mtX14_is {l : Launch} {d : gD} {ws : va_W} {a0 wa n : Nat} {wds : Nat → Int64} {a1 a2 : Nat} {ia : Int32} {t1 t2 : Bool} {r9 : Int32} (ho : hasO ws a0 12 [.ref a1, .ref a2, .int ia]) (hwa : hasA ws wa (d.2.1 3, 12, .inr (.inl wds))) (hv1 : TOf l d ws wa wds n a1 t1) (hv2 : TOf l d ws wa wds n a2 t2) (h : f14_is ia t1 t2 = some r9) : Mt l d yX14_is cX14_is 2 (some .boolean) (n + 1, 0, 0) ((n + 1) * 40) ws [.ref a0, .ref wa] (fun v w => v = some (.int r9) ∧ w = ws) := by
  refine Mt.of x14pn (Nat.le_of_ble_eq_true rfl) ?_
  intro Γ hl hd hN C hE
  subst hl; subst hd
  have hfr : n + 1 ≤ n + 1 := Nat.le_refl _
  have hlo : n * 40 + 40 ≤ (n + 1) * 40 := by omega
  show Go Γ 0 0 ws 0 [(0, .ref a0), (1, .ref wa)] []
  dsimp only [f14_is] at h
  refine go_aload_n (pc := 0) C dX14_is_0 rfl 0 rfl ?_
  refine go_getfield (pc := 1) C ho rfl in_X14 2 (by decide) q860 rfl dX14_is_1 ?_
  refine go_if_eq (pc := 4) (tgt := 37) C dX14_is_4 (by decide) h (fun h => ?_) (fun h => ?_)
  · refine go_aload_n (pc := 37) C dX14_is_37 rfl 0 rfl ?_
    refine go_getfield (pc := 38) C ho rfl in_X14 0 (by decide) q858 rfl dX14_is_38 ?_
    refine go_aload_n (pc := 41) C dX14_is_41 rfl 1 rfl ?_
    refine go_tst (pc := 42) C hv1 hwa q1075 hfr hlo (Nat.le_of_ble_eq_true rfl) ⟨Nat.zero_le _, Nat.zero_le _⟩ dX14_is_42 ?_
    refine go_if_ne (pc := 45) (tgt := 59) C dX14_is_45 (by decide) h (fun h => ?_) (fun h => ?_)
    · refine go_iconst (pc := 59) (v := (1 : Int32)) C dX14_is_59 (by decide) ?_
      refine go_goto (pc := 60) (tgt := 64) C dX14_is_60 (by decide) ?_
      exact (hE 0 0 _ _ _ (Nat.zero_le _) (Nat.zero_le _)).2.1 _ rfl (Or.inr rfl) dX14_is_64 ⟨congrArg (fun z => some (Value.int z)) (some1 h), rfl⟩
    · refine go_aload_n (pc := 48) C dX14_is_48 rfl 0 rfl ?_
      refine go_getfield (pc := 49) C ho rfl in_X14 1 (by decide) q859 rfl dX14_is_49 ?_
      refine go_aload_n (pc := 52) C dX14_is_52 rfl 1 rfl ?_
      refine go_tst (pc := 53) C hv2 hwa q1075 hfr hlo (Nat.le_of_ble_eq_true rfl) ⟨Nat.zero_le _, Nat.zero_le _⟩ dX14_is_53 ?_
      refine go_if_eq (pc := 56) (tgt := 63) C dX14_is_56 (by decide) h (fun h => ?_) (fun h => ?_)
      · refine go_iconst (pc := 63) (v := (0 : Int32)) C dX14_is_63 (by decide) ?_
        exact (hE 0 0 _ _ _ (Nat.zero_le _) (Nat.zero_le _)).2.1 _ rfl (Or.inl rfl) dX14_is_64 ⟨congrArg (fun z => some (Value.int z)) (some1 h), rfl⟩
      · refine go_iconst (pc := 59) (v := (1 : Int32)) C dX14_is_59 (by decide) ?_
        refine go_goto (pc := 60) (tgt := 64) C dX14_is_60 (by decide) ?_
        exact (hE 0 0 _ _ _ (Nat.zero_le _) (Nat.zero_le _)).2.1 _ rfl (Or.inr rfl) dX14_is_64 ⟨congrArg (fun z => some (Value.int z)) (some1 h), rfl⟩
  · refine go_aload_n (pc := 7) C dX14_is_7 rfl 0 rfl ?_
    refine go_getfield (pc := 8) C ho rfl in_X14 0 (by decide) q858 rfl dX14_is_8 ?_
    refine go_aload_n (pc := 11) C dX14_is_11 rfl 1 rfl ?_
    refine go_tst (pc := 12) C hv1 hwa q1075 hfr hlo (Nat.le_of_ble_eq_true rfl) ⟨Nat.zero_le _, Nat.zero_le _⟩ dX14_is_12 ?_
    refine go_if_eq (pc := 15) (tgt := 33) C dX14_is_15 (by decide) h (fun h => ?_) (fun h => ?_)
    · refine go_iconst (pc := 33) (v := (0 : Int32)) C dX14_is_33 (by decide) ?_
      refine go_goto (pc := 34) (tgt := 64) C dX14_is_34 (by decide) ?_
      exact (hE 0 0 _ _ _ (Nat.zero_le _) (Nat.zero_le _)).2.1 _ rfl (Or.inl rfl) dX14_is_64 ⟨congrArg (fun z => some (Value.int z)) (some1 h), rfl⟩
    · refine go_aload_n (pc := 18) C dX14_is_18 rfl 0 rfl ?_
      refine go_getfield (pc := 19) C ho rfl in_X14 1 (by decide) q859 rfl dX14_is_19 ?_
      refine go_aload_n (pc := 22) C dX14_is_22 rfl 1 rfl ?_
      refine go_tst (pc := 23) C hv2 hwa q1075 hfr hlo (Nat.le_of_ble_eq_true rfl) ⟨Nat.zero_le _, Nat.zero_le _⟩ dX14_is_23 ?_
      refine go_if_eq (pc := 26) (tgt := 33) C dX14_is_26 (by decide) h (fun h => ?_) (fun h => ?_)
      · refine go_iconst (pc := 33) (v := (0 : Int32)) C dX14_is_33 (by decide) ?_
        refine go_goto (pc := 34) (tgt := 64) C dX14_is_34 (by decide) ?_
        exact (hE 0 0 _ _ _ (Nat.zero_le _) (Nat.zero_le _)).2.1 _ rfl (Or.inl rfl) dX14_is_64 ⟨congrArg (fun z => some (Value.int z)) (some1 h), rfl⟩
      · refine go_iconst (pc := 29) (v := (1 : Int32)) C dX14_is_29 (by decide) ?_
        refine go_goto (pc := 30) (tgt := 64) C dX14_is_30 (by decide) ?_
        exact (hE 0 0 _ _ _ (Nat.zero_le _) (Nat.zero_le _)).2.1 _ rfl (Or.inr rfl) dX14_is_64 ⟨congrArg (fun z => some (Value.int z)) (some1 h), rfl⟩
/-- what a pair comes to -/
def pairV (sg : Int32) (x y : Int64) : Int64 :=
  if sg = 37 then (if y = 0 then 0 else x - x / y * y) else if sg = 42 then x * y else if sg = 43 then x + y else if sg = 45 then x - y else (if y = 0 then 0 else x / y)
def compV (sg : Int32) (x y : Int64) : Bool :=
  if sg = 0 then decide (x < y) else if sg = 1 then decide (x ≤ y) else if sg = 2 then decide (x = y) else if sg = 3 then decide (y ≤ x) else decide (y < x)
def bothV (ia : Int32) (t1 t2 : Bool) : Bool := if ia = 0 then t1 || t2 else t1 && t2
theorem b01_t (b : Bool) : (b01 b = 0) ↔ b = false := by cases b <;> simp [b01]
theorem f10_of_eq (sg : Int32) (x y : Int64) : f10_of sg x y = some (pairV sg x y) := by
  unfold f10_of pairV
  simp only [lg_cmp_eq]
  by_cases h1 : sg = 37
  · by_cases hy : y = 0 <;> simp [h1, hy, chk]
  by_cases h2 : sg = 42
  · simp [h2]
  by_cases h3 : sg = 43
  · simp [h3]
  by_cases h4 : sg = 45
  · simp [h4]
  by_cases hy : y = 0 <;> simp [h1, h2, h3, h4, hy, chk]
theorem f13_is_eq (sg : Int32) (x y : Int64) : f13_is sg x y = some (b01 (compV sg x y)) := by
  unfold f13_is compV
  simp only [lg_cmp_eq, lg_cmp_ge, lg_cmp_gt, lg_cmp_lt, lg_cmp_le]
  have e1 : ∀ a b : Int64, a < b ↔ ¬ b ≤ a := fun a b => Int64.not_le.symm
  simp only [e1]
  by_cases h1 : x ≤ y <;> by_cases h2 : y ≤ x <;> by_cases h3 : x = y <;> simp [h1, h2, h3, b01] <;> (repeat' split) <;> simp_all
theorem f14_is_eq (ia : Int32) (t1 t2 : Bool) : f14_is ia t1 t2 = some (b01 (bothV ia t1 t2)) := by
  unfold f14_is bothV
  by_cases h : ia = 0 <;> cases t1 <;> cases t2 <;> simp [h, b01]
theorem f12_is_eq (t : Bool) : f12_is t = some (b01 (!t)) := by
  unfold f12_is
  cases t <;> simp [b01]
/-- the function of the words that the value at a stands for: its cells lie in ws -/
def vAt (ws : va_W) : Nat → Nat → ((Nat → Int64) → Int64) → Prop
  | 0, _, _ => False
  | n + 1, a, f => (∃ z : Int64, hasO ws a 7 [.long z] ∧ f = fun _ => z) ∨ (∃ w : Int32, hasO ws a 8 [.int w] ∧ inB w 12 = true ∧ f = fun wds => wds w.toNatClampNeg) ∨
    (∃ (a1 a2 : Nat) (sg : Int32) (f1 f2 : (Nat → Int64) → Int64), hasO ws a 9 [.ref a1, .ref a2, .int sg] ∧ vAt ws n a1 f1 ∧ vAt ws n a2 f2 ∧ f = fun wds => pairV sg (f1 wds) (f2 wds))
def tAt (ws : va_W) : Nat → Nat → ((Nat → Int64) → Bool) → Prop
  | 0, _, _ => False
  | n + 1, a, f => (∃ (a1 : Nat) (f1 : (Nat → Int64) → Bool), hasO ws a 10 [.ref a1] ∧ tAt ws n a1 f1 ∧ f = fun wds => !f1 wds) ∨
    (∃ (a1 a2 : Nat) (sg : Int32) (f1 f2 : (Nat → Int64) → Int64), hasO ws a 11 [.ref a1, .ref a2, .int sg] ∧ vAt ws n a1 f1 ∧ vAt ws n a2 f2 ∧ f = fun wds => compV sg (f1 wds) (f2 wds)) ∨
    (∃ (a1 a2 : Nat) (ia : Int32) (f1 f2 : (Nat → Int64) → Bool), hasO ws a 12 [.ref a1, .ref a2, .int ia] ∧ tAt ws n a1 f1 ∧ tAt ws n a2 f2 ∧ f = fun wds => bothV ia (f1 wds) (f2 wds))
theorem vAt.mono {ws w2 : va_W} (hw : ∀ b ci fs, hasO ws b ci fs → hasO w2 b ci fs) : ∀ (n a : Nat) (f : (Nat → Int64) → Int64), vAt ws n a f → vAt w2 n a f := by
  intro n
  induction n with
  | zero => intro a f h; exact h
  | succ n ih =>
    rintro a f (⟨z, h1, h2⟩ | ⟨z, h1, h2⟩ | ⟨a1, a2, sg, f1, f2, h1, h2, h3, h4⟩)
    · exact Or.inl ⟨z, hw _ _ _ h1, h2⟩
    · exact Or.inr (Or.inl ⟨z, hw _ _ _ h1, h2⟩)
    · exact Or.inr (Or.inr ⟨a1, a2, sg, f1, f2, hw _ _ _ h1, ih _ _ h2, ih _ _ h3, h4⟩)
theorem tAt.mono {ws w2 : va_W} (hw : ∀ b ci fs, hasO ws b ci fs → hasO w2 b ci fs) : ∀ (n a : Nat) (f : (Nat → Int64) → Bool), tAt ws n a f → tAt w2 n a f := by
  intro n
  induction n with
  | zero => intro a f h; exact h
  | succ n ih =>
    rintro a f (⟨a1, f1, h1, h2, h3⟩ | ⟨a1, a2, sg, f1, f2, h1, h2, h3, h4⟩ | ⟨a1, a2, sg, f1, f2, h1, h2, h3, h4⟩)
    · exact Or.inl ⟨a1, f1, hw _ _ _ h1, ih _ _ h2, h3⟩
    · exact Or.inr (Or.inl ⟨a1, a2, sg, f1, f2, hw _ _ _ h1, h2.mono hw, h3.mono hw, h4⟩)
    · exact Or.inr (Or.inr ⟨a1, a2, sg, f1, f2, hw _ _ _ h1, ih _ _ h2, ih _ _ h3, h4⟩)
theorem vAt.succ {ws : va_W} : ∀ (n a : Nat) (f : (Nat → Int64) → Int64), vAt ws n a f → vAt ws (n + 1) a f := by
  intro n
  induction n with
  | zero => intro a f h; exact h.elim
  | succ n ih =>
    rintro a f (⟨z, h1, h2⟩ | ⟨z, h1, h2⟩ | ⟨a1, a2, sg, f1, f2, h1, h2, h3, h4⟩)
    · exact Or.inl ⟨z, h1, h2⟩
    · exact Or.inr (Or.inl ⟨z, h1, h2⟩)
    · exact Or.inr (Or.inr ⟨a1, a2, sg, f1, f2, h1, ih _ _ h2, ih _ _ h3, h4⟩)
theorem tAt.succ {ws : va_W} : ∀ (n a : Nat) (f : (Nat → Int64) → Bool), tAt ws n a f → tAt ws (n + 1) a f := by
  intro n
  induction n with
  | zero => intro a f h; exact h.elim
  | succ n ih =>
    rintro a f (⟨a1, f1, h1, h2, h3⟩ | ⟨a1, a2, sg, f1, f2, h1, h2, h3, h4⟩ | ⟨a1, a2, sg, f1, f2, h1, h2, h3, h4⟩)
    · exact Or.inl ⟨a1, f1, h1, ih _ _ h2, h3⟩
    · exact Or.inr (Or.inl ⟨a1, a2, sg, f1, f2, h1, h2.succ, h3.succ, h4⟩)
    · exact Or.inr (Or.inr ⟨a1, a2, sg, f1, f2, h1, ih _ _ h2, ih _ _ h3, h4⟩)
theorem vAt.le {ws : va_W} {n m a : Nat} {f : (Nat → Int64) → Int64} (h : vAt ws n a f) (hm : n ≤ m) : vAt ws m a f := by
  obtain ⟨k, rfl⟩ := Nat.exists_eq_add_of_le hm
  induction k with
  | zero => exact h
  | succ k ih => exact (ih (by omega)).succ
theorem tAt.le {ws : va_W} {n m a : Nat} {f : (Nat → Int64) → Bool} (h : tAt ws n a f) (hm : n ≤ m) : tAt ws m a f := by
  obtain ⟨k, rfl⟩ := Nat.exists_eq_add_of_le hm
  induction k with
  | zero => exact h
  | succ k ih => exact (ih (by omega)).succ
/-- a value's function is what its walk answers -/
theorem vAt.of {l : Launch} {d : gD} {ws : va_W} {wa : Nat} {wds : Nat → Int64} (hwa : hasA ws wa (d.2.1 3, 12, .inr (.inl wds))) : ∀ (n a : Nat) (f : (Nat → Int64) → Int64), vAt ws n a f → VOf l d ws wa wds n a (f wds) := by
  intro n
  induction n with
  | zero => intro a f h; exact h.elim
  | succ n ih =>
    rintro a f (⟨z, h1, rfl⟩ | ⟨z, h1, h2, rfl⟩ | ⟨a1, a2, sg, f1, f2, h1, h2, h3, rfl⟩)
    · exact Or.inl ⟨z, h1, mtX8_of h1 hwa rfl⟩
    · exact Or.inr (Or.inl ⟨z, h1, mtX9_of h1 hwa (by unfold f9_of; rw [h2]; rfl)⟩)
    · exact Or.inr (Or.inr ⟨a1, a2, sg, h1, mtX10_of h1 hwa (ih _ _ h2) (ih _ _ h3) (f10_of_eq _ _ _)⟩)
theorem tAt.of {l : Launch} {d : gD} {ws : va_W} {wa : Nat} {wds : Nat → Int64} (hwa : hasA ws wa (d.2.1 3, 12, .inr (.inl wds))) : ∀ (n a : Nat) (f : (Nat → Int64) → Bool), tAt ws n a f → TOf l d ws wa wds n a (f wds) := by
  intro n
  induction n with
  | zero => intro a f h; exact h.elim
  | succ n ih =>
    rintro a f (⟨a1, f1, h1, h2, rfl⟩ | ⟨a1, a2, sg, f1, f2, h1, h2, h3, rfl⟩ | ⟨a1, a2, sg, f1, f2, h1, h2, h3, rfl⟩)
    · exact Or.inl ⟨a1, h1, mtX12_is h1 hwa (ih _ _ h2) (f12_is_eq _)⟩
    · exact Or.inr (Or.inl ⟨a1, a2, sg, h1, mtX13_is h1 hwa (h2.of hwa) (h3.of hwa) (f13_is_eq _ _ _)⟩)
    · exact Or.inr (Or.inr ⟨a1, a2, sg, h1, mtX14_is h1 hwa (ih _ _ h2) (ih _ _ h3) (f14_is_eq _ _ _)⟩)

