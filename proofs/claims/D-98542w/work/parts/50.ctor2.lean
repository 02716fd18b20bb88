/-! MAKING A FLOW, AN IMAGE, A RULE -/
set_option maxRecDepth 100000
theorem pFs0 {a : Nat → Nat} {rf : rF} {σ : Bl} : ∀ (FK : FKs) (o : Nat), pFs a rf σ 0 o FK = FK.map (fun x => dV x.1)
  | [], _ => rfl
  | x :: t, o => by rw [pFs, if_neg (by omega), pFs0 t (o + 1)]; rfl
theorem pW0 {d : gD} {ci : Nat} {FK : FKs} {a : Nat → Nat} {rf : rF} {rq : rQ} {σ : Bl} : pW d ci FK a rf rq σ 0 = [(a 0, .inr (ci, FK.map (fun x => dV x.1)))] := by
  rw [pW, pFs0, pAs_nil FK 0 (Nat.le_refl 0)]
theorem dflt_all {ty : Nat → FieldType} {fs : List Value} {N : Nat} (h : (List.range N).all (fun j => decide (defaultValue (ty j) = vp_V fs j)) = true) : ∀ j, j < N → defaultValue (ty j) = vp_V fs j := fun j hj => of_decide_eq_true (List.all_eq_true.mp h j (List.mem_range.mpr hj))
section GO
variable {Γ : Gam} {cc : ByteArray} {own : String} {fr : Nat × Nat × Nat} {lo k n pc : Nat} {ws ws' : va_W} {lv : List (Nat × Value)} {st : List Value}
theorem go_mkFlow (C : Cx Γ cc own fr lo) {ix ixc : Nat} {host : String} (hcl : Cond.classLink own ix RX1 ∈ lw_all) (hl9 : Cond.methodLinkNest own ixc yX1_init host ∈ lw_tbl) (hf : 2 ≤ fr.1) (hlo : 60 ≤ lo) (hcat : (st.map fun v => v.category).sum ≤ 7) (hr : k + 18 ≤ fr.2.1 ∧ n + 1709 ≤ fr.2.2) (hd1 : decode cc pc = .ok (.new ix, 3)) (hd2 : decode cc (pc + 3) = .ok (.dup, 1)) (hd3 : decode cc (pc + 4) = .ok (.invokespecial ixc, 3))
    (kk : ∀ a : Nat → Nat, Go Γ (k + 18) (n + 1709) (ws ++ bW Γ.d 1 FK1 a s1i) (pc + 7) lv (.ref (a 0) :: st)) : Go Γ k n ws pc lv st := by
  refine go_new C in_X1 tyX1 tyX1_ok hcl q173 q139 x1c (fs := FK1.map (fun x => dV x.1)) (dflt_all (by decide +kernel)) ⟨by omega, by omega⟩ hd1 (fun q => ?_)
  refine go_dup C hd2 rfl ?_
  have e : ws ++ [(q, (Sum.inr (1, FK1.map (fun x => dV x.1)) : va_E))] = ws ++ (pW Γ.d 1 FK1 (fun _ => q) (fun _ _ => .null) (fun _ _ _ => none) s1i 0 ++ []) := by rw [pW0, List.append_nil]
  rw [e]
  refine go_callIN C [] (Mt.frame ws [] (m1_init (b := q))) hl9 q175 q139 q176 rfl (by decide +kernel) ⟨by omega, by omega⟩ rfl ?_ ⟨by omega, by omega⟩ hd3 rfl (fun v9 w9 h9 => ?_)
  · show (1 + (st.map fun v => v.category).sum) ≤ 8
    omega
  · obtain ⟨w0, ⟨rfl, a, rfl, rfl⟩, rfl⟩ := h9
    rw [List.append_nil]
    have := kk a
    rw [show k + 1 + 17 = k + 18 by omega, show n + 29 + 1680 = n + 1709 by omega]
    exact this
end GO
theorem m15_init {l : Launch} {d : gD} {b : Nat} : Mt l d yX15_init cX15_init 1 none (2, 18, 1709) 60 [(b, .inr (13, [.null, .int 0, .int 0]))] [.ref b] (fun v w => v = none ∧ ∃ a : Nat → Nat, w = (b, .inr (13, [.ref (a 0), .int 0, .int 0])) :: bW d 1 FK1 a s1i) := by
  refine Mt.ofI (by decide +kernel) (Nat.le_of_ble_eq_true rfl) rfl ?_
  intro Γ hl hd hN hI C hE
  subst hl; subst hd
  show Go Γ 0 0 [(b, .inr (13, [.null, .int 0, .int 0]))] 0 [(0, .ref b)] []
  refine go_aload_n (pc := 0) C dX15_init_0 rfl 0 rfl ?_
  refine go_objInit (pc := 1) C q1244 q170 q171 (by decide) (by decide) dX15_init_1 ?_
  refine go_aload_n (pc := 4) C dX15_init_4 rfl 0 rfl ?_
  refine go_mkFlow (pc := 5) C q1245 q1246 (by decide) (by decide) (Nat.le_of_ble_eq_true rfl) ⟨by decide, by decide⟩ dX15_init_5 dX15_init_8 dX15_init_9 (fun a => ?_)
  refine go_putF (pc := 12) (v := .ref (a 0)) (ty := .object "PartyRaft$Flow") (ws' := [(b, .inr (13, [.ref (a 0), .int 0, .int 0]))] ++ bW Γ.d 1 FK1 a s1i) C hI 0 (putO.appL ⟨0, rfl, rfl⟩) (ci := 13) rfl in_X15 tyX15 tyX15_ok nmX15 (by decide) q1247 rfl rfl rfl rfl rfl (Nat.le_of_ble_eq_true rfl) dX15_init_12 ?_
  exact (hE 18 1709 _ 15 [(0, .ref b)] (Nat.le_refl _) (Nat.le_refl _)).2.2.2.1 rfl dX15_init_15 ⟨rfl, a, rfl⟩
theorem m5_init {l : Launch} {d : gD} {b : Nat} : Mt l d yX5_init cX5_init 1 none (1, 1, 12) 30 [(b, .inr (5, [.null, .int 0]))] [.ref b] (fun v w => v = none ∧ ∃ q : Nat, w = [(b, .inr (5, [.ref q, .int 0])), (q, .inl (d.2.1 5, 12, .inr (.inr (.inr (.inr (fun _ => none))))))]) := by
  refine Mt.ofI (by decide +kernel) (Nat.le_of_ble_eq_true rfl) rfl ?_
  intro Γ hl hd hN hI C hE
  subst hl; subst hd
  show Go Γ 0 0 [(b, .inr (5, [.null, .int 0]))] 0 [(0, .ref b)] []
  refine go_aload_n (pc := 0) C dX5_init_0 rfl 0 rfl ?_
  refine go_objInit (pc := 1) C q709 q170 q171 (by decide) (by decide) dX5_init_1 ?_
  refine go_aload_n (pc := 4) C dX5_init_4 rfl 0 rfl ?_
  refine go_bipush (pc := 5) (v := (12 : Int32)) C dX5_init_5 (by decide) ?_
  refine go_anew (pc := 7) (t := 5) (N := 12) (cn := "PartyRaft$Clause") C rfl q710 q711 (by decide) (by decide) (by decide) ⟨by decide, by decide⟩ dX5_init_7 (fun q => ?_)
  refine go_putF (pc := 10) (v := .ref q) (ty := .array (.object "PartyRaft$Clause")) (ws' := [(b, .inr (5, [.ref q, .int 0]))] ++ [(q, .inl (Γ.d.2.1 5, 12, .inr (.inr (.inr (.inr (fun _ => none))))))]) C hI (fs := [.null, .int 0]) 0 (putO.appL ⟨0, rfl, rfl⟩) (ci := 5) rfl in_X5 tyX5 tyX5_ok nmX5 (by decide) q712 rfl rfl rfl rfl rfl (Nat.le_of_ble_eq_true rfl) dX5_init_10 ?_
  exact (hE 1 12 _ 13 [(0, .ref b)] (Nat.le_refl _) (Nat.le_refl _)).2.2.2.1 rfl dX5_init_13 ⟨rfl, q, rfl⟩
