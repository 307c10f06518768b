/-! the component, walked: X0_bareTree X0_tree X0_lambda_tree_5 X23_init X0_both X23_or X0_lambda_tree_6 X0_lambda_tree_7 X22_cost X0_isMarked X0_plant -/
theorem lk_X0_568 : ∀ q ∈ ([(0, 28)] : List (Nat × Nat)), wLk RX0 568 q.1 q.2 := List.forall_mem_cons.mpr ⟨⟨RX0, TX0, 32, "LinesTouched", rfl, by decide, in_X0, q406, Or.inl rfl⟩, fun _ h => absurd h List.not_mem_nil⟩
noncomputable def fX0_bareTree (σ : xS) : Option (Int64 × xS) :=
  (xna σ 4 (3 : Int32)).bind (fun n1 => ((xT n1.2 0)).bind (fun a2 => (xdlR n1.2 a2 (0 : Int32)).bind (fun v3 => (fX0_bareOf 16 v3 (some n1.1) n1.2).bind (fun e4 => (xdlJ e4 n1.1 (0 : Int32)).bind (fun v5 => (xdlJ e4 n1.1 (1 : Int32)).bind (fun v6 => some ((v5 + v6), e4)))))))
theorem wi_X0_bareTree : wInfV yX0_bareTree cX0_bareTree 2 (Option.some Jvm.ClassFile.FieldType.long) 0 := ⟨q2345, qs52, q106, q2346, (by decide +kernel), (by decide +kernel), (by decide +kernel)⟩
set_option maxHeartbeats 4000000 in
set_option maxRecDepth 100000 in
theorem r1_X0_bareTree {σ : xS} {res : Int64 × xS} (hf : fX0_bareTree σ = some res) : rl1 σ res.2 := by
  replace hf : ((xna σ 4 (3 : Int32)).bind (fun n1 => ((xT n1.2 0)).bind (fun a2 => (xdlR n1.2 a2 (0 : Int32)).bind (fun v3 => (fX0_bareOf 16 v3 (some n1.1) n1.2).bind (fun e4 => (xdlJ e4 n1.1 (0 : Int32)).bind (fun v5 => (xdlJ e4 n1.1 (1 : Int32)).bind (fun v6 => some ((v5 + v6), e4)))))))) = some res := hf
  refine k_bind hf (fun n1 hn1 hf => ?_)
  refine rl1.tr (r1_na hn1) ?_
  refine k_bind hf (fun a2 ha2 hf => ?_)
  refine k_bind hf (fun v3 hv3 hf => ?_)
  refine k_bind hf (fun e4 he4 hf => ?_)
  refine rl1.tr (r1_X0_bareOf he4) ?_
  refine k_bind hf (fun v5 hv5 hf => ?_)
  refine k_bind hf (fun v6 hv6 hf => ?_)
  obtain rfl := Option.some.inj hf
  exact rl1.rf _
set_option maxHeartbeats 4000000 in
set_option maxRecDepth 100000 in
theorem met_X0_bareTree {l : Launch} {E : xG} {σ : xS} {res : Int64 × xS} (hf : fX0_bareTree σ = some res) : xMet l yX0_bareTree cX0_bareTree 2 (Option.some Jvm.ClassFile.FieldType.long) 17 510 E [.ref (xo E)] σ (some (.long res.1)) res.2 := by
  replace hf : ((xna σ 4 (3 : Int32)).bind (fun n1 => ((xT n1.2 0)).bind (fun a2 => (xdlR n1.2 a2 (0 : Int32)).bind (fun v3 => (fX0_bareOf 16 v3 (some n1.1) n1.2).bind (fun e4 => (xdlJ e4 n1.1 (0 : Int32)).bind (fun v5 => (xdlJ e4 n1.1 (1 : Int32)).bind (fun v6 => some ((v5 + v6), e4)))))))) = some res := hf
  refine x_start (by decide) (Nat.le_of_ble_eq_true rfl) ?_
  intro p e s m args below meth c S hnm hR hS ls hl
  obtain ⟨hx, hb, hml, hown, hts⟩ := S.1.1
  have hl : lv_has ls 2 [(0, .ref (xo E))] := hl
  have hn : XN 0 0 (xnx σ) (xns σ) (xnx res.2) (xns res.2) σ := ⟨Nat.zero_add _, Nat.zero_add _, (r1_X0_bareTree (σ := σ) hf).1, (r1_X0_bareTree (σ := σ) hf).2⟩
  have hb9 : XB (xnx res.2) (xns res.2) res.2 := ⟨Nat.le_refl _, Nat.le_refl _⟩
  refine lv_iconst (v := 3) hx hb dX0_bareTree_0 (by decide) ?_
  refine k_bind hf (fun n1 hn1 hf => ?_)
  have hbn1 : XB (xnx res.2) (xns res.2) n1.2 := hb9.back (by
    refine k_bind hf (fun a2 ha2 hf => ?_)
    refine k_bind hf (fun v3 hv3 hf => ?_)
    refine k_bind hf (fun e4 he4 hf => ?_)
    refine rl1.tr (r1_X0_bareOf he4) ?_
    refine k_bind hf (fun v5 hv5 hf => ?_)
    refine k_bind hf (fun v6 hv6 hf => ?_)
    obtain rfl := Option.some.inj hf
    exact rl1.rf _)
  refine x_newa (t := 4) (atype := .long) S hR hS hn hn1 hbn1 rfl (by decide) (by decide) q2351 dX0_bareTree_1 (fun H cells slots hR hS hn => ?_)
  refine x_astore_n (r := (some n1.1)) (lv' := [(1, .ref n1.1), (0, .ref (xo E))]) hx hb dX0_bareTree_3 rfl hl (by decide) rfl (fun ls hl => ?_)
  refine lv_aload_n hx hb dX0_bareTree_4 rfl (lv_at hl 1 rfl) ?_
  refine lv_aload_n hx hb dX0_bareTree_5 rfl (lv_at hl 1 rfl) ?_
  refine x_oget (k := 28) (v := va_rf (xT n1.2 0)) S hR (lk_X0_568 _ List.mem_cons_self) rfl dX0_bareTree_6 ?_
  refine lv_iconst (v := 0) hx hb dX0_bareTree_9 (by decide) ?_
  refine k_bind hf (fun a2 ha2 hf => ?_)
  rw [rf_some ha2]
  refine k_bind hf (fun v3 hv3 hf => ?_)
  refine x_dlR S hR hv3 dX0_bareTree_10 ?_
  refine lv_aload_n hx hb dX0_bareTree_11 rfl (lv_at hl 0 rfl) ?_
  refine k_bind hf (fun e4 he4 hf => ?_)
  have hb_12 : XB (xnx res.2) (xns res.2) e4 := hb9.back (by
    refine k_bind hf (fun v5 hv5 hf => ?_)
    refine k_bind hf (fun v6 hv6 hf => ?_)
    obtain rfl := Option.some.inj hf
    exact rl1.rf _)
  refine x_call (C := RX0) (As := [va_rf v3, .ref n1.1]) (rest := []) S hR hS hn (met_X0_bareOf he4) (r1_X0_bareOf he4) hb_12 wi_X0_bareOf (xrc S.2 hR (ci := 0) rfl (Or.inl ⟨rfl, rfl⟩)) rfl q2347 ⟨Nat.le_of_ble_eq_true rfl, Nat.le_of_ble_eq_true rfl⟩ rfl hl.1 rfl (Nat.le_of_ble_eq_true rfl) dX0_bareTree_12 (fun H locs cells slots hR hS hn => ?_)
  refine lv_aload_n hx hb dX0_bareTree_15 rfl (lv_at hl 0 rfl) ?_
  refine lv_iconst (v := 0) hx hb dX0_bareTree_16 (by decide) ?_
  refine k_bind hf (fun v5 hv5 hf => ?_)
  refine x_dlJ S hR hv5 dX0_bareTree_17 ?_
  refine lv_aload_n hx hb dX0_bareTree_18 rfl (lv_at hl 0 rfl) ?_
  refine lv_iconst (v := 1) hx hb dX0_bareTree_19 (by decide) ?_
  refine k_bind hf (fun v6 hv6 hf => ?_)
  refine x_dlJ S hR hv6 dX0_bareTree_20 ?_
  refine lv_ladd hx hb dX0_bareTree_21 ?_
  obtain rfl := Option.some.inj hf
  exact x_lret S hR hS hn dX0_bareTree_22


noncomputable def fX0_tree (x1 : Int32) (σ : xS) : Option (Int64 × xS) :=
  if (fX0_in x1 (0 : Int32) (5 : Int32)) = (0 : Int32) then some ((-2 : Int64), σ) else if (xI σ 29) = (0 : Int32) then some ((-1 : Int64), σ) else if x1 = (0 : Int32) then ((xT σ 0)).bind (fun a1 => (xdlR σ a1 (0 : Int32)).bind (fun v2 => none)) else if x1 = (1 : Int32) then ((xT σ 0)).bind (fun a3 => (xdlR σ a3 (0 : Int32)).bind (fun v4 => none)) else if x1 = (2 : Int32) then ((xT σ 0)).bind (fun a5 => (xdlR σ a5 (0 : Int32)).bind (fun v6 => none)) else if x1 = (3 : Int32) then ((xT σ 0)).bind (fun a7 => (xdlR σ a7 (0 : Int32)).bind (fun v8 => none)) else if x1 = (4 : Int32) then ((xT σ 0)).bind (fun a9 => (xdlR σ a9 (0 : Int32)).bind (fun v10 => none)) else (fX0_bareTree σ).bind (fun e11 => some (e11.1, e11.2))
theorem wi_X0_tree : wInfV yX0_tree cX0_tree 2 (Option.some Jvm.ClassFile.FieldType.long) 1 := ⟨q2288, q2289, q106, q2290, (by decide +kernel), (by decide +kernel), (by decide +kernel)⟩
set_option maxHeartbeats 4000000 in
set_option maxRecDepth 100000 in
theorem r1_X0_tree {x1 : Int32} {σ : xS} {res : Int64 × xS} (hf : fX0_tree x1 σ = some res) : rl1 σ res.2 := by
  replace hf : (if (fX0_in x1 (0 : Int32) (5 : Int32)) = (0 : Int32) then some ((-2 : Int64), σ) else if (xI σ 29) = (0 : Int32) then some ((-1 : Int64), σ) else if x1 = (0 : Int32) then ((xT σ 0)).bind (fun a1 => (xdlR σ a1 (0 : Int32)).bind (fun v2 => none)) else if x1 = (1 : Int32) then ((xT σ 0)).bind (fun a3 => (xdlR σ a3 (0 : Int32)).bind (fun v4 => none)) else if x1 = (2 : Int32) then ((xT σ 0)).bind (fun a5 => (xdlR σ a5 (0 : Int32)).bind (fun v6 => none)) else if x1 = (3 : Int32) then ((xT σ 0)).bind (fun a7 => (xdlR σ a7 (0 : Int32)).bind (fun v8 => none)) else if x1 = (4 : Int32) then ((xT σ 0)).bind (fun a9 => (xdlR σ a9 (0 : Int32)).bind (fun v10 => none)) else (fX0_bareTree σ).bind (fun e11 => some (e11.1, e11.2))) = some res := hf
  by_cases c0 : (fX0_in x1 (0 : Int32) (5 : Int32)) = (0 : Int32)
  · replace hf := o_t hf c0
    obtain rfl := Option.some.inj hf
    exact rl1.rf _
  · replace hf := o_f hf c0
    by_cases c0 : (xI σ 29) = (0 : Int32)
    · replace hf := o_t hf c0
      obtain rfl := Option.some.inj hf
      exact rl1.rf _
    · replace hf := o_f hf c0
      by_cases c_25_0 : x1 = (0 : Int32)
      · replace hf := o_t hf c_25_0
        refine k_bind hf (fun a1 ha1 hf => ?_)
        refine k_bind hf (fun v2 hv2 hf => ?_)
        cases hf
      replace hf := o_f hf c_25_0
      by_cases c_25_1 : x1 = (1 : Int32)
      · replace hf := o_t hf c_25_1
        refine k_bind hf (fun a3 ha3 hf => ?_)
        refine k_bind hf (fun v4 hv4 hf => ?_)
        cases hf
      replace hf := o_f hf c_25_1
      by_cases c_25_2 : x1 = (2 : Int32)
      · replace hf := o_t hf c_25_2
        refine k_bind hf (fun a5 ha5 hf => ?_)
        refine k_bind hf (fun v6 hv6 hf => ?_)
        cases hf
      replace hf := o_f hf c_25_2
      by_cases c_25_3 : x1 = (3 : Int32)
      · replace hf := o_t hf c_25_3
        refine k_bind hf (fun a7 ha7 hf => ?_)
        refine k_bind hf (fun v8 hv8 hf => ?_)
        cases hf
      replace hf := o_f hf c_25_3
      by_cases c_25_4 : x1 = (4 : Int32)
      · replace hf := o_t hf c_25_4
        refine k_bind hf (fun a9 ha9 hf => ?_)
        refine k_bind hf (fun v10 hv10 hf => ?_)
        cases hf
      replace hf := o_f hf c_25_4
      refine k_bind hf (fun e11 he11 hf => ?_)
      refine rl1.tr (r1_X0_bareTree he11) ?_
      obtain rfl := Option.some.inj hf
      exact rl1.rf _
set_option maxHeartbeats 4000000 in
set_option maxRecDepth 100000 in
theorem met_X0_tree {l : Launch} {E : xG} {x1 : Int32} {σ : xS} {res : Int64 × xS} (hf : fX0_tree x1 σ = some res) : xMet l yX0_tree cX0_tree 2 (Option.some Jvm.ClassFile.FieldType.long) 18 531 E [.ref (xo E), .int x1] σ (some (.long res.1)) res.2 := by
  replace hf : (if (fX0_in x1 (0 : Int32) (5 : Int32)) = (0 : Int32) then some ((-2 : Int64), σ) else if (xI σ 29) = (0 : Int32) then some ((-1 : Int64), σ) else if x1 = (0 : Int32) then ((xT σ 0)).bind (fun a1 => (xdlR σ a1 (0 : Int32)).bind (fun v2 => none)) else if x1 = (1 : Int32) then ((xT σ 0)).bind (fun a3 => (xdlR σ a3 (0 : Int32)).bind (fun v4 => none)) else if x1 = (2 : Int32) then ((xT σ 0)).bind (fun a5 => (xdlR σ a5 (0 : Int32)).bind (fun v6 => none)) else if x1 = (3 : Int32) then ((xT σ 0)).bind (fun a7 => (xdlR σ a7 (0 : Int32)).bind (fun v8 => none)) else if x1 = (4 : Int32) then ((xT σ 0)).bind (fun a9 => (xdlR σ a9 (0 : Int32)).bind (fun v10 => none)) else (fX0_bareTree σ).bind (fun e11 => some (e11.1, e11.2))) = some res := hf
  refine x_start (by decide) (Nat.le_of_ble_eq_true rfl) ?_
  intro p e s m args below meth c S hnm hR hS ls hl
  obtain ⟨hx, hb, hml, hown, hts⟩ := S.1.1
  have hl : lv_has ls 2 [(0, .ref (xo E)), (1, .int x1)] := hl
  have hn : XN 0 0 (xnx σ) (xns σ) (xnx res.2) (xns res.2) σ := ⟨Nat.zero_add _, Nat.zero_add _, (r1_X0_tree (x1 := x1) (σ := σ) hf).1, (r1_X0_tree (x1 := x1) (σ := σ) hf).2⟩
  have hb9 : XB (xnx res.2) (xns res.2) res.2 := ⟨Nat.le_refl _, Nat.le_refl _⟩
  refine lv_iload_n hx hb dX0_tree_0 rfl (lv_at hl 1 rfl) ?_
  refine lv_iconst (v := 0) hx hb dX0_tree_1 (by decide) ?_
  refine lv_iconst (v := 5) hx hb dX0_tree_2 (by decide) ?_
  refine s_call (As := [.int x1, .int (0 : Int32), .int (5 : Int32)]) (rest := []) S.1.1 (met_X0_in rfl) wi_X0_in q479 ⟨rfl, rfl⟩ ⟨Nat.le_of_ble_eq_true rfl, Nat.le_of_ble_eq_true rfl⟩ rfl hl.1 rfl (Nat.le_of_ble_eq_true rfl) dX0_tree_3 hn.cs ?_
  refine lv_if_ne (tgt := 13) hx hb dX0_tree_6 (by decide) (fun c_6 => ?_) (fun c_6 => ?_)
  · replace hf := o_f hf c_6
    refine lv_aload_n hx hb dX0_tree_13 rfl (lv_at hl 0 rfl) ?_
    refine x_oget (k := 29) (v := .int (xI σ 29)) S hR (lk_X0_174 _ List.mem_cons_self) rfl dX0_tree_14 ?_
    refine lv_if_ne (tgt := 24) hx hb dX0_tree_17 (by decide) (fun c_17 => ?_) (fun c_17 => ?_)
    · replace hf := o_f hf c_17
      refine lv_iload_n hx hb dX0_tree_24 rfl (lv_at hl 1 rfl) ?_
      by_cases c_25_0 : x1 = (0 : Int32)
      · replace hf := o_t hf c_25_0
        refine lv_tableIn (tgt := 60) hx hb dX0_tree_25 (by rw [c_25_0]; decide) (by rw [c_25_0]; decide) (by rw [c_25_0]; rfl) (by decide) ?_
        refine lv_aload_n hx hb dX0_tree_60 rfl (lv_at hl 0 rfl) ?_
        refine lv_aload_n hx hb dX0_tree_61 rfl (lv_at hl 0 rfl) ?_
        refine x_oget (k := 28) (v := va_rf (xT σ 0)) S hR (lk_X0_568 _ List.mem_cons_self) rfl dX0_tree_62 ?_
        refine lv_iconst (v := 0) hx hb dX0_tree_65 (by decide) ?_
        refine k_bind hf (fun a1 ha1 hf => ?_)
        rw [rf_some ha1]
        refine k_bind hf (fun v2 hv2 hf => ?_)
        refine x_dlR S hR hv2 dX0_tree_66 ?_
        cases hf
      replace hf := o_f hf c_25_0
      by_cases c_25_1 : x1 = (1 : Int32)
      · replace hf := o_t hf c_25_1
        refine lv_tableIn (tgt := 80) hx hb dX0_tree_25 (by rw [c_25_1]; decide) (by rw [c_25_1]; decide) (by rw [c_25_1]; rfl) (by decide) ?_
        refine lv_aload_n hx hb dX0_tree_80 rfl (lv_at hl 0 rfl) ?_
        refine lv_aload_n hx hb dX0_tree_81 rfl (lv_at hl 0 rfl) ?_
        refine x_oget (k := 28) (v := va_rf (xT σ 0)) S hR (lk_X0_568 _ List.mem_cons_self) rfl dX0_tree_82 ?_
        refine lv_iconst (v := 0) hx hb dX0_tree_85 (by decide) ?_
        refine k_bind hf (fun a3 ha3 hf => ?_)
        rw [rf_some ha3]
        refine k_bind hf (fun v4 hv4 hf => ?_)
        refine x_dlR S hR hv4 dX0_tree_86 ?_
        cases hf
      replace hf := o_f hf c_25_1
      by_cases c_25_2 : x1 = (2 : Int32)
      · replace hf := o_t hf c_25_2
        refine lv_tableIn (tgt := 99) hx hb dX0_tree_25 (by rw [c_25_2]; decide) (by rw [c_25_2]; decide) (by rw [c_25_2]; rfl) (by decide) ?_
        refine lv_aload_n hx hb dX0_tree_99 rfl (lv_at hl 0 rfl) ?_
        refine lv_aload_n hx hb dX0_tree_100 rfl (lv_at hl 0 rfl) ?_
        refine x_oget (k := 28) (v := va_rf (xT σ 0)) S hR (lk_X0_568 _ List.mem_cons_self) rfl dX0_tree_101 ?_
        refine lv_iconst (v := 0) hx hb dX0_tree_104 (by decide) ?_
        refine k_bind hf (fun a5 ha5 hf => ?_)
        rw [rf_some ha5]
        refine k_bind hf (fun v6 hv6 hf => ?_)
        refine x_dlR S hR hv6 dX0_tree_105 ?_
        cases hf
      replace hf := o_f hf c_25_2
      by_cases c_25_3 : x1 = (3 : Int32)
      · replace hf := o_t hf c_25_3
        refine lv_tableIn (tgt := 118) hx hb dX0_tree_25 (by rw [c_25_3]; decide) (by rw [c_25_3]; decide) (by rw [c_25_3]; rfl) (by decide) ?_
        refine lv_aload_n hx hb dX0_tree_118 rfl (lv_at hl 0 rfl) ?_
        refine lv_aload_n hx hb dX0_tree_119 rfl (lv_at hl 0 rfl) ?_
        refine x_oget (k := 28) (v := va_rf (xT σ 0)) S hR (lk_X0_568 _ List.mem_cons_self) rfl dX0_tree_120 ?_
        refine lv_iconst (v := 0) hx hb dX0_tree_123 (by decide) ?_
        refine k_bind hf (fun a7 ha7 hf => ?_)
        rw [rf_some ha7]
        refine k_bind hf (fun v8 hv8 hf => ?_)
        refine x_dlR S hR hv8 dX0_tree_124 ?_
        cases hf
      replace hf := o_f hf c_25_3
      by_cases c_25_4 : x1 = (4 : Int32)
      · replace hf := o_t hf c_25_4
        refine lv_tableIn (tgt := 138) hx hb dX0_tree_25 (by rw [c_25_4]; decide) (by rw [c_25_4]; decide) (by rw [c_25_4]; rfl) (by decide) ?_
        refine lv_aload_n hx hb dX0_tree_138 rfl (lv_at hl 0 rfl) ?_
        refine lv_aload_n hx hb dX0_tree_139 rfl (lv_at hl 0 rfl) ?_
        refine x_oget (k := 28) (v := va_rf (xT σ 0)) S hR (lk_X0_568 _ List.mem_cons_self) rfl dX0_tree_140 ?_
        refine lv_iconst (v := 0) hx hb dX0_tree_143 (by decide) ?_
        refine k_bind hf (fun a9 ha9 hf => ?_)
        rw [rf_some ha9]
        refine k_bind hf (fun v10 hv10 hf => ?_)
        refine x_dlR S hR hv10 dX0_tree_144 ?_
        cases hf
      replace hf := o_f hf c_25_4
      refine lv_tableOut (tgt := 157) hx hb dX0_tree_25 (by have t0 := lv_neT c_25_0 (a := 0) rfl; have t1 := lv_neT c_25_1 (a := 1) rfl; have t2 := lv_neT c_25_2 (a := 2) rfl; have t3 := lv_neT c_25_3 (a := 3) rfl; have t4 := lv_neT c_25_4 (a := 4) rfl; omega) (by decide) ?_
      refine lv_aload_n hx hb dX0_tree_157 rfl (lv_at hl 0 rfl) ?_
      refine k_bind hf (fun e11 he11 hf => ?_)
      have hb_158 : XB (xnx res.2) (xns res.2) e11.2 := hb9.back (by
        obtain rfl := Option.some.inj hf
        exact rl1.rf _)
      refine x_call (C := RX0) (As := []) (rest := []) S hR hS hn (met_X0_bareTree he11) (r1_X0_bareTree he11) hb_158 wi_X0_bareTree (xrc S.2 hR (ci := 0) rfl (Or.inl ⟨rfl, rfl⟩)) rfl q2343 ⟨Nat.le_of_ble_eq_true rfl, Nat.le_of_ble_eq_true rfl⟩ rfl hl.1 rfl (Nat.le_of_ble_eq_true rfl) dX0_tree_158 (fun H locs cells slots hR hS hn => ?_)
      obtain rfl := Option.some.inj hf
      exact x_lret S hR hS hn dX0_tree_161
    · replace hf := o_t hf c_17
      refine lv_ldc2 hx hb hown (hts _ q267) dX0_tree_20 ?_
      obtain rfl := Option.some.inj hf
      exact x_lret S hR hS hn dX0_tree_23
  · replace hf := o_t hf c_6
    refine lv_ldc2 hx hb hown (hts _ q1485) dX0_tree_9 ?_
    obtain rfl := Option.some.inj hf
    exact x_lret S hR hS hn dX0_tree_12


noncomputable def fX0_lambda_tree_5 (x0 : Option Nat) (σ : xS) : Option (Int32) :=
  some (1 : Int32)
theorem wi_X0_lambda_tree_5 : wInfS yX0_lambda_tree_5 cX0_lambda_tree_5 1 (Option.some Jvm.ClassFile.FieldType.int) 1 := ⟨q2291, q106, q2292, (by decide +kernel), (by decide +kernel), (by decide +kernel)⟩
set_option maxHeartbeats 4000000 in
set_option maxRecDepth 100000 in
theorem met_X0_lambda_tree_5 {l : Launch} {E : xG} {x0 : Option Nat} {σ : xS} {res : Int32} (hf : fX0_lambda_tree_5 x0 σ = some res) : xMet l yX0_lambda_tree_5 cX0_lambda_tree_5 1 (Option.some Jvm.ClassFile.FieldType.int) 0 0 E [va_rf x0] σ (some (.int res)) σ := by
  replace hf : (some (1 : Int32)) = some res := hf
  refine x_start (by decide) (Nat.le_of_ble_eq_true rfl) ?_
  intro p e s m args below meth c S hnm hR hS ls hl
  obtain ⟨hx, hb, hml, hown, hts⟩ := S.1.1
  have hl : lv_has ls 1 [(0, va_rf x0)] := hl
  have hn : XN 0 0 (xnx σ) (xns σ) (xnx σ) (xns σ) σ := ⟨Nat.zero_add _, Nat.zero_add _, (rl1.rf σ).1, (rl1.rf σ).2⟩
  refine lv_iconst (v := 1) hx hb dX0_lambda_tree_5_0 (by decide) ?_
  obtain rfl := Option.some.inj hf
  exact x_iret S hR hS hn rfl dX0_lambda_tree_5_1

theorem lk_X23_7 : ∀ q ∈ ([(20, 0)] : List (Nat × Nat)), wLk RX23 7 q.1 q.2 := List.forall_mem_cons.mpr ⟨⟨RX23, TX23, 2, "LinesTouched$Tally", rfl, by decide, in_X23, q2306, Or.inl rfl⟩, fun _ h => absurd h List.not_mem_nil⟩
theorem pt_X23_7 : ∀ q ∈ ([(20, 0)] : List (Nat × Nat)), wLk RX23 7 q.1 q.2 ∧ wPt q.1 q.2 .int true RX23 := List.forall_mem_cons.mpr ⟨⟨⟨RX23, TX23, 2, "LinesTouched$Tally", rfl, by decide, in_X23, q2306, Or.inl rfl⟩, ⟨RX23, TX23, 2, tyX23, rfl, by decide, rfl, by decide +kernel, nmX23, tyX23_ok, fun _ => rfl⟩⟩, fun _ h => absurd h List.not_mem_nil⟩
theorem lk_X23_13 : ∀ q ∈ ([(20, 1)] : List (Nat × Nat)), wLk RX23 13 q.1 q.2 := List.forall_mem_cons.mpr ⟨⟨RX23, TX23, 2, "LinesTouched$Tally", rfl, by decide, in_X23, q2308, Or.inl rfl⟩, fun _ h => absurd h List.not_mem_nil⟩
theorem pt_X23_13 : ∀ q ∈ ([(20, 1)] : List (Nat × Nat)), wLk RX23 13 q.1 q.2 ∧ wPt q.1 q.2 .long true RX23 := List.forall_mem_cons.mpr ⟨⟨⟨RX23, TX23, 2, "LinesTouched$Tally", rfl, by decide, in_X23, q2308, Or.inl rfl⟩, ⟨RX23, TX23, 2, tyX23, rfl, by decide, rfl, by decide +kernel, nmX23, tyX23_ok, fun _ => rfl⟩⟩, fun _ h => absurd h List.not_mem_nil⟩
noncomputable def fX23_init (a : Nat) (x1 : Int32) (x2 : Int64) (σ : xS) : Option (xS) :=
  (xp σ [(20, 0)] a (.int x1)).bind (fun σ1 => (xp σ1 [(20, 1)] a (.long x2)).bind (fun σ2 => some σ2))
theorem wi_X23_init : wInfI yX23_init cX23_init 4 2 := ⟨q2303, q163, q2304, rfl, (by decide +kernel), (by decide +kernel), (by decide +kernel)⟩
set_option maxHeartbeats 4000000 in
set_option maxRecDepth 100000 in
theorem r0_X23_init {a : Nat} {x1 : Int32} {x2 : Int64} {σ : xS} {res : xS} (hf : fX23_init a x1 x2 σ = some res) : rl0 σ res := by
  replace hf : ((xp σ [(20, 0)] a (.int x1)).bind (fun σ1 => (xp σ1 [(20, 1)] a (.long x2)).bind (fun σ2 => some σ2))) = some res := hf
  refine k_bind hf (fun σ1 hσ1 hf => ?_)
  refine rl0.tr (r0_p hσ1) ?_
  refine k_bind hf (fun σ2 hσ2 hf => ?_)
  refine rl0.tr (r0_p hσ2) ?_
  obtain rfl := Option.some.inj hf
  exact rl0.rf _
set_option maxHeartbeats 4000000 in
set_option maxRecDepth 100000 in
theorem met_X23_init {l : Launch} {E : xG} {a : Nat} {x1 : Int32} {x2 : Int64} {σ : xS} {res : xS} (hf : fX23_init a x1 x2 σ = some res) : xMet l yX23_init cX23_init 4 (Option.none : Option Jvm.ClassFile.FieldType) 1 24 E [.ref a, .int x1, .long x2] σ none res := by
  replace hf : ((xp σ [(20, 0)] a (.int x1)).bind (fun σ1 => (xp σ1 [(20, 1)] a (.long x2)).bind (fun σ2 => some σ2))) = some res := hf
  refine x_start (by decide) (Nat.le_of_ble_eq_true rfl) ?_
  intro p e s m args below meth c S hnm hR hS ls hl
  obtain ⟨hx, hb, hml, hown, hts⟩ := S.1.1
  have hl : lv_has ls 4 [(0, .ref a), (1, .int x1), (2, .long x2)] := hl
  have hn : XN 0 0 (xnx σ) (xns σ) (xnx res) (xns res) σ := ⟨Nat.zero_add _, Nat.zero_add _, (r0_X23_init (a := a) (x1 := x1) (x2 := x2) (σ := σ) hf).le.1, (r0_X23_init (a := a) (x1 := x1) (x2 := x2) (σ := σ) hf).le.2⟩
  refine lv_aload_n hx hb dX23_init_0 rfl (lv_at hl 0 rfl) ?_
  refine W.objInit hx hb hown (hts _ q2305) (hts _ q175) (hts _ q176) rfl (by rw [hml]; exact hl.1) rfl dX23_init_1 (Nat.le_of_ble_eq_true rfl) (Nat.le_of_ble_eq_true rfl) ?_
  refine lv_aload_n hx hb dX23_init_4 rfl (lv_at hl 0 rfl) ?_
  refine lv_iload_n hx hb dX23_init_5 rfl (lv_at hl 1 rfl) ?_
  refine k_bind hf (fun σ1 hσ1 hf => ?_)
  refine x_putF S hnm hR hS pt_X23_7 rfl rfl hσ1 dX23_init_6 (fun H locs hR hS => ?_)
  replace hn := hn.to (r0_p hσ1)
  refine lv_aload_n hx hb dX23_init_9 rfl (lv_at hl 0 rfl) ?_
  refine lv_lload_n hx hb dX23_init_10 rfl (lv_at hl 2 rfl) ?_
  refine k_bind hf (fun σ2 hσ2 hf => ?_)
  refine x_putF S hnm hR hS pt_X23_13 rfl rfl hσ2 dX23_init_11 (fun H locs hR hS => ?_)
  replace hn := hn.to (r0_p hσ2)
  obtain rfl := Option.some.inj hf
  exact x_vret S hR hS hn dX23_init_14


noncomputable def fX0_both (x0 : Option Nat) (x1 : Option Nat) (σ : xS) : Option (Option Nat × xS) :=
  (xnw σ (.inr (20, [.int 0, .long 0])) 2).bind (fun n1 => (fX23_init n1.1 (0 : Int32) (1 : Int64) n1.2).bind (fun e2 => (xnw e2 (.inr (20, [.int 0, .long 0])) 2).bind (fun n3 => none)))
theorem wi_X0_both : wInfS yX0_both cX0_both 6 (Option.some (Jvm.ClassFile.FieldType.array (Jvm.ClassFile.FieldType.object "LinesTouched$Tally"))) 2 := ⟨q2298, q106, q2299, (by decide +kernel), (by decide +kernel), (by decide +kernel)⟩
set_option maxHeartbeats 4000000 in
set_option maxRecDepth 100000 in
theorem r1_X0_both {x0 : Option Nat} {x1 : Option Nat} {σ : xS} {res : Option Nat × xS} (hf : fX0_both x0 x1 σ = some res) : rl1 σ res.2 := by
  replace hf : ((xnw σ (.inr (20, [.int 0, .long 0])) 2).bind (fun n1 => (fX23_init n1.1 (0 : Int32) (1 : Int64) n1.2).bind (fun e2 => (xnw e2 (.inr (20, [.int 0, .long 0])) 2).bind (fun n3 => none)))) = some res := hf
  refine k_bind hf (fun n1 hn1 hf => ?_)
  refine rl1.tr (r1_nw hn1) ?_
  refine k_bind hf (fun e2 he2 hf => ?_)
  refine rl0.tr1 (r0_X23_init he2) ?_
  refine k_bind hf (fun n3 hn3 hf => ?_)
  refine rl1.tr (r1_nw hn3) ?_
  cases hf
set_option maxHeartbeats 4000000 in
set_option maxRecDepth 100000 in
theorem met_X0_both {l : Launch} {E : xG} {x0 : Option Nat} {x1 : Option Nat} {σ : xS} {res : Option Nat × xS} (hf : fX0_both x0 x1 σ = some res) : xMet l yX0_both cX0_both 6 (Option.some (Jvm.ClassFile.FieldType.array (Jvm.ClassFile.FieldType.object "LinesTouched$Tally"))) 2 47 E [va_rf x0, va_rf x1] σ (some (va_rf res.1)) res.2 := by
  replace hf : ((xnw σ (.inr (20, [.int 0, .long 0])) 2).bind (fun n1 => (fX23_init n1.1 (0 : Int32) (1 : Int64) n1.2).bind (fun e2 => (xnw e2 (.inr (20, [.int 0, .long 0])) 2).bind (fun n3 => none)))) = some res := hf
  refine x_start (by decide) (Nat.le_of_ble_eq_true rfl) ?_
  intro p e s m args below meth c S hnm hR hS ls hl
  obtain ⟨hx, hb, hml, hown, hts⟩ := S.1.1
  have hl : lv_has ls 6 [(0, va_rf x0), (1, va_rf x1)] := hl
  have hn : XN 0 0 (xnx σ) (xns σ) (xnx res.2) (xns res.2) σ := ⟨Nat.zero_add _, Nat.zero_add _, (r1_X0_both (x0 := x0) (x1 := x1) (σ := σ) hf).1, (r1_X0_both (x0 := x0) (x1 := x1) (σ := σ) hf).2⟩
  have hb9 : XB (xnx res.2) (xns res.2) res.2 := ⟨Nat.le_refl _, Nat.le_refl _⟩
  refine k_bind hf (fun n1 hn1 hf => ?_)
  have hbn1 : XB (xnx res.2) (xns res.2) n1.2 := hb9.back (by
    refine k_bind hf (fun e2 he2 hf => ?_)
    refine rl0.tr1 (r0_X23_init he2) ?_
    refine k_bind hf (fun n3 hn3 hf => ?_)
    refine rl1.tr (r1_nw hn3) ?_
    cases hf)
  refine x_newQ (T := TX23) (ty := tyX23) S hR hS hn hn1 hbn1 rfl in_X23 tyX23_ok (by decide +kernel) q2300 q2301 q163 dX0_both_0 (fun H cells slots hR hS hn => ?_)
  refine lv_dup hx hb dX0_both_3 rfl ?_
  refine lv_iconst (v := 0) hx hb dX0_both_4 (by decide) ?_
  refine lv_lconst (v := 1) hx hb dX0_both_5 (by decide) ?_
  refine k_bind hf (fun e2 he2 hf => ?_)
  refine x_callI (As := [.int (0 : Int32), .long (1 : Int64)]) (rest := [.ref n1.1]) S hR hS hn (met_X23_init he2) (r0_X23_init he2).le (hn.b (r0_X23_init he2)) wi_X23_init q2302 ⟨Nat.le_of_ble_eq_true rfl, Nat.le_of_ble_eq_true rfl⟩ rfl hl.1 rfl (Nat.le_of_ble_eq_true rfl) dX0_both_6 (fun H locs cells slots hR hS hn => ?_)
  refine x_astore_n (r := (some n1.1)) (lv' := [(2, .ref n1.1), (0, va_rf x0), (1, va_rf x1)]) hx hb dX0_both_9 rfl hl (by decide) rfl (fun ls hl => ?_)
  refine k_bind hf (fun n3 hn3 hf => ?_)
  have hbn3 : XB (xnx res.2) (xns res.2) n3.2 := hb9.back (by
    cases hf)
  refine x_newQ (T := TX23) (ty := tyX23) S hR hS hn hn3 hbn3 rfl in_X23 tyX23_ok (by decide +kernel) q2300 q2301 q163 dX0_both_10 (fun H cells slots hR hS hn => ?_)
  refine lv_dup hx hb dX0_both_13 rfl ?_
  refine x_aload_n (r := x1) hx hb dX0_both_14 rfl (lv_at hl 2 rfl) ?_
  refine x_aload_n (r := x0) hx hb dX0_both_15 rfl (lv_at hl 1 rfl) ?_
  cases hf


noncomputable def fX23_or (a : Nat) (x1 : Option Nat) (σ : xS) : Option (Option Nat × xS) :=
  (xgI σ [(20, 0)] a).bind (fun v1 => (x1).bind (fun a2 => (xgI σ [(20, 0)] a2).bind (fun v3 => if v3 ≤ v1 then (x1).bind (fun a4 => (xgI σ [(20, 0)] a4).bind (fun v5 => (xgI σ [(20, 0)] a).bind (fun v6 => if v6 ≤ v5 then (xnw σ (.inr (20, [.int 0, .long 0])) 2).bind (fun n7 => (xgI n7.2 [(20, 0)] a).bind (fun v8 => (xgJ n7.2 [(20, 1)] a).bind (fun v9 => (x1).bind (fun a10 => (xgJ n7.2 [(20, 1)] a10).bind (fun v11 => (fX23_init n7.1 v8 (v9 + v11) n7.2).bind (fun e12 => some ((some n7.1), e12))))))) else some (x1, σ)))) else some ((some a), σ))))
theorem wi_X23_or : wInfV yX23_or cX23_or 2 (Option.some (Jvm.ClassFile.FieldType.object "LinesTouched$Tally")) 1 := ⟨q2326, q2327, q163, q2328, (by decide +kernel), (by decide +kernel), (by decide +kernel)⟩
set_option maxHeartbeats 4000000 in
set_option maxRecDepth 100000 in
theorem r1_X23_or {a : Nat} {x1 : Option Nat} {σ : xS} {res : Option Nat × xS} (hf : fX23_or a x1 σ = some res) : rl1 σ res.2 := by
  replace hf : ((xgI σ [(20, 0)] a).bind (fun v1 => (x1).bind (fun a2 => (xgI σ [(20, 0)] a2).bind (fun v3 => if v3 ≤ v1 then (x1).bind (fun a4 => (xgI σ [(20, 0)] a4).bind (fun v5 => (xgI σ [(20, 0)] a).bind (fun v6 => if v6 ≤ v5 then (xnw σ (.inr (20, [.int 0, .long 0])) 2).bind (fun n7 => (xgI n7.2 [(20, 0)] a).bind (fun v8 => (xgJ n7.2 [(20, 1)] a).bind (fun v9 => (x1).bind (fun a10 => (xgJ n7.2 [(20, 1)] a10).bind (fun v11 => (fX23_init n7.1 v8 (v9 + v11) n7.2).bind (fun e12 => some ((some n7.1), e12))))))) else some (x1, σ)))) else some ((some a), σ))))) = some res := hf
  refine k_bind hf (fun v1 hv1 hf => ?_)
  refine k_bind hf (fun a2 ha2 hf => ?_)
  refine k_bind hf (fun v3 hv3 hf => ?_)
  by_cases c0 : v3 ≤ v1
  · replace hf := o_t hf c0
    refine k_bind hf (fun a4 ha4 hf => ?_)
    refine k_bind hf (fun v5 hv5 hf => ?_)
    refine k_bind hf (fun v6 hv6 hf => ?_)
    by_cases c0 : v6 ≤ v5
    · replace hf := o_t hf c0
      refine k_bind hf (fun n7 hn7 hf => ?_)
      refine rl1.tr (r1_nw hn7) ?_
      refine k_bind hf (fun v8 hv8 hf => ?_)
      refine k_bind hf (fun v9 hv9 hf => ?_)
      refine k_bind hf (fun a10 ha10 hf => ?_)
      refine k_bind hf (fun v11 hv11 hf => ?_)
      refine k_bind hf (fun e12 he12 hf => ?_)
      refine rl0.tr1 (r0_X23_init he12) ?_
      obtain rfl := Option.some.inj hf
      exact rl1.rf _
    · replace hf := o_f hf c0
      obtain rfl := Option.some.inj hf
      exact rl1.rf _
  · replace hf := o_f hf c0
    obtain rfl := Option.some.inj hf
    exact rl1.rf _
set_option maxHeartbeats 4000000 in
set_option maxRecDepth 100000 in
theorem met_X23_or {l : Launch} {E : xG} {a : Nat} {x1 : Option Nat} {σ : xS} {res : Option Nat × xS} (hf : fX23_or a x1 σ = some res) : xMet l yX23_or cX23_or 2 (Option.some (Jvm.ClassFile.FieldType.object "LinesTouched$Tally")) 2 47 E [.ref a, va_rf x1] σ (some (va_rf res.1)) res.2 := by
  replace hf : ((xgI σ [(20, 0)] a).bind (fun v1 => (x1).bind (fun a2 => (xgI σ [(20, 0)] a2).bind (fun v3 => if v3 ≤ v1 then (x1).bind (fun a4 => (xgI σ [(20, 0)] a4).bind (fun v5 => (xgI σ [(20, 0)] a).bind (fun v6 => if v6 ≤ v5 then (xnw σ (.inr (20, [.int 0, .long 0])) 2).bind (fun n7 => (xgI n7.2 [(20, 0)] a).bind (fun v8 => (xgJ n7.2 [(20, 1)] a).bind (fun v9 => (x1).bind (fun a10 => (xgJ n7.2 [(20, 1)] a10).bind (fun v11 => (fX23_init n7.1 v8 (v9 + v11) n7.2).bind (fun e12 => some ((some n7.1), e12))))))) else some (x1, σ)))) else some ((some a), σ))))) = some res := hf
  refine x_start (by decide) (Nat.le_of_ble_eq_true rfl) ?_
  intro p e s m args below meth c S hnm hR hS ls hl
  obtain ⟨hx, hb, hml, hown, hts⟩ := S.1.1
  have hl : lv_has ls 2 [(0, .ref a), (1, va_rf x1)] := hl
  have hn : XN 0 0 (xnx σ) (xns σ) (xnx res.2) (xns res.2) σ := ⟨Nat.zero_add _, Nat.zero_add _, (r1_X23_or (a := a) (x1 := x1) (σ := σ) hf).1, (r1_X23_or (a := a) (x1 := x1) (σ := σ) hf).2⟩
  have hb9 : XB (xnx res.2) (xns res.2) res.2 := ⟨Nat.le_refl _, Nat.le_refl _⟩
  refine lv_aload_n hx hb dX23_or_0 rfl (lv_at hl 0 rfl) ?_
  refine k_bind hf (fun v1 hv1 hf => ?_)
  refine x_get S hR lk_X23_7 (xgI_g hv1) dX23_or_1 ?_
  refine x_aload_n (r := x1) hx hb dX23_or_4 rfl (lv_at hl 1 rfl) ?_
  refine k_bind hf (fun a2 ha2 hf => ?_)
  rw [rf_some ha2]
  refine k_bind hf (fun v3 hv3 hf => ?_)
  refine x_get S hR lk_X23_7 (xgI_g hv3) dX23_or_5 ?_
  refine lv_icmp_ge (tgt := 15) hx hb dX23_or_8 (by decide) (fun c_8 => ?_) (fun c_8 => ?_)
  · replace hf := o_t hf c_8
    refine x_aload_n (r := x1) hx hb dX23_or_15 rfl (lv_at hl 1 rfl) ?_
    refine k_bind hf (fun a4 ha4 hf => ?_)
    rw [rf_some ha4]
    refine k_bind hf (fun v5 hv5 hf => ?_)
    refine x_get S hR lk_X23_7 (xgI_g hv5) dX23_or_16 ?_
    refine lv_aload_n hx hb dX23_or_19 rfl (lv_at hl 0 rfl) ?_
    refine k_bind hf (fun v6 hv6 hf => ?_)
    refine x_get S hR lk_X23_7 (xgI_g hv6) dX23_or_20 ?_
    refine lv_icmp_ge (tgt := 30) hx hb dX23_or_23 (by decide) (fun c_23 => ?_) (fun c_23 => ?_)
    · replace hf := o_t hf c_23
      refine k_bind hf (fun n7 hn7 hf => ?_)
      have hbn7 : XB (xnx res.2) (xns res.2) n7.2 := hb9.back (by
        refine k_bind hf (fun v8 hv8 hf => ?_)
        refine k_bind hf (fun v9 hv9 hf => ?_)
        refine k_bind hf (fun a10 ha10 hf => ?_)
        refine k_bind hf (fun v11 hv11 hf => ?_)
        refine k_bind hf (fun e12 he12 hf => ?_)
        refine rl0.tr1 (r0_X23_init he12) ?_
        obtain rfl := Option.some.inj hf
        exact rl1.rf _)
      refine x_newQ (T := TX23) (ty := tyX23) S hR hS hn hn7 hbn7 rfl in_X23 tyX23_ok (by decide +kernel) q2323 q2301 q163 dX23_or_30 (fun H cells slots hR hS hn => ?_)
      refine lv_dup hx hb dX23_or_33 rfl ?_
      refine lv_aload_n hx hb dX23_or_34 rfl (lv_at hl 0 rfl) ?_
      refine k_bind hf (fun v8 hv8 hf => ?_)
      refine x_get S hR lk_X23_7 (xgI_g hv8) dX23_or_35 ?_
      refine lv_aload_n hx hb dX23_or_38 rfl (lv_at hl 0 rfl) ?_
      refine k_bind hf (fun v9 hv9 hf => ?_)
      refine x_get S hR lk_X23_13 (xgJ_g hv9) dX23_or_39 ?_
      refine x_aload_n (r := x1) hx hb dX23_or_42 rfl (lv_at hl 1 rfl) ?_
      refine k_bind hf (fun a10 ha10 hf => ?_)
      rw [rf_some ha10]
      refine k_bind hf (fun v11 hv11 hf => ?_)
      refine x_get S hR lk_X23_13 (xgJ_g hv11) dX23_or_43 ?_
      refine lv_ladd hx hb dX23_or_46 ?_
      refine k_bind hf (fun e12 he12 hf => ?_)
      refine x_callI (As := [.int v8, .long (v9 + v11)]) (rest := [.ref n7.1]) S hR hS hn (met_X23_init he12) (r0_X23_init he12).le (hn.b (r0_X23_init he12)) wi_X23_init q2324 ⟨Nat.le_of_ble_eq_true rfl, Nat.le_of_ble_eq_true rfl⟩ rfl hl.1 rfl (Nat.le_of_ble_eq_true rfl) dX23_or_47 (fun H locs cells slots hR hS hn => ?_)
      obtain rfl := Option.some.inj hf
      exact x_aret (r := (some n7.1)) S (Or.inl ⟨_, rfl⟩) hR hS hn dX23_or_50
    · replace hf := o_f hf c_23
      refine x_aload_n (r := x1) hx hb dX23_or_26 rfl (lv_at hl 1 rfl) ?_
      refine lv_goto (tgt := 50) hx hb dX23_or_27 (by decide) ?_
      obtain rfl := Option.some.inj hf
      exact x_aret (r := x1) S (Or.inl ⟨_, rfl⟩) hR hS hn dX23_or_50
  · replace hf := o_f hf c_8
    refine lv_aload_n hx hb dX23_or_11 rfl (lv_at hl 0 rfl) ?_
    refine lv_goto (tgt := 50) hx hb dX23_or_12 (by decide) ?_
    obtain rfl := Option.some.inj hf
    exact x_aret (r := (some a)) S (Or.inl ⟨_, rfl⟩) hR hS hn dX23_or_50


noncomputable def fX0_lambda_tree_6 (x0 : Option Nat) (σ : xS) : Option (Int32) :=
  some (0 : Int32)
theorem wi_X0_lambda_tree_6 : wInfS yX0_lambda_tree_6 cX0_lambda_tree_6 1 (Option.some Jvm.ClassFile.FieldType.int) 1 := ⟨q2330, q106, q2331, (by decide +kernel), (by decide +kernel), (by decide +kernel)⟩
set_option maxHeartbeats 4000000 in
set_option maxRecDepth 100000 in
theorem met_X0_lambda_tree_6 {l : Launch} {E : xG} {x0 : Option Nat} {σ : xS} {res : Int32} (hf : fX0_lambda_tree_6 x0 σ = some res) : xMet l yX0_lambda_tree_6 cX0_lambda_tree_6 1 (Option.some Jvm.ClassFile.FieldType.int) 0 0 E [va_rf x0] σ (some (.int res)) σ := by
  replace hf : (some (0 : Int32)) = some res := hf
  refine x_start (by decide) (Nat.le_of_ble_eq_true rfl) ?_
  intro p e s m args below meth c S hnm hR hS ls hl
  obtain ⟨hx, hb, hml, hown, hts⟩ := S.1.1
  have hl : lv_has ls 1 [(0, va_rf x0)] := hl
  have hn : XN 0 0 (xnx σ) (xns σ) (xnx σ) (xns σ) σ := ⟨Nat.zero_add _, Nat.zero_add _, (rl1.rf σ).1, (rl1.rf σ).2⟩
  refine lv_iconst (v := 0) hx hb dX0_lambda_tree_6_0 (by decide) ?_
  obtain rfl := Option.some.inj hf
  exact x_iret S hR hS hn rfl dX0_lambda_tree_6_1


noncomputable def fX0_lambda_tree_7 (x0 : Option Nat) (σ : xS) : Option (Int32) :=
  some (1 : Int32)
theorem wi_X0_lambda_tree_7 : wInfS yX0_lambda_tree_7 cX0_lambda_tree_7 1 (Option.some Jvm.ClassFile.FieldType.int) 1 := ⟨q2332, q106, q2333, (by decide +kernel), (by decide +kernel), (by decide +kernel)⟩
set_option maxHeartbeats 4000000 in
set_option maxRecDepth 100000 in
theorem met_X0_lambda_tree_7 {l : Launch} {E : xG} {x0 : Option Nat} {σ : xS} {res : Int32} (hf : fX0_lambda_tree_7 x0 σ = some res) : xMet l yX0_lambda_tree_7 cX0_lambda_tree_7 1 (Option.some Jvm.ClassFile.FieldType.int) 0 0 E [va_rf x0] σ (some (.int res)) σ := by
  replace hf : (some (1 : Int32)) = some res := hf
  refine x_start (by decide) (Nat.le_of_ble_eq_true rfl) ?_
  intro p e s m args below meth c S hnm hR hS ls hl
  obtain ⟨hx, hb, hml, hown, hts⟩ := S.1.1
  have hl : lv_has ls 1 [(0, va_rf x0)] := hl
  have hn : XN 0 0 (xnx σ) (xns σ) (xnx σ) (xns σ) σ := ⟨Nat.zero_add _, Nat.zero_add _, (rl1.rf σ).1, (rl1.rf σ).2⟩
  refine lv_iconst (v := 1) hx hb dX0_lambda_tree_7_0 (by decide) ?_
  obtain rfl := Option.some.inj hf
  exact x_iret S hR hS hn rfl dX0_lambda_tree_7_1

theorem lk_X22_13 : ∀ q ∈ ([(19, 1)] : List (Nat × Nat)), wLk RX22 13 q.1 q.2 := List.forall_mem_cons.mpr ⟨⟨RX22, TX22, 7, "LinesTouched$Twig", rfl, by decide, in_X22, q2262, Or.inl rfl⟩, fun _ h => absurd h List.not_mem_nil⟩
theorem lk_X22_21 : ∀ q ∈ ([(19, 6)] : List (Nat × Nat)), wLk RX22 21 q.1 q.2 := List.forall_mem_cons.mpr ⟨⟨RX22, TX22, 7, "LinesTouched$Twig", rfl, by decide, in_X22, q2271, Or.inl rfl⟩, fun _ h => absurd h List.not_mem_nil⟩
noncomputable def fX22_cost (a : Nat) (σ : xS) : Option (Int32) :=
  (xgR σ [(19, 1)] a).bind (fun v1 => (xgI σ [(19, 6)] a).bind (fun v2 => none))
theorem wi_X22_cost : wInfV yX22_cost cX22_cost 1 (Option.some Jvm.ClassFile.FieldType.int) 0 := ⟨q2337, q2338, q162, q2339, (by decide +kernel), (by decide +kernel), (by decide +kernel)⟩
set_option maxHeartbeats 4000000 in
set_option maxRecDepth 100000 in
theorem met_X22_cost {l : Launch} {E : xG} {a : Nat} {σ : xS} {res : Int32} (hf : fX22_cost a σ = some res) : xMet l yX22_cost cX22_cost 1 (Option.some Jvm.ClassFile.FieldType.int) 0 0 E [.ref a] σ (some (.int res)) σ := by
  replace hf : ((xgR σ [(19, 1)] a).bind (fun v1 => (xgI σ [(19, 6)] a).bind (fun v2 => none))) = some res := hf
  refine x_start (by decide) (Nat.le_of_ble_eq_true rfl) ?_
  intro p e s m args below meth c S hnm hR hS ls hl
  obtain ⟨hx, hb, hml, hown, hts⟩ := S.1.1
  have hl : lv_has ls 1 [(0, .ref a)] := hl
  have hn : XN 0 0 (xnx σ) (xns σ) (xnx σ) (xns σ) σ := ⟨Nat.zero_add _, Nat.zero_add _, (rl1.rf σ).1, (rl1.rf σ).2⟩
  refine lv_aload_n hx hb dX22_cost_0 rfl (lv_at hl 0 rfl) ?_
  refine k_bind hf (fun v1 hv1 hf => ?_)
  refine x_get S hR lk_X22_13 (xgR_g hv1) dX22_cost_1 ?_
  refine lv_aload_n hx hb dX22_cost_4 rfl (lv_at hl 0 rfl) ?_
  refine k_bind hf (fun v2 hv2 hf => ?_)
  refine x_get S hR lk_X22_21 (xgI_g hv2) dX22_cost_5 ?_
  cases hf

theorem lk_X0_605 : ∀ q ∈ ([(19, 0)] : List (Nat × Nat)), wLkN RX0 605 q.1 q.2 := List.forall_mem_cons.mpr ⟨⟨RX22, TX22, 7, "LinesTouched", rfl, by decide, in_X22, q2261⟩, fun _ h => absurd h List.not_mem_nil⟩
theorem lk_X0_608 : ∀ q ∈ ([(19, 1)] : List (Nat × Nat)), wLkN RX0 608 q.1 q.2 := List.forall_mem_cons.mpr ⟨⟨RX22, TX22, 7, "LinesTouched", rfl, by decide, in_X22, q2263⟩, fun _ h => absurd h List.not_mem_nil⟩
theorem lk_X0_611 : ∀ q ∈ ([(4, 0), (5, 0), (6, 0), (7, 0), (8, 0), (9, 0)] : List (Nat × Nat)), wLk RX0 611 q.1 q.2 := List.forall_mem_cons.mpr ⟨⟨RX5, TX5, 2, "LinesTouched$Point", rfl, by decide, in_X5, q498, Or.inl rfl⟩, List.forall_mem_cons.mpr ⟨⟨RX6, TX6, 2, "LinesTouched$Point", rfl, by decide, in_X6, q498, Or.inl rfl⟩, List.forall_mem_cons.mpr ⟨⟨RX7, TX7, 2, "LinesTouched$Point", rfl, by decide, in_X7, q498, Or.inl rfl⟩, List.forall_mem_cons.mpr ⟨⟨RX8, TX8, 2, "LinesTouched$Point", rfl, by decide, in_X8, q498, Or.inl rfl⟩, List.forall_mem_cons.mpr ⟨⟨RX9, TX9, 2, "LinesTouched$Point", rfl, by decide, in_X9, q498, Or.inl rfl⟩, List.forall_mem_cons.mpr ⟨⟨RX10, TX10, 2, "LinesTouched$Point", rfl, by decide, in_X10, q498, Or.inl rfl⟩, fun _ h => absurd h List.not_mem_nil⟩⟩⟩⟩⟩⟩
noncomputable def LX0_isMarked_12 (y1 : Int32) (y2 : Option Nat) (q : Int32 × xS) : Option ((Int32 × xS) ⊕ (xS)) :=
  if q.1 ≤ (0 : Int32) then some (Sum.inr q.2) else ((xT q.2 0)).bind (fun a3 => (xdlR q.2 a3 q.1).bind (fun v4 => (v4).bind (fun a5 => (xgR q.2 [(19, 0)] a5).bind (fun v6 => (v6).bind (fun a7 => (xgR q.2 [(19, 1)] a7).bind (fun v8 => (v8).bind (fun a9 => (xgI q.2 [(4, 0), (5, 0), (6, 0), (7, 0), (8, 0), (9, 0)] a9).bind (fun v10 => (y2).bind (fun a11 => (xdl 5 q.2 a11 v10).bind (fun v12 => (y2).bind (fun a13 => (xdl 5 q.2 a13 q.1).bind (fun v14 => if v14 = (0 : Int32) then (xds 5 q.2 a11 v10 (v12 ||| (1 : Int32))).bind (fun σ17 => (some (q.1 + (-1 : Int32))).bind (fun v18 => some (Sum.inl (v18, σ17)))) else (xds 5 q.2 a11 v10 (v12 ||| (0 : Int32))).bind (fun σ15 => (some (q.1 + (-1 : Int32))).bind (fun v16 => some (Sum.inl (v16, σ15))))))))))))))))
noncomputable def fX0_isMarked (x1 : Int32) (σ : xS) : Option (Int32 × xS) :=
  (xna σ 5 (60 : Int32)).bind (fun n1 => (some ((xI n1.2 29) - (1 : Int32))).bind (fun v2 => (lpw (LX0_isMarked_12 x1 (some n1.1)) (v2, n1.2)).bind (fun b19 => (xdl 5 b19 n1.1 x1).bind (fun v20 => some ((v20 &&& 1), b19)))))
theorem wi_X0_isMarked : wInfV yX0_isMarked cX0_isMarked 5 (Option.some Jvm.ClassFile.FieldType.boolean) 1 := ⟨q2358, qs54, q106, q2359, (by decide +kernel), (by decide +kernel), (by decide +kernel)⟩
set_option maxHeartbeats 4000000 in
set_option maxRecDepth 100000 in
theorem rsLX0_isMarked_12 {y1 : Int32} {y2 : Option Nat} {q : Int32 × xS} {res : (Int32 × xS) ⊕ (xS)} (hf : LX0_isMarked_12 y1 y2 q = some res) : rl1 q.2 (Sum.elim (fun q => q.2) (fun b => b) res) := by
  replace hf : (if q.1 ≤ (0 : Int32) then some (Sum.inr q.2) else ((xT q.2 0)).bind (fun a3 => (xdlR q.2 a3 q.1).bind (fun v4 => (v4).bind (fun a5 => (xgR q.2 [(19, 0)] a5).bind (fun v6 => (v6).bind (fun a7 => (xgR q.2 [(19, 1)] a7).bind (fun v8 => (v8).bind (fun a9 => (xgI q.2 [(4, 0), (5, 0), (6, 0), (7, 0), (8, 0), (9, 0)] a9).bind (fun v10 => (y2).bind (fun a11 => (xdl 5 q.2 a11 v10).bind (fun v12 => (y2).bind (fun a13 => (xdl 5 q.2 a13 q.1).bind (fun v14 => if v14 = (0 : Int32) then (xds 5 q.2 a11 v10 (v12 ||| (1 : Int32))).bind (fun σ17 => (some (q.1 + (-1 : Int32))).bind (fun v18 => some (Sum.inl (v18, σ17)))) else (xds 5 q.2 a11 v10 (v12 ||| (0 : Int32))).bind (fun σ15 => (some (q.1 + (-1 : Int32))).bind (fun v16 => some (Sum.inl (v16, σ15))))))))))))))))) = some res := hf
  by_cases c0 : q.1 ≤ (0 : Int32)
  · replace hf := o_t hf c0
    obtain rfl := Option.some.inj hf
    exact rl1.rf _
  · replace hf := o_f hf c0
    refine k_bind hf (fun a3 ha3 hf => ?_)
    refine k_bind hf (fun v4 hv4 hf => ?_)
    refine k_bind hf (fun a5 ha5 hf => ?_)
    refine k_bind hf (fun v6 hv6 hf => ?_)
    refine k_bind hf (fun a7 ha7 hf => ?_)
    refine k_bind hf (fun v8 hv8 hf => ?_)
    refine k_bind hf (fun a9 ha9 hf => ?_)
    refine k_bind hf (fun v10 hv10 hf => ?_)
    refine k_bind hf (fun a11 ha11 hf => ?_)
    refine k_bind hf (fun v12 hv12 hf => ?_)
    refine k_bind hf (fun a13 ha13 hf => ?_)
    refine k_bind hf (fun v14 hv14 hf => ?_)
    by_cases c0 : v14 = (0 : Int32)
    · replace hf := o_t hf c0
      refine k_bind hf (fun σ17 hσ17 hf => ?_)
      refine rl0.tr1 (r0_ds hσ17) ?_
      refine k_bind hf (fun v18 hv18 hf => ?_)
      obtain rfl := Option.some.inj hf
      exact rl1.rf _
    · replace hf := o_f hf c0
      refine k_bind hf (fun σ15 hσ15 hf => ?_)
      refine rl0.tr1 (r0_ds hσ15) ?_
      refine k_bind hf (fun v16 hv16 hf => ?_)
      obtain rfl := Option.some.inj hf
      exact rl1.rf _
set_option maxHeartbeats 4000000 in
set_option maxRecDepth 100000 in
theorem rLX0_isMarked_12 {y1 : Int32} {y2 : Option Nat} {q : Int32 × xS} {b : xS} (h : lpw (LX0_isMarked_12 y1 y2) q = some b) : rl1 q.2 ((fun b => b) b) :=
  lpw_rel _ (fun q => q.2) (fun b => b) rl1 rl1.tr (fun _ _ hf => rsLX0_isMarked_12 hf) h
set_option maxHeartbeats 4000000 in
set_option maxRecDepth 100000 in
theorem r1_X0_isMarked {x1 : Int32} {σ : xS} {res : Int32 × xS} (hf : fX0_isMarked x1 σ = some res) : rl1 σ res.2 := by
  replace hf : ((xna σ 5 (60 : Int32)).bind (fun n1 => (some ((xI n1.2 29) - (1 : Int32))).bind (fun v2 => (lpw (LX0_isMarked_12 x1 (some n1.1)) (v2, n1.2)).bind (fun b19 => (xdl 5 b19 n1.1 x1).bind (fun v20 => some ((v20 &&& 1), b19)))))) = some res := hf
  refine k_bind hf (fun n1 hn1 hf => ?_)
  refine rl1.tr (r1_na hn1) ?_
  refine k_bind hf (fun v2 hv2 hf => ?_)
  refine k_bind hf (fun b19 hb19 hf => ?_)
  refine rl1.tr (rLX0_isMarked_12 hb19) ?_
  refine k_bind hf (fun v20 hv20 hf => ?_)
  obtain rfl := Option.some.inj hf
  exact rl1.rf _
set_option maxHeartbeats 4000000 in
set_option maxRecDepth 100000 in
theorem wbLX0_isMarked_12 {l : Launch} {E : xG} {p : Program} {e : Env} {s : State} {m : MethodId} {args : Array Value} {below : List Frame} {meth : Method} {c : Code} {Q : State → Prop} {n0 s0 nf sf : Nat} {y1 : Int32} {y2 : Option Nat} {q : Int32 × xS} {res : (Int32 × xS) ⊕ (xS)} (S : xSt E RX0 p m c cX0_isMarked 5 s args meth (Option.some Jvm.ClassFile.FieldType.boolean)) (hf : LX0_isMarked_12 y1 y2 q = some res) (hK : ∀ q, res = Sum.inl q → (∀ (H : Heap) (locs : List Loc) (cells slots : Nat) (ls : Array Slot), xR E q.2 H → va_S (xAA E) s.heap H locs → XN cells slots n0 s0 nf sf q.2 → lv_has ls 5 [(0, .ref (xo E)), (1, .int y1), (2, va_rf y2), (3, .int q.1)] → W p l e (xRm 0 0 (nf - n0) (sf - s0)) s m args below meth c H locs cells slots Q (F0 m 12 ls []))) (hE57 : ∀ b, res = Sum.inr b → (∀ (H : Heap) (locs : List Loc) (cells slots : Nat) (ls : Array Slot), xR E b H → va_S (xAA E) s.heap H locs → XN cells slots n0 s0 nf sf b → lv_has ls 5 [(1, .int y1), (2, va_rf y2)] → W p l e (xRm 0 0 (nf - n0) (sf - s0)) s m args below meth c H locs cells slots Q (F0 m 57 ls []))) : (∀ (H : Heap) (locs : List Loc) (cells slots : Nat) (ls : Array Slot), xR E q.2 H → va_S (xAA E) s.heap H locs → XN cells slots n0 s0 nf sf q.2 → lv_has ls 5 [(0, .ref (xo E)), (1, .int y1), (2, va_rf y2), (3, .int q.1)] → W p l e (xRm 0 0 (nf - n0) (sf - s0)) s m args below meth c H locs cells slots Q (F0 m 12 ls [])) := by
  replace hf : (if q.1 ≤ (0 : Int32) then some (Sum.inr q.2) else ((xT q.2 0)).bind (fun a3 => (xdlR q.2 a3 q.1).bind (fun v4 => (v4).bind (fun a5 => (xgR q.2 [(19, 0)] a5).bind (fun v6 => (v6).bind (fun a7 => (xgR q.2 [(19, 1)] a7).bind (fun v8 => (v8).bind (fun a9 => (xgI q.2 [(4, 0), (5, 0), (6, 0), (7, 0), (8, 0), (9, 0)] a9).bind (fun v10 => (y2).bind (fun a11 => (xdl 5 q.2 a11 v10).bind (fun v12 => (y2).bind (fun a13 => (xdl 5 q.2 a13 q.1).bind (fun v14 => if v14 = (0 : Int32) then (xds 5 q.2 a11 v10 (v12 ||| (1 : Int32))).bind (fun σ17 => (some (q.1 + (-1 : Int32))).bind (fun v18 => some (Sum.inl (v18, σ17)))) else (xds 5 q.2 a11 v10 (v12 ||| (0 : Int32))).bind (fun σ15 => (some (q.1 + (-1 : Int32))).bind (fun v16 => some (Sum.inl (v16, σ15))))))))))))))))) = some res := hf
  obtain ⟨hx, hb, hml, hown, hts⟩ := S.1.1
  intro H locs cells slots ls hR hS hn hl
  refine lv_iload_n hx hb dX0_isMarked_12 rfl (lv_at hl 3 rfl) ?_
  refine lv_if_le (tgt := 57) hx hb dX0_isMarked_13 (by decide) (fun c_13 => ?_) (fun c_13 => ?_)
  · replace hf := o_t hf c_13
    exact hE57 _ (Option.some.inj hf).symm _ _ _ _ _ hR hS hn (lv_sub (l' := [(1, .int y1), (2, va_rf y2)]) hl [1, 2] rfl)
  · replace hf := o_f hf c_13
    refine lv_aload_n hx hb dX0_isMarked_16 rfl (lv_at hl 0 rfl) ?_
    refine x_oget (k := 28) (v := va_rf (xT q.2 0)) S hR (lk_X0_568 _ List.mem_cons_self) rfl dX0_isMarked_17 ?_
    refine lv_iload_n hx hb dX0_isMarked_20 rfl (lv_at hl 3 rfl) ?_
    refine k_bind hf (fun a3 ha3 hf => ?_)
    rw [rf_some ha3]
    refine k_bind hf (fun v4 hv4 hf => ?_)
    refine x_dlR S hR hv4 dX0_isMarked_21 ?_
    refine k_bind hf (fun a5 ha5 hf => ?_)
    rw [rf_some ha5]
    refine k_bind hf (fun v6 hv6 hf => ?_)
    refine x_getN S hR lk_X0_605 (xgR_g hv6) dX0_isMarked_22 ?_
    refine k_bind hf (fun a7 ha7 hf => ?_)
    rw [rf_some ha7]
    refine k_bind hf (fun v8 hv8 hf => ?_)
    refine x_getN S hR lk_X0_608 (xgR_g hv8) dX0_isMarked_25 ?_
    refine k_bind hf (fun a9 ha9 hf => ?_)
    rw [rf_some ha9]
    refine k_bind hf (fun v10 hv10 hf => ?_)
    refine x_get S hR lk_X0_611 (xgI_g hv10) dX0_isMarked_28 ?_
    refine lv_istore (lv' := [(4, .int v10), (0, .ref (xo E)), (1, .int y1), (2, va_rf y2), (3, .int q.1)]) hx hb dX0_isMarked_31 hl (by decide) rfl (fun ls hl => ?_)
    refine x_aload_n (r := y2) hx hb dX0_isMarked_33 rfl (lv_at hl 3 rfl) ?_
    refine lv_iload hx hb dX0_isMarked_34 (lv_at hl 0 rfl) ?_
    refine lv_dup2_11 hx hb dX0_isMarked_36 rfl (rf_cat _) ?_
    refine k_bind hf (fun a11 ha11 hf => ?_)
    rw [rf_some ha11]
    refine k_bind hf (fun v12 hv12 hf => ?_)
    refine x_dl5 S hR hv12 dX0_isMarked_37 ?_
    refine x_aload_n (r := y2) hx hb dX0_isMarked_38 rfl (lv_at hl 3 rfl) ?_
    refine lv_iload_n hx hb dX0_isMarked_39 rfl (lv_at hl 4 rfl) ?_
    refine k_bind hf (fun a13 ha13 hf => ?_)
    rw [rf_some ha13]
    refine k_bind hf (fun v14 hv14 hf => ?_)
    refine x_dl5 S hR hv14 dX0_isMarked_40 ?_
    refine lv_if_ne (tgt := 48) hx hb dX0_isMarked_41 (by decide) (fun c_41 => ?_) (fun c_41 => ?_)
    · replace hf := o_f hf c_41
      refine lv_iconst (v := 0) hx hb dX0_isMarked_48 (by decide) ?_
      refine lv_ior hx hb dX0_isMarked_49 ?_
      refine k_bind hf (fun σ15 hσ15 hf => ?_)
      refine x_ds5 S hR hS hσ15 dX0_isMarked_50 (fun H locs hR hS => ?_)
      replace hn := hn.to (r0_ds hσ15)
      refine k_bind hf (fun v16 hv16 hf => ?_)
      refine lv_iinc (lv' := [(3, .int v16), (4, .int v10), (0, .ref (xo E)), (1, .int y1), (2, va_rf y2)]) hx hb dX0_isMarked_51 hl (k := 4) rfl ((m_inc (by decide)).trans (Option.some.inj hv16)) (by decide) rfl (fun ls hl => ?_)
      refine lv_goto (tgt := 12) hx hb dX0_isMarked_54 (by decide) ?_
      exact hK _ (Option.some.inj hf).symm _ _ _ _ _ hR hS hn (lv_sub (l' := [(0, .ref (xo E)), (1, .int y1), (2, va_rf y2), (3, .int v16)]) hl [2, 3, 4, 0] rfl)
    · replace hf := o_t hf c_41
      refine lv_iconst (v := 1) hx hb dX0_isMarked_44 (by decide) ?_
      refine lv_goto (tgt := 49) hx hb dX0_isMarked_45 (by decide) ?_
      refine lv_ior hx hb dX0_isMarked_49 ?_
      refine k_bind hf (fun σ17 hσ17 hf => ?_)
      refine x_ds5 S hR hS hσ17 dX0_isMarked_50 (fun H locs hR hS => ?_)
      replace hn := hn.to (r0_ds hσ17)
      refine k_bind hf (fun v18 hv18 hf => ?_)
      refine lv_iinc (lv' := [(3, .int v18), (4, .int v10), (0, .ref (xo E)), (1, .int y1), (2, va_rf y2)]) hx hb dX0_isMarked_51 hl (k := 4) rfl ((m_inc (by decide)).trans (Option.some.inj hv18)) (by decide) rfl (fun ls hl => ?_)
      refine lv_goto (tgt := 12) hx hb dX0_isMarked_54 (by decide) ?_
      exact hK _ (Option.some.inj hf).symm _ _ _ _ _ hR hS hn (lv_sub (l' := [(0, .ref (xo E)), (1, .int y1), (2, va_rf y2), (3, .int v18)]) hl [2, 3, 4, 0] rfl)
set_option maxHeartbeats 4000000 in
set_option maxRecDepth 100000 in
theorem wLX0_isMarked_12 {l : Launch} {E : xG} {p : Program} {e : Env} {s : State} {m : MethodId} {args : Array Value} {below : List Frame} {meth : Method} {c : Code} {Q : State → Prop} {n0 s0 nf sf : Nat} {y1 : Int32} {y2 : Option Nat} {q : Int32 × xS} {res : xS} (S : xSt E RX0 p m c cX0_isMarked 5 s args meth (Option.some Jvm.ClassFile.FieldType.boolean)) (h : lpw (LX0_isMarked_12 y1 y2) q = some res) (hE57 : ∀ b, res = b → (∀ (H : Heap) (locs : List Loc) (cells slots : Nat) (ls : Array Slot), xR E b H → va_S (xAA E) s.heap H locs → XN cells slots n0 s0 nf sf b → lv_has ls 5 [(1, .int y1), (2, va_rf y2)] → W p l e (xRm 0 0 (nf - n0) (sf - s0)) s m args below meth c H locs cells slots Q (F0 m 57 ls []))) : (∀ (H : Heap) (locs : List Loc) (cells slots : Nat) (ls : Array Slot), xR E q.2 H → va_S (xAA E) s.heap H locs → XN cells slots n0 s0 nf sf q.2 → lv_has ls 5 [(0, .ref (xo E)), (1, .int y1), (2, va_rf y2), (3, .int q.1)] → W p l e (xRm 0 0 (nf - n0) (sf - s0)) s m args below meth c H locs cells slots Q (F0 m 12 ls [])) :=
  lpw_go _ (fun q => (∀ (H : Heap) (locs : List Loc) (cells slots : Nat) (ls : Array Slot), xR E q.2 H → va_S (xAA E) s.heap H locs → XN cells slots n0 s0 nf sf q.2 → lv_has ls 5 [(0, .ref (xo E)), (1, .int y1), (2, va_rf y2), (3, .int q.1)] → W p l e (xRm 0 0 (nf - n0) (sf - s0)) s m args below meth c H locs cells slots Q (F0 m 12 ls []))) (fun b0 => (∀ b, b0 = b → (∀ (H : Heap) (locs : List Loc) (cells slots : Nat) (ls : Array Slot), xR E b H → va_S (xAA E) s.heap H locs → XN cells slots n0 s0 nf sf b → lv_has ls 5 [(1, .int y1), (2, va_rf y2)] → W p l e (xRm 0 0 (nf - n0) (sf - s0)) s m args below meth c H locs cells slots Q (F0 m 57 ls [])))) (fun q x hf hK hX => wbLX0_isMarked_12 S hf hK (fun b eb => (hX _ eb) b rfl)) q res h hE57
set_option maxHeartbeats 4000000 in
set_option maxRecDepth 100000 in
theorem met_X0_isMarked {l : Launch} {E : xG} {x1 : Int32} {σ : xS} {res : Int32 × xS} (hf : fX0_isMarked x1 σ = some res) : xMet l yX0_isMarked cX0_isMarked 5 (Option.some Jvm.ClassFile.FieldType.boolean) 0 0 E [.ref (xo E), .int x1] σ (some (.int res.1)) res.2 := by
  replace hf : ((xna σ 5 (60 : Int32)).bind (fun n1 => (some ((xI n1.2 29) - (1 : Int32))).bind (fun v2 => (lpw (LX0_isMarked_12 x1 (some n1.1)) (v2, n1.2)).bind (fun b19 => (xdl 5 b19 n1.1 x1).bind (fun v20 => some ((v20 &&& 1), b19)))))) = some res := hf
  refine x_start (by decide) (Nat.le_of_ble_eq_true rfl) ?_
  intro p e s m args below meth c S hnm hR hS ls hl
  obtain ⟨hx, hb, hml, hown, hts⟩ := S.1.1
  have hl : lv_has ls 5 [(0, .ref (xo E)), (1, .int x1)] := hl
  have hn : XN 0 0 (xnx σ) (xns σ) (xnx res.2) (xns res.2) σ := ⟨Nat.zero_add _, Nat.zero_add _, (r1_X0_isMarked (x1 := x1) (σ := σ) hf).1, (r1_X0_isMarked (x1 := x1) (σ := σ) hf).2⟩
  have hb9 : XB (xnx res.2) (xns res.2) res.2 := ⟨Nat.le_refl _, Nat.le_refl _⟩
  refine lv_bipush (v := 60) hx hb dX0_isMarked_0 (by decide) ?_
  refine k_bind hf (fun n1 hn1 hf => ?_)
  have hbn1 : XB (xnx res.2) (xns res.2) n1.2 := hb9.back (by
    refine k_bind hf (fun v2 hv2 hf => ?_)
    refine k_bind hf (fun b19 hb19 hf => ?_)
    refine rl1.tr (rLX0_isMarked_12 hb19) ?_
    refine k_bind hf (fun v20 hv20 hf => ?_)
    obtain rfl := Option.some.inj hf
    exact rl1.rf _)
  refine x_newa (t := 5) (atype := .boolean) S hR hS hn hn1 hbn1 rfl (by decide) (by decide) q2360 dX0_isMarked_2 (fun H cells slots hR hS hn => ?_)
  refine x_astore_n (r := (some n1.1)) (lv' := [(2, .ref n1.1), (0, .ref (xo E)), (1, .int x1)]) hx hb dX0_isMarked_4 rfl hl (by decide) rfl (fun ls hl => ?_)
  refine lv_aload_n hx hb dX0_isMarked_5 rfl (lv_at hl 1 rfl) ?_
  refine x_oget (k := 29) (v := .int (xI n1.2 29)) S hR (lk_X0_174 _ List.mem_cons_self) rfl dX0_isMarked_6 ?_
  refine lv_iconst (v := 1) hx hb dX0_isMarked_9 (by decide) ?_
  refine lv_isub hx hb dX0_isMarked_10 ?_
  refine k_bind hf (fun v2 hv2 hf => ?_)
  refine m_nmi hv2 ?_
  refine lv_istore_n (lv' := [(3, .int v2), (2, .ref n1.1), (0, .ref (xo E)), (1, .int x1)]) hx hb dX0_isMarked_11 rfl hl (by decide) rfl (fun ls hl => ?_)
  refine k_bind hf (fun b19 hb19 hf => ?_)
  refine wLX0_isMarked_12 S hb19 ?_ _ _ _ _ _ hR hS hn (lv_sub (l' := [(0, .ref (xo E)), (1, .int x1), (2, .ref n1.1), (3, .int v2)]) hl [2, 3, 1, 0] rfl)
  · intro b eb; subst eb; intro H locs cells slots ls hR hS hn hl
    refine lv_aload_n hx hb dX0_isMarked_57 rfl (lv_at hl 1 rfl) ?_
    refine lv_iload_n hx hb dX0_isMarked_58 rfl (lv_at hl 0 rfl) ?_
    refine k_bind hf (fun v20 hv20 hf => ?_)
    refine x_dl5 S hR hv20 dX0_isMarked_59 ?_
    obtain rfl := Option.some.inj hf
    exact x_iret S hR hS hn rfl dX0_isMarked_60

theorem pt_X0_115 : ∀ q ∈ ([(1, 2)] : List (Nat × Nat)), wLkN RX0 115 q.1 q.2 ∧ wPt q.1 q.2 .int false RX0 := List.forall_mem_cons.mpr ⟨⟨⟨RX1, TX1, 4, "LinesTouched", rfl, by decide, in_X1, q192⟩, ⟨RX1, TX1, 4, tyX1, rfl, by decide, rfl, by decide +kernel, nmX1, tyX1_ok, fun h => absurd h (by decide)⟩⟩, fun _ h => absurd h List.not_mem_nil⟩
noncomputable def fX0_plant (σ : xS) : Option (Int32 × xS) :=
  if (xI σ 29) = (0 : Int32) then some ((-1 : Int32), σ) else if (xI σ 29) ≤ (12 : Int32) then (xpN σ (0 : Fin 3) 2 (0 : Int32)).bind (fun σ1 => if (xI σ1 29) ≤ (0 : Int32) then some ((xI σ1 29), σ1) else ((xT σ1 0)).bind (fun a2 => (xdlR σ1 a2 (0 : Int32)).bind (fun v3 => (v3).bind (fun a4 => (xgR σ1 [(19, 1)] a4).bind (fun v5 => none))))) else some ((-3 : Int32), σ)
theorem wi_X0_plant : wInfV yX0_plant cX0_plant 4 (Option.some Jvm.ClassFile.FieldType.int) 0 := ⟨q2362, q2363, q106, q2364, (by decide +kernel), (by decide +kernel), (by decide +kernel)⟩
set_option maxHeartbeats 4000000 in
set_option maxRecDepth 100000 in
theorem r0_X0_plant {σ : xS} {res : Int32 × xS} (hf : fX0_plant σ = some res) : rl0 σ res.2 := by
  replace hf : (if (xI σ 29) = (0 : Int32) then some ((-1 : Int32), σ) else if (xI σ 29) ≤ (12 : Int32) then (xpN σ (0 : Fin 3) 2 (0 : Int32)).bind (fun σ1 => if (xI σ1 29) ≤ (0 : Int32) then some ((xI σ1 29), σ1) else ((xT σ1 0)).bind (fun a2 => (xdlR σ1 a2 (0 : Int32)).bind (fun v3 => (v3).bind (fun a4 => (xgR σ1 [(19, 1)] a4).bind (fun v5 => none))))) else some ((-3 : Int32), σ)) = some res := hf
  by_cases c0 : (xI σ 29) = (0 : Int32)
  · replace hf := o_t hf c0
    obtain rfl := Option.some.inj hf
    exact rl0.rf _
  · replace hf := o_f hf c0
    by_cases c0 : (xI σ 29) ≤ (12 : Int32)
    · replace hf := o_t hf c0
      refine k_bind hf (fun σ1 hσ1 hf => ?_)
      refine rl0.tr (r0_pN hσ1) ?_
      by_cases c0 : (xI σ1 29) ≤ (0 : Int32)
      · replace hf := o_t hf c0
        obtain rfl := Option.some.inj hf
        exact rl0.rf _
      · replace hf := o_f hf c0
        refine k_bind hf (fun a2 ha2 hf => ?_)
        refine k_bind hf (fun v3 hv3 hf => ?_)
        refine k_bind hf (fun a4 ha4 hf => ?_)
        refine k_bind hf (fun v5 hv5 hf => ?_)
        cases hf
    · replace hf := o_f hf c0
      obtain rfl := Option.some.inj hf
      exact rl0.rf _
set_option maxHeartbeats 4000000 in
set_option maxRecDepth 100000 in
theorem met_X0_plant {l : Launch} {E : xG} {σ : xS} {res : Int32 × xS} (hf : fX0_plant σ = some res) : xMet l yX0_plant cX0_plant 4 (Option.some Jvm.ClassFile.FieldType.int) 0 0 E [.ref (xo E)] σ (some (.int res.1)) res.2 := by
  replace hf : (if (xI σ 29) = (0 : Int32) then some ((-1 : Int32), σ) else if (xI σ 29) ≤ (12 : Int32) then (xpN σ (0 : Fin 3) 2 (0 : Int32)).bind (fun σ1 => if (xI σ1 29) ≤ (0 : Int32) then some ((xI σ1 29), σ1) else ((xT σ1 0)).bind (fun a2 => (xdlR σ1 a2 (0 : Int32)).bind (fun v3 => (v3).bind (fun a4 => (xgR σ1 [(19, 1)] a4).bind (fun v5 => none))))) else some ((-3 : Int32), σ)) = some res := hf
  refine x_start (by decide) (Nat.le_of_ble_eq_true rfl) ?_
  intro p e s m args below meth c S hnm hR hS ls hl
  obtain ⟨hx, hb, hml, hown, hts⟩ := S.1.1
  have hl : lv_has ls 4 [(0, .ref (xo E))] := hl
  have hn : XN 0 0 (xnx σ) (xns σ) (xnx res.2) (xns res.2) σ := ⟨Nat.zero_add _, Nat.zero_add _, (r0_X0_plant (σ := σ) hf).le.1, (r0_X0_plant (σ := σ) hf).le.2⟩
  refine lv_aload_n hx hb dX0_plant_0 rfl (lv_at hl 0 rfl) ?_
  refine x_oget (k := 29) (v := .int (xI σ 29)) S hR (lk_X0_174 _ List.mem_cons_self) rfl dX0_plant_1 ?_
  refine lv_if_ne (tgt := 9) hx hb dX0_plant_4 (by decide) (fun c_4 => ?_) (fun c_4 => ?_)
  · replace hf := o_f hf c_4
    refine lv_aload_n hx hb dX0_plant_9 rfl (lv_at hl 0 rfl) ?_
    refine x_oget (k := 29) (v := .int (xI σ 29)) S hR (lk_X0_174 _ List.mem_cons_self) rfl dX0_plant_10 ?_
    refine lv_bipush (v := 12) hx hb dX0_plant_13 (by decide) ?_
    refine lv_icmp_le (tgt := 21) hx hb dX0_plant_15 (by decide) (fun c_15 => ?_) (fun c_15 => ?_)
    · replace hf := o_t hf c_15
      refine lv_aload_n hx hb dX0_plant_21 rfl (lv_at hl 0 rfl) ?_
      refine x_oget (k := 0) (v := .ref (xnt E (0 : Fin 3))) S hR (lk_X0_10 _ List.mem_cons_self) rfl dX0_plant_22 ?_
      refine lv_iconst (v := 0) hx hb dX0_plant_25 (by decide) ?_
      refine k_bind hf (fun σ1 hσ1 hf => ?_)
      refine x_nputN (k := 2) S hR hS hσ1 (by decide) (pt_X0_115 _ List.mem_cons_self).1 (pt_X0_115 _ List.mem_cons_self).2 dX0_plant_26 (fun H locs hR hS => ?_)
      replace hn := hn.to (r0_pN hσ1)
      refine lv_iconst (v := 0) hx hb dX0_plant_29 (by decide) ?_
      refine lv_istore_n (lv' := [(1, .int (0 : Int32)), (0, .ref (xo E))]) hx hb dX0_plant_30 rfl hl (by decide) rfl (fun ls hl => ?_)
      refine lv_iload_n hx hb dX0_plant_31 rfl (lv_at hl 0 rfl) ?_
      refine lv_aload_n hx hb dX0_plant_32 rfl (lv_at hl 1 rfl) ?_
      refine x_oget (k := 29) (v := .int (xI σ1 29)) S hR (lk_X0_174 _ List.mem_cons_self) rfl dX0_plant_33 ?_
      refine lv_icmp_ge (tgt := 100) hx hb dX0_plant_36 (by decide) (fun c_36 => ?_) (fun c_36 => ?_)
      · replace hf := o_t hf c_36
        refine lv_aload_n hx hb dX0_plant_100 rfl (lv_at hl 1 rfl) ?_
        refine x_oget (k := 29) (v := .int (xI σ1 29)) S hR (lk_X0_174 _ List.mem_cons_self) rfl dX0_plant_101 ?_
        obtain rfl := Option.some.inj hf
        exact x_iret S hR hS hn rfl dX0_plant_104
      · replace hf := o_f hf c_36
        refine lv_aload_n hx hb dX0_plant_39 rfl (lv_at hl 1 rfl) ?_
        refine x_oget (k := 28) (v := va_rf (xT σ1 0)) S hR (lk_X0_568 _ List.mem_cons_self) rfl dX0_plant_40 ?_
        refine lv_iload_n hx hb dX0_plant_43 rfl (lv_at hl 0 rfl) ?_
        refine k_bind hf (fun a2 ha2 hf => ?_)
        rw [rf_some ha2]
        refine k_bind hf (fun v3 hv3 hf => ?_)
        refine x_dlR S hR hv3 dX0_plant_44 ?_
        refine x_astore_n (r := v3) (lv' := [(2, va_rf v3), (1, .int (0 : Int32)), (0, .ref (xo E))]) hx hb dX0_plant_45 rfl hl (by decide) rfl (fun ls hl => ?_)
        refine lv_aload_n hx hb dX0_plant_46 rfl (lv_at hl 2 rfl) ?_
        refine x_oget (k := 0) (v := .ref (xnt E (0 : Fin 3))) S hR (lk_X0_10 _ List.mem_cons_self) rfl dX0_plant_47 ?_
        refine x_aload_n (r := v3) hx hb dX0_plant_50 rfl (lv_at hl 0 rfl) ?_
        refine k_bind hf (fun a4 ha4 hf => ?_)
        rw [rf_some ha4]
        refine k_bind hf (fun v5 hv5 hf => ?_)
        refine x_getN S hR lk_X0_608 (xgR_g hv5) dX0_plant_51 ?_
        cases hf
    · replace hf := o_f hf c_15
      refine lv_bipush (v := -3) hx hb dX0_plant_18 (by decide) ?_
      obtain rfl := Option.some.inj hf
      exact x_iret S hR hS hn rfl dX0_plant_20
  · replace hf := o_t hf c_4
    refine lv_iconst (v := -1) hx hb dX0_plant_7 (by decide) ?_
    obtain rfl := Option.some.inj hf
    exact x_iret S hR hS hn rfl dX0_plant_8
