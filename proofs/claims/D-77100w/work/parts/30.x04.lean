/-! the component, walked: X0_crownRound X0_in X1_comes X0_point X5_init X6_init X8_init X10_init X7_init X9_init X0_made X1_isPoint X0_areTwo X1_areJoined X1_joins -/

noncomputable def fX0_crownRound (x1 : Int32) (x2 : Int32) (σ : xS) : Option (Option Nat × xS) :=
  (fX0_findsHalves x1 σ).bind (fun e1 => (fX0_with (0 : Int32) e1.2).bind (fun v2 => if v2 = (0 : Int32) then some (none, e1.2) else (xnw e1.2 (.inr (2, [.int 0, .int 0, .int 0])) 3).bind (fun n3 => (fX0_with (0 : Int32) n3.2).bind (fun v4 => (fX0_with (2 : Int32) n3.2).bind (fun v5 => (fX0_with (2 : Int32) n3.2).bind (fun v6 => (fX2_init n3.1 (3 : Int32) (v4 ||| v5) v6 n3.2).bind (fun e7 => some ((some n3.1), e7))))))))
theorem wi_X0_crownRound : wInfV yX0_crownRound cX0_crownRound 3 (Option.some (Jvm.ClassFile.FieldType.object "LinesTouched$Round")) 2 := ⟨q253, qs3, q106, q254, (by decide +kernel), (by decide +kernel), (by decide +kernel)⟩
set_option maxHeartbeats 4000000 in
set_option maxRecDepth 100000 in
theorem r1_X0_crownRound {x1 : Int32} {x2 : Int32} {σ : xS} {res : Option Nat × xS} (hf : fX0_crownRound x1 x2 σ = some res) : rl1 σ res.2 := by
  replace hf : ((fX0_findsHalves x1 σ).bind (fun e1 => (fX0_with (0 : Int32) e1.2).bind (fun v2 => if v2 = (0 : Int32) then some (none, e1.2) else (xnw e1.2 (.inr (2, [.int 0, .int 0, .int 0])) 3).bind (fun n3 => (fX0_with (0 : Int32) n3.2).bind (fun v4 => (fX0_with (2 : Int32) n3.2).bind (fun v5 => (fX0_with (2 : Int32) n3.2).bind (fun v6 => (fX2_init n3.1 (3 : Int32) (v4 ||| v5) v6 n3.2).bind (fun e7 => some ((some n3.1), e7))))))))) = some res := hf
  refine k_bind hf (fun e1 he1 hf => ?_)
  refine rl0.tr1 (r0_X0_findsHalves he1) ?_
  refine k_bind hf (fun v2 hv2 hf => ?_)
  by_cases c0 : v2 = (0 : Int32)
  · replace hf := o_t hf c0
    obtain rfl := Option.some.inj hf
    exact rl1.rf _
  · replace hf := o_f hf c0
    refine k_bind hf (fun n3 hn3 hf => ?_)
    refine rl1.tr (r1_nw hn3) ?_
    refine k_bind hf (fun v4 hv4 hf => ?_)
    refine k_bind hf (fun v5 hv5 hf => ?_)
    refine k_bind hf (fun v6 hv6 hf => ?_)
    refine k_bind hf (fun e7 he7 hf => ?_)
    refine rl0.tr1 (r0_X2_init he7) ?_
    obtain rfl := Option.some.inj hf
    exact rl1.rf _
set_option maxHeartbeats 4000000 in
set_option maxRecDepth 100000 in
theorem met_X0_crownRound {l : Launch} {E : xG} {x1 : Int32} {x2 : Int32} {σ : xS} {res : Option Nat × xS} (hf : fX0_crownRound x1 x2 σ = some res) : xMet l yX0_crownRound cX0_crownRound 3 (Option.some (Jvm.ClassFile.FieldType.object "LinesTouched$Round")) 23 536 E [.ref (xo E), .int x1, .int x2] σ (some (va_rf res.1)) res.2 := by
  replace hf : ((fX0_findsHalves x1 σ).bind (fun e1 => (fX0_with (0 : Int32) e1.2).bind (fun v2 => if v2 = (0 : Int32) then some (none, e1.2) else (xnw e1.2 (.inr (2, [.int 0, .int 0, .int 0])) 3).bind (fun n3 => (fX0_with (0 : Int32) n3.2).bind (fun v4 => (fX0_with (2 : Int32) n3.2).bind (fun v5 => (fX0_with (2 : Int32) n3.2).bind (fun v6 => (fX2_init n3.1 (3 : Int32) (v4 ||| v5) v6 n3.2).bind (fun e7 => some ((some n3.1), e7))))))))) = some res := hf
  refine x_start (by decide) (Nat.le_of_ble_eq_true rfl) ?_
  intro p e s m args below meth c S hnm hR hS ls hl
  obtain ⟨hx, hb, hml, hown, hts⟩ := S.1.1
  have hl : lv_has ls 3 [(0, .ref (xo E)), (1, .int x1), (2, .int x2)] := hl
  have hn : XN 0 0 (xnx σ) (xns σ) (xnx res.2) (xns res.2) σ := ⟨Nat.zero_add _, Nat.zero_add _, (r1_X0_crownRound (x1 := x1) (x2 := x2) (σ := σ) hf).1, (r1_X0_crownRound (x1 := x1) (x2 := x2) (σ := σ) hf).2⟩
  have hb9 : XB (xnx res.2) (xns res.2) res.2 := ⟨Nat.le_refl _, Nat.le_refl _⟩
  refine lv_aload_n hx hb dX0_crownRound_0 rfl (lv_at hl 0 rfl) ?_
  refine lv_iload_n hx hb dX0_crownRound_1 rfl (lv_at hl 1 rfl) ?_
  refine k_bind hf (fun e1 he1 hf => ?_)
  refine x_call (C := RX0) (As := [.int x1]) (rest := []) S hR hS hn (met_X0_findsHalves he1) (r0_X0_findsHalves he1).le (hn.b (r0_X0_findsHalves he1)) wi_X0_findsHalves (xrc S.2 hR (ci := 0) rfl (Or.inl ⟨rfl, rfl⟩)) rfl q255 ⟨Nat.le_of_ble_eq_true rfl, Nat.le_of_ble_eq_true rfl⟩ rfl hl.1 rfl (Nat.le_of_ble_eq_true rfl) dX0_crownRound_2 (fun H locs cells slots hR hS hn => ?_)
  refine lv_pop hx hb dX0_crownRound_5 rfl ?_
  refine lv_aload_n hx hb dX0_crownRound_6 rfl (lv_at hl 0 rfl) ?_
  refine lv_iconst (v := 0) hx hb dX0_crownRound_7 (by decide) ?_
  refine k_bind hf (fun v2 hv2 hf => ?_)
  refine x_call (C := RX0) (As := [.int (0 : Int32)]) (rest := []) S hR hS hn (met_X0_with hv2) (rl1.rf _) (hn.b (rl0.rf _)) wi_X0_with (xrc S.2 hR (ci := 0) rfl (Or.inl ⟨rfl, rfl⟩)) rfl q298 ⟨Nat.le_of_ble_eq_true rfl, Nat.le_of_ble_eq_true rfl⟩ rfl hl.1 rfl (Nat.le_of_ble_eq_true rfl) dX0_crownRound_8 (fun H locs cells slots hR hS hn => ?_)
  refine lv_if_ne (tgt := 18) hx hb dX0_crownRound_11 (by decide) (fun c_11 => ?_) (fun c_11 => ?_)
  · replace hf := o_f hf c_11
    refine k_bind hf (fun n3 hn3 hf => ?_)
    have hbn3 : XB (xnx res.2) (xns res.2) n3.2 := hb9.back (by
      refine k_bind hf (fun v4 hv4 hf => ?_)
      refine k_bind hf (fun v5 hv5 hf => ?_)
      refine k_bind hf (fun v6 hv6 hf => ?_)
      refine k_bind hf (fun e7 he7 hf => ?_)
      refine rl0.tr1 (r0_X2_init he7) ?_
      obtain rfl := Option.some.inj hf
      exact rl1.rf _)
    refine x_newQ (T := TX2) (ty := tyX2) S hR hS hn hn3 hbn3 rfl in_X2 tyX2_ok (by decide +kernel) q226 q227 q110 dX0_crownRound_18 (fun H cells slots hR hS hn => ?_)
    refine lv_dup hx hb dX0_crownRound_21 rfl ?_
    refine lv_iconst (v := 3) hx hb dX0_crownRound_22 (by decide) ?_
    refine lv_aload_n hx hb dX0_crownRound_23 rfl (lv_at hl 0 rfl) ?_
    refine lv_iconst (v := 0) hx hb dX0_crownRound_24 (by decide) ?_
    refine k_bind hf (fun v4 hv4 hf => ?_)
    refine x_call (C := RX0) (As := [.int (0 : Int32)]) (rest := [.int (3 : Int32), .ref n3.1, .ref n3.1]) S hR hS hn (met_X0_with hv4) (rl1.rf _) (hn.b (rl0.rf _)) wi_X0_with (xrc S.2 hR (ci := 0) rfl (Or.inl ⟨rfl, rfl⟩)) rfl q298 ⟨Nat.le_of_ble_eq_true rfl, Nat.le_of_ble_eq_true rfl⟩ rfl hl.1 rfl (Nat.le_of_ble_eq_true rfl) dX0_crownRound_25 (fun H locs cells slots hR hS hn => ?_)
    refine lv_aload_n hx hb dX0_crownRound_28 rfl (lv_at hl 0 rfl) ?_
    refine lv_iconst (v := 2) hx hb dX0_crownRound_29 (by decide) ?_
    refine k_bind hf (fun v5 hv5 hf => ?_)
    refine x_call (C := RX0) (As := [.int (2 : Int32)]) (rest := [.int v4, .int (3 : Int32), .ref n3.1, .ref n3.1]) S hR hS hn (met_X0_with hv5) (rl1.rf _) (hn.b (rl0.rf _)) wi_X0_with (xrc S.2 hR (ci := 0) rfl (Or.inl ⟨rfl, rfl⟩)) rfl q298 ⟨Nat.le_of_ble_eq_true rfl, Nat.le_of_ble_eq_true rfl⟩ rfl hl.1 rfl (Nat.le_of_ble_eq_true rfl) dX0_crownRound_30 (fun H locs cells slots hR hS hn => ?_)
    refine lv_ior hx hb dX0_crownRound_33 ?_
    refine lv_aload_n hx hb dX0_crownRound_34 rfl (lv_at hl 0 rfl) ?_
    refine lv_iconst (v := 2) hx hb dX0_crownRound_35 (by decide) ?_
    refine k_bind hf (fun v6 hv6 hf => ?_)
    refine x_call (C := RX0) (As := [.int (2 : Int32)]) (rest := [.int (v4 ||| v5), .int (3 : Int32), .ref n3.1, .ref n3.1]) S hR hS hn (met_X0_with hv6) (rl1.rf _) (hn.b (rl0.rf _)) wi_X0_with (xrc S.2 hR (ci := 0) rfl (Or.inl ⟨rfl, rfl⟩)) rfl q298 ⟨Nat.le_of_ble_eq_true rfl, Nat.le_of_ble_eq_true rfl⟩ rfl hl.1 rfl (Nat.le_of_ble_eq_true rfl) dX0_crownRound_36 (fun H locs cells slots hR hS hn => ?_)
    refine k_bind hf (fun e7 he7 hf => ?_)
    refine x_callI (As := [.int (3 : Int32), .int (v4 ||| v5), .int v6]) (rest := [.ref n3.1]) S hR hS hn (met_X2_init he7) (r0_X2_init he7).le (hn.b (r0_X2_init he7)) wi_X2_init q228 ⟨Nat.le_of_ble_eq_true rfl, Nat.le_of_ble_eq_true rfl⟩ rfl hl.1 rfl (Nat.le_of_ble_eq_true rfl) dX0_crownRound_39 (fun H locs cells slots hR hS hn => ?_)
    obtain rfl := Option.some.inj hf
    exact x_aret (r := (some n3.1)) S (Or.inl ⟨_, rfl⟩) hR hS hn dX0_crownRound_42
  · replace hf := o_t hf c_11
    refine lv_null hx hb dX0_crownRound_14 ?_
    refine lv_goto (tgt := 42) hx hb dX0_crownRound_15 (by decide) ?_
    obtain rfl := Option.some.inj hf
    exact x_aret (r := none) S (Or.inl ⟨_, rfl⟩) hR hS hn dX0_crownRound_42


noncomputable def fX0_in (x0 : Int32) (x1 : Int32) (x2 : Int32) : Int32 :=
  if x0 < x1 then (0 : Int32) else if x2 < x0 then (0 : Int32) else (1 : Int32)
theorem wi_X0_in : wInfS yX0_in cX0_in 3 (Option.some Jvm.ClassFile.FieldType.boolean) 3 := ⟨q480, q106, q481, (by decide +kernel), (by decide +kernel), (by decide +kernel)⟩
set_option maxHeartbeats 4000000 in
set_option maxRecDepth 100000 in
theorem met_X0_in {l : Launch} {x0 : Int32} {x1 : Int32} {x2 : Int32} {res : Int32} (hf : fX0_in x0 x1 x2 = res) : sMet l yX0_in cX0_in 3 (Option.some Jvm.ClassFile.FieldType.boolean) (mRm 0 0) [.int x0, .int x1, .int x2] (some (.int res)) := by
  replace hf : (if x0 < x1 then (0 : Int32) else if x2 < x0 then (0 : Int32) else (1 : Int32)) = res := hf
  refine s_start (by decide) (Nat.le_of_ble_eq_true rfl) ?_
  intro p e s m args below meth c S ls hl
  obtain ⟨hx, hb, hml, hown, hts⟩ := S.1
  have hl : lv_has ls 3 [(0, .int x0), (1, .int x1), (2, .int x2)] := hl
  refine lv_iload_n hx hb dX0_in_0 rfl (lv_at hl 0 rfl) ?_
  refine lv_iload_n hx hb dX0_in_1 rfl (lv_at hl 1 rfl) ?_
  refine lv_icmp_lt (tgt := 14) hx hb dX0_in_2 (by decide) (fun c_2 => ?_) (fun c_2 => ?_)
  · replace hf := o_t hf c_2
    refine lv_iconst (v := 0) hx hb dX0_in_14 (by decide) ?_
    subst hf
    exact s_iret S rfl dX0_in_15
  · replace hf := o_f hf c_2
    refine lv_iload_n hx hb dX0_in_5 rfl (lv_at hl 0 rfl) ?_
    refine lv_iload_n hx hb dX0_in_6 rfl (lv_at hl 2 rfl) ?_
    refine lv_icmp_gt (tgt := 14) hx hb dX0_in_7 (by decide) (fun c_7 => ?_) (fun c_7 => ?_)
    · replace hf := o_t hf c_7
      refine lv_iconst (v := 0) hx hb dX0_in_14 (by decide) ?_
      subst hf
      exact s_iret S rfl dX0_in_15
    · replace hf := o_f hf c_7
      refine lv_iconst (v := 1) hx hb dX0_in_10 (by decide) ?_
      refine lv_goto (tgt := 15) hx hb dX0_in_11 (by decide) ?_
      subst hf
      exact s_iret S rfl dX0_in_15

theorem lk_X1_31 : ∀ q ∈ ([(1, 2)] : List (Nat × Nat)), wLk RX1 31 q.1 q.2 := List.forall_mem_cons.mpr ⟨⟨RX1, TX1, 4, "LinesTouched$Net", rfl, by decide, in_X1, q190, Or.inl rfl⟩, fun _ h => absurd h List.not_mem_nil⟩
noncomputable def fX1_comes (j : Fin 3) (x1 : Int32) (x2 : Int32) (σ : xS) : Option (Int32) :=
  none
theorem wi_X1_comes : wInfV yX1_comes cX1_comes 3 (Option.some Jvm.ClassFile.FieldType.int) 2 := ⟨q483, q484, q107, q485, (by decide +kernel), (by decide +kernel), (by decide +kernel)⟩
set_option maxHeartbeats 4000000 in
set_option maxRecDepth 100000 in
theorem met_X1_comes {l : Launch} {E : xG} {j : Fin 3} {x1 : Int32} {x2 : Int32} {σ : xS} {res : Int32} (hf : fX1_comes j x1 x2 σ = some res) : xMet l yX1_comes cX1_comes 3 (Option.some Jvm.ClassFile.FieldType.int) 0 0 E [.ref (xnt E j), .int x1, .int x2] σ (some (.int res)) σ := by
  replace hf : none = some res := hf
  refine x_start (by decide) (Nat.le_of_ble_eq_true rfl) ?_
  intro p e s m args below meth c S hnm hR hS ls hl
  obtain ⟨hx, hb, hml, hown, hts⟩ := S.1.1
  have hl : lv_has ls 3 [(0, .ref (xnt E j)), (1, .int x1), (2, .int x2)] := hl
  have hn : XN 0 0 (xnx σ) (xns σ) (xnx σ) (xns σ) σ := ⟨Nat.zero_add _, Nat.zero_add _, (rl1.rf σ).1, (rl1.rf σ).2⟩
  refine lv_aload_n hx hb dX1_comes_0 rfl (lv_at hl 0 rfl) ?_
  refine x_nget (j := j) (k := 0) (v := .ref (xar E (10 + 2 * j.val))) S hR (lk_X1_11 _ List.mem_cons_self) rfl dX1_comes_1 ?_
  refine lv_aload_n hx hb dX1_comes_4 rfl (lv_at hl 0 rfl) ?_
  refine x_nget (j := j) (k := 2) (v := .int (xN σ j 2)) S hR (lk_X1_31 _ List.mem_cons_self) rfl dX1_comes_5 ?_
  refine lv_iload_n hx hb dX1_comes_8 rfl (lv_at hl 1 rfl) ?_
  refine lv_aload_n hx hb dX1_comes_9 rfl (lv_at hl 0 rfl) ?_
  refine x_nget (j := j) (k := 2) (v := .int (xN σ j 2)) S hR (lk_X1_31 _ List.mem_cons_self) rfl dX1_comes_10 ?_
  refine lv_iload_n hx hb dX1_comes_13 rfl (lv_at hl 2 rfl) ?_
  cases hf


noncomputable def fX0_point (x1 : Int32) (x2 : Int32) (σ : xS) : Option (Int32) :=
  if (fX0_in x1 (0 : Int32) (5 : Int32)) = (0 : Int32) then some (-2 : Int32) else if (fX0_in x2 (1 : Int32) (9 : Int32)) = (0 : Int32) then some (-2 : Int32) else if (xN σ (0 : Fin 3) 2) = (12 : Int32) then some (-4 : Int32) else (fX1_comes (0 : Fin 3) x1 x2 σ).bind (fun v1 => some v1)
theorem wi_X0_point : wInfV yX0_point cX0_point 3 (Option.some Jvm.ClassFile.FieldType.int) 2 := ⟨q476, q477, q106, q478, (by decide +kernel), (by decide +kernel), (by decide +kernel)⟩
set_option maxHeartbeats 4000000 in
set_option maxRecDepth 100000 in
theorem met_X0_point {l : Launch} {E : xG} {x1 : Int32} {x2 : Int32} {σ : xS} {res : Int32} (hf : fX0_point x1 x2 σ = some res) : xMet l yX0_point cX0_point 3 (Option.some Jvm.ClassFile.FieldType.int) 1 22 E [.ref (xo E), .int x1, .int x2] σ (some (.int res)) σ := by
  replace hf : (if (fX0_in x1 (0 : Int32) (5 : Int32)) = (0 : Int32) then some (-2 : Int32) else if (fX0_in x2 (1 : Int32) (9 : Int32)) = (0 : Int32) then some (-2 : Int32) else if (xN σ (0 : Fin 3) 2) = (12 : Int32) then some (-4 : Int32) else (fX1_comes (0 : Fin 3) x1 x2 σ).bind (fun v1 => some v1)) = some res := hf
  refine x_start (by decide) (Nat.le_of_ble_eq_true rfl) ?_
  intro p e s m args below meth c S hnm hR hS ls hl
  obtain ⟨hx, hb, hml, hown, hts⟩ := S.1.1
  have hl : lv_has ls 3 [(0, .ref (xo E)), (1, .int x1), (2, .int x2)] := hl
  have hn : XN 0 0 (xnx σ) (xns σ) (xnx σ) (xns σ) σ := ⟨Nat.zero_add _, Nat.zero_add _, (rl1.rf σ).1, (rl1.rf σ).2⟩
  refine lv_iload_n hx hb dX0_point_0 rfl (lv_at hl 1 rfl) ?_
  refine lv_iconst (v := 0) hx hb dX0_point_1 (by decide) ?_
  refine lv_iconst (v := 5) hx hb dX0_point_2 (by decide) ?_
  refine s_call (As := [.int x1, .int (0 : Int32), .int (5 : Int32)]) (rest := []) S.1.1 (met_X0_in rfl) wi_X0_in q479 ⟨rfl, rfl⟩ ⟨Nat.le_of_ble_eq_true rfl, Nat.le_of_ble_eq_true rfl⟩ rfl hl.1 rfl (Nat.le_of_ble_eq_true rfl) dX0_point_3 hn.cs ?_
  refine lv_if_eq (tgt := 19) hx hb dX0_point_6 (by decide) (fun c_6 => ?_) (fun c_6 => ?_)
  · replace hf := o_t hf c_6
    refine lv_bipush (v := -2) hx hb dX0_point_19 (by decide) ?_
    obtain rfl := Option.some.inj hf
    exact x_iret S hR hS hn rfl dX0_point_21
  · replace hf := o_f hf c_6
    refine lv_iload_n hx hb dX0_point_9 rfl (lv_at hl 2 rfl) ?_
    refine lv_iconst (v := 1) hx hb dX0_point_10 (by decide) ?_
    refine lv_bipush (v := 9) hx hb dX0_point_11 (by decide) ?_
    refine s_call (As := [.int x2, .int (1 : Int32), .int (9 : Int32)]) (rest := []) S.1.1 (met_X0_in rfl) wi_X0_in q479 ⟨rfl, rfl⟩ ⟨Nat.le_of_ble_eq_true rfl, Nat.le_of_ble_eq_true rfl⟩ rfl hl.1 rfl (Nat.le_of_ble_eq_true rfl) dX0_point_13 hn.cs ?_
    refine lv_if_ne (tgt := 22) hx hb dX0_point_16 (by decide) (fun c_16 => ?_) (fun c_16 => ?_)
    · replace hf := o_f hf c_16
      refine lv_aload_n hx hb dX0_point_22 rfl (lv_at hl 0 rfl) ?_
      refine x_oget (k := 0) (v := .ref (xnt E (0 : Fin 3))) S hR (lk_X0_10 _ List.mem_cons_self) rfl dX0_point_23 ?_
      refine x_ngetN (j := (0 : Fin 3)) (k := 2) (v := .int (xN σ (0 : Fin 3) 2)) S hR (lk_X0_115 _ List.mem_cons_self) rfl dX0_point_26 ?_
      refine lv_bipush (v := 12) hx hb dX0_point_29 (by decide) ?_
      refine lv_icmp_ne (tgt := 39) hx hb dX0_point_31 (by decide) (fun c_31 => ?_) (fun c_31 => ?_)
      · replace hf := o_f hf c_31
        refine lv_aload_n hx hb dX0_point_39 rfl (lv_at hl 0 rfl) ?_
        refine x_oget (k := 0) (v := .ref (xnt E (0 : Fin 3))) S hR (lk_X0_10 _ List.mem_cons_self) rfl dX0_point_40 ?_
        refine lv_iload_n hx hb dX0_point_43 rfl (lv_at hl 1 rfl) ?_
        refine lv_iload_n hx hb dX0_point_44 rfl (lv_at hl 2 rfl) ?_
        refine k_bind hf (fun v1 hv1 hf => ?_)
        refine x_call (C := RX1) (As := [.int x1, .int x2]) (rest := []) S hR hS hn (met_X1_comes hv1) (rl1.rf _) (hn.b (rl0.rf _)) wi_X1_comes (xrc S.2 hR (ci := 1) rfl (Or.inr (Or.inl ⟨_, rfl, rfl⟩))) rfl q482 ⟨Nat.le_of_ble_eq_true rfl, Nat.le_of_ble_eq_true rfl⟩ rfl hl.1 rfl (Nat.le_of_ble_eq_true rfl) dX0_point_45 (fun H locs cells slots hR hS hn => ?_)
        obtain rfl := Option.some.inj hf
        exact x_iret S hR hS hn rfl dX0_point_48
      · replace hf := o_t hf c_31
        refine lv_bipush (v := -4) hx hb dX0_point_34 (by decide) ?_
        refine lv_goto (tgt := 48) hx hb dX0_point_36 (by decide) ?_
        obtain rfl := Option.some.inj hf
        exact x_iret S hR hS hn rfl dX0_point_48
    · replace hf := o_t hf c_16
      refine lv_bipush (v := -2) hx hb dX0_point_19 (by decide) ?_
      obtain rfl := Option.some.inj hf
      exact x_iret S hR hS hn rfl dX0_point_21

theorem lk_X5_7 : ∀ q ∈ ([(4, 0), (5, 0), (6, 0), (7, 0), (8, 0), (9, 0)] : List (Nat × Nat)), wLk RX5 7 q.1 q.2 := List.forall_mem_cons.mpr ⟨⟨RX5, TX5, 2, "LinesTouched$Point", rfl, by decide, in_X5, q495, Or.inl rfl⟩, List.forall_mem_cons.mpr ⟨⟨RX6, TX6, 2, "LinesTouched$Point", rfl, by decide, in_X6, q495, Or.inl rfl⟩, List.forall_mem_cons.mpr ⟨⟨RX7, TX7, 2, "LinesTouched$Point", rfl, by decide, in_X7, q495, Or.inl rfl⟩, List.forall_mem_cons.mpr ⟨⟨RX8, TX8, 2, "LinesTouched$Point", rfl, by decide, in_X8, q495, Or.inl rfl⟩, List.forall_mem_cons.mpr ⟨⟨RX9, TX9, 2, "LinesTouched$Point", rfl, by decide, in_X9, q495, Or.inl rfl⟩, List.forall_mem_cons.mpr ⟨⟨RX10, TX10, 2, "LinesTouched$Point", rfl, by decide, in_X10, q495, Or.inl rfl⟩, fun _ h => absurd h List.not_mem_nil⟩⟩⟩⟩⟩⟩
theorem pt_X5_7 : ∀ q ∈ ([(4, 0), (5, 0), (6, 0), (7, 0), (8, 0), (9, 0)] : List (Nat × Nat)), wLk RX5 7 q.1 q.2 ∧ wPt q.1 q.2 .int true RX5 := List.forall_mem_cons.mpr ⟨⟨⟨RX5, TX5, 2, "LinesTouched$Point", rfl, by decide, in_X5, q495, Or.inl rfl⟩, ⟨RX5, TX5, 2, tyX5, rfl, by decide, rfl, by decide +kernel, nmX5, tyX5_ok, fun _ => rfl⟩⟩, List.forall_mem_cons.mpr ⟨⟨⟨RX6, TX6, 2, "LinesTouched$Point", rfl, by decide, in_X6, q495, Or.inl rfl⟩, ⟨RX6, TX6, 2, tyX6, rfl, by decide, rfl, by decide +kernel, nmX6, tyX6_ok, fun _ => rfl⟩⟩, List.forall_mem_cons.mpr ⟨⟨⟨RX7, TX7, 2, "LinesTouched$Point", rfl, by decide, in_X7, q495, Or.inl rfl⟩, ⟨RX7, TX7, 2, tyX7, rfl, by decide, rfl, by decide +kernel, nmX7, tyX7_ok, fun _ => rfl⟩⟩, List.forall_mem_cons.mpr ⟨⟨⟨RX8, TX8, 2, "LinesTouched$Point", rfl, by decide, in_X8, q495, Or.inl rfl⟩, ⟨RX8, TX8, 2, tyX8, rfl, by decide, rfl, by decide +kernel, nmX8, tyX8_ok, fun _ => rfl⟩⟩, List.forall_mem_cons.mpr ⟨⟨⟨RX9, TX9, 2, "LinesTouched$Point", rfl, by decide, in_X9, q495, Or.inl rfl⟩, ⟨RX9, TX9, 2, tyX9, rfl, by decide, rfl, by decide +kernel, nmX9, tyX9_ok, fun _ => rfl⟩⟩, List.forall_mem_cons.mpr ⟨⟨⟨RX10, TX10, 2, "LinesTouched$Point", rfl, by decide, in_X10, q495, Or.inl rfl⟩, ⟨RX10, TX10, 2, tyX10, rfl, by decide, rfl, by decide +kernel, nmX10, tyX10_ok, fun _ => rfl⟩⟩, fun _ h => absurd h List.not_mem_nil⟩⟩⟩⟩⟩⟩
theorem lk_X5_13 : ∀ q ∈ ([(4, 1), (5, 1), (6, 1), (7, 1), (8, 1), (9, 1)] : List (Nat × Nat)), wLk RX5 13 q.1 q.2 := List.forall_mem_cons.mpr ⟨⟨RX5, TX5, 2, "LinesTouched$Point", rfl, by decide, in_X5, q499, Or.inl rfl⟩, List.forall_mem_cons.mpr ⟨⟨RX6, TX6, 2, "LinesTouched$Point", rfl, by decide, in_X6, q499, Or.inl rfl⟩, List.forall_mem_cons.mpr ⟨⟨RX7, TX7, 2, "LinesTouched$Point", rfl, by decide, in_X7, q499, Or.inl rfl⟩, List.forall_mem_cons.mpr ⟨⟨RX8, TX8, 2, "LinesTouched$Point", rfl, by decide, in_X8, q499, Or.inl rfl⟩, List.forall_mem_cons.mpr ⟨⟨RX9, TX9, 2, "LinesTouched$Point", rfl, by decide, in_X9, q499, Or.inl rfl⟩, List.forall_mem_cons.mpr ⟨⟨RX10, TX10, 2, "LinesTouched$Point", rfl, by decide, in_X10, q499, Or.inl rfl⟩, fun _ h => absurd h List.not_mem_nil⟩⟩⟩⟩⟩⟩
theorem pt_X5_13 : ∀ q ∈ ([(4, 1), (5, 1), (6, 1), (7, 1), (8, 1), (9, 1)] : List (Nat × Nat)), wLk RX5 13 q.1 q.2 ∧ wPt q.1 q.2 .int true RX5 := List.forall_mem_cons.mpr ⟨⟨⟨RX5, TX5, 2, "LinesTouched$Point", rfl, by decide, in_X5, q499, Or.inl rfl⟩, ⟨RX5, TX5, 2, tyX5, rfl, by decide, rfl, by decide +kernel, nmX5, tyX5_ok, fun _ => rfl⟩⟩, List.forall_mem_cons.mpr ⟨⟨⟨RX6, TX6, 2, "LinesTouched$Point", rfl, by decide, in_X6, q499, Or.inl rfl⟩, ⟨RX6, TX6, 2, tyX6, rfl, by decide, rfl, by decide +kernel, nmX6, tyX6_ok, fun _ => rfl⟩⟩, List.forall_mem_cons.mpr ⟨⟨⟨RX7, TX7, 2, "LinesTouched$Point", rfl, by decide, in_X7, q499, Or.inl rfl⟩, ⟨RX7, TX7, 2, tyX7, rfl, by decide, rfl, by decide +kernel, nmX7, tyX7_ok, fun _ => rfl⟩⟩, List.forall_mem_cons.mpr ⟨⟨⟨RX8, TX8, 2, "LinesTouched$Point", rfl, by decide, in_X8, q499, Or.inl rfl⟩, ⟨RX8, TX8, 2, tyX8, rfl, by decide, rfl, by decide +kernel, nmX8, tyX8_ok, fun _ => rfl⟩⟩, List.forall_mem_cons.mpr ⟨⟨⟨RX9, TX9, 2, "LinesTouched$Point", rfl, by decide, in_X9, q499, Or.inl rfl⟩, ⟨RX9, TX9, 2, tyX9, rfl, by decide, rfl, by decide +kernel, nmX9, tyX9_ok, fun _ => rfl⟩⟩, List.forall_mem_cons.mpr ⟨⟨⟨RX10, TX10, 2, "LinesTouched$Point", rfl, by decide, in_X10, q499, Or.inl rfl⟩, ⟨RX10, TX10, 2, tyX10, rfl, by decide, rfl, by decide +kernel, nmX10, tyX10_ok, fun _ => rfl⟩⟩, fun _ h => absurd h List.not_mem_nil⟩⟩⟩⟩⟩⟩
noncomputable def fX5_init (a : Nat) (x1 : Int32) (x2 : Int32) (σ : xS) : Option (xS) :=
  (xp σ [(4, 0), (5, 0), (6, 0), (7, 0), (8, 0), (9, 0)] a (.int x1)).bind (fun σ1 => (xp σ1 [(4, 1), (5, 1), (6, 1), (7, 1), (8, 1), (9, 1)] a (.int x2)).bind (fun σ2 => some σ2))
theorem wi_X5_init : wInfI yX5_init cX5_init 3 2 := ⟨q492, q117, q493, rfl, (by decide +kernel), (by decide +kernel), (by decide +kernel)⟩
set_option maxHeartbeats 4000000 in
set_option maxRecDepth 100000 in
theorem r0_X5_init {a : Nat} {x1 : Int32} {x2 : Int32} {σ : xS} {res : xS} (hf : fX5_init a x1 x2 σ = some res) : rl0 σ res := by
  replace hf : ((xp σ [(4, 0), (5, 0), (6, 0), (7, 0), (8, 0), (9, 0)] a (.int x1)).bind (fun σ1 => (xp σ1 [(4, 1), (5, 1), (6, 1), (7, 1), (8, 1), (9, 1)] a (.int x2)).bind (fun σ2 => some σ2))) = some res := hf
  refine k_bind hf (fun σ1 hσ1 hf => ?_)
  refine rl0.tr (r0_p hσ1) ?_
  refine k_bind hf (fun σ2 hσ2 hf => ?_)
  refine rl0.tr (r0_p hσ2) ?_
  obtain rfl := Option.some.inj hf
  exact rl0.rf _
set_option maxHeartbeats 4000000 in
set_option maxRecDepth 100000 in
theorem met_X5_init {l : Launch} {E : xG} {a : Nat} {x1 : Int32} {x2 : Int32} {σ : xS} {res : xS} (hf : fX5_init a x1 x2 σ = some res) : xMet l yX5_init cX5_init 3 (Option.none : Option Jvm.ClassFile.FieldType) 1 24 E [.ref a, .int x1, .int x2] σ none res := by
  replace hf : ((xp σ [(4, 0), (5, 0), (6, 0), (7, 0), (8, 0), (9, 0)] a (.int x1)).bind (fun σ1 => (xp σ1 [(4, 1), (5, 1), (6, 1), (7, 1), (8, 1), (9, 1)] a (.int x2)).bind (fun σ2 => some σ2))) = some res := hf
  refine x_start (by decide) (Nat.le_of_ble_eq_true rfl) ?_
  intro p e s m args below meth c S hnm hR hS ls hl
  obtain ⟨hx, hb, hml, hown, hts⟩ := S.1.1
  have hl : lv_has ls 3 [(0, .ref a), (1, .int x1), (2, .int x2)] := hl
  have hn : XN 0 0 (xnx σ) (xns σ) (xnx res) (xns res) σ := ⟨Nat.zero_add _, Nat.zero_add _, (r0_X5_init (a := a) (x1 := x1) (x2 := x2) (σ := σ) hf).le.1, (r0_X5_init (a := a) (x1 := x1) (x2 := x2) (σ := σ) hf).le.2⟩
  refine lv_aload_n hx hb dX5_init_0 rfl (lv_at hl 0 rfl) ?_
  refine W.objInit hx hb hown (hts _ q494) (hts _ q175) (hts _ q176) rfl (by rw [hml]; exact hl.1) rfl dX5_init_1 (Nat.le_of_ble_eq_true rfl) (Nat.le_of_ble_eq_true rfl) ?_
  refine lv_aload_n hx hb dX5_init_4 rfl (lv_at hl 0 rfl) ?_
  refine lv_iload_n hx hb dX5_init_5 rfl (lv_at hl 1 rfl) ?_
  refine k_bind hf (fun σ1 hσ1 hf => ?_)
  refine x_putF S hnm hR hS pt_X5_7 rfl rfl hσ1 dX5_init_6 (fun H locs hR hS => ?_)
  replace hn := hn.to (r0_p hσ1)
  refine lv_aload_n hx hb dX5_init_9 rfl (lv_at hl 0 rfl) ?_
  refine lv_iload_n hx hb dX5_init_10 rfl (lv_at hl 2 rfl) ?_
  refine k_bind hf (fun σ2 hσ2 hf => ?_)
  refine x_putF S hnm hR hS pt_X5_13 rfl rfl hσ2 dX5_init_11 (fun H locs hR hS => ?_)
  replace hn := hn.to (r0_p hσ2)
  obtain rfl := Option.some.inj hf
  exact x_vret S hR hS hn dX5_init_14


noncomputable def fX6_init (a : Nat) (x1 : Int32) (x2 : Int32) (σ : xS) : Option (xS) :=
  (fX5_init a x1 x2 σ).bind (fun e1 => some e1)
theorem wi_X6_init : wInfI yX6_init cX6_init 3 2 := ⟨q509, q118, q510, rfl, (by decide +kernel), (by decide +kernel), (by decide +kernel)⟩
set_option maxHeartbeats 4000000 in
set_option maxRecDepth 100000 in
theorem r0_X6_init {a : Nat} {x1 : Int32} {x2 : Int32} {σ : xS} {res : xS} (hf : fX6_init a x1 x2 σ = some res) : rl0 σ res := by
  replace hf : ((fX5_init a x1 x2 σ).bind (fun e1 => some e1)) = some res := hf
  refine k_bind hf (fun e1 he1 hf => ?_)
  refine rl0.tr (r0_X5_init he1) ?_
  obtain rfl := Option.some.inj hf
  exact rl0.rf _
set_option maxHeartbeats 4000000 in
set_option maxRecDepth 100000 in
theorem met_X6_init {l : Launch} {E : xG} {a : Nat} {x1 : Int32} {x2 : Int32} {σ : xS} {res : xS} (hf : fX6_init a x1 x2 σ = some res) : xMet l yX6_init cX6_init 3 (Option.none : Option Jvm.ClassFile.FieldType) 2 46 E [.ref a, .int x1, .int x2] σ none res := by
  replace hf : ((fX5_init a x1 x2 σ).bind (fun e1 => some e1)) = some res := hf
  refine x_start (by decide) (Nat.le_of_ble_eq_true rfl) ?_
  intro p e s m args below meth c S hnm hR hS ls hl
  obtain ⟨hx, hb, hml, hown, hts⟩ := S.1.1
  have hl : lv_has ls 3 [(0, .ref a), (1, .int x1), (2, .int x2)] := hl
  have hn : XN 0 0 (xnx σ) (xns σ) (xnx res) (xns res) σ := ⟨Nat.zero_add _, Nat.zero_add _, (r0_X6_init (a := a) (x1 := x1) (x2 := x2) (σ := σ) hf).le.1, (r0_X6_init (a := a) (x1 := x1) (x2 := x2) (σ := σ) hf).le.2⟩
  refine lv_aload_n hx hb dX6_init_0 rfl (lv_at hl 0 rfl) ?_
  refine lv_iload_n hx hb dX6_init_1 rfl (lv_at hl 1 rfl) ?_
  refine lv_iload_n hx hb dX6_init_2 rfl (lv_at hl 2 rfl) ?_
  refine k_bind hf (fun e1 he1 hf => ?_)
  refine x_callI (As := [.int x1, .int x2]) (rest := []) S hR hS hn (met_X5_init he1) (r0_X5_init he1).le (hn.b (r0_X5_init he1)) wi_X5_init q511 ⟨Nat.le_of_ble_eq_true rfl, Nat.le_of_ble_eq_true rfl⟩ rfl hl.1 rfl (Nat.le_of_ble_eq_true rfl) dX6_init_3 (fun H locs cells slots hR hS hn => ?_)
  obtain rfl := Option.some.inj hf
  exact x_vret S hR hS hn dX6_init_6


noncomputable def fX8_init (a : Nat) (x1 : Int32) (x2 : Int32) (σ : xS) : Option (xS) :=
  (fX6_init a x1 x2 σ).bind (fun e1 => some e1)
theorem wi_X8_init : wInfI yX8_init cX8_init 3 2 := ⟨q527, q120, q528, rfl, (by decide +kernel), (by decide +kernel), (by decide +kernel)⟩
set_option maxHeartbeats 4000000 in
set_option maxRecDepth 100000 in
theorem r0_X8_init {a : Nat} {x1 : Int32} {x2 : Int32} {σ : xS} {res : xS} (hf : fX8_init a x1 x2 σ = some res) : rl0 σ res := by
  replace hf : ((fX6_init a x1 x2 σ).bind (fun e1 => some e1)) = some res := hf
  refine k_bind hf (fun e1 he1 hf => ?_)
  refine rl0.tr (r0_X6_init he1) ?_
  obtain rfl := Option.some.inj hf
  exact rl0.rf _
set_option maxHeartbeats 4000000 in
set_option maxRecDepth 100000 in
theorem met_X8_init {l : Launch} {E : xG} {a : Nat} {x1 : Int32} {x2 : Int32} {σ : xS} {res : xS} (hf : fX8_init a x1 x2 σ = some res) : xMet l yX8_init cX8_init 3 (Option.none : Option Jvm.ClassFile.FieldType) 3 68 E [.ref a, .int x1, .int x2] σ none res := by
  replace hf : ((fX6_init a x1 x2 σ).bind (fun e1 => some e1)) = some res := hf
  refine x_start (by decide) (Nat.le_of_ble_eq_true rfl) ?_
  intro p e s m args below meth c S hnm hR hS ls hl
  obtain ⟨hx, hb, hml, hown, hts⟩ := S.1.1
  have hl : lv_has ls 3 [(0, .ref a), (1, .int x1), (2, .int x2)] := hl
  have hn : XN 0 0 (xnx σ) (xns σ) (xnx res) (xns res) σ := ⟨Nat.zero_add _, Nat.zero_add _, (r0_X8_init (a := a) (x1 := x1) (x2 := x2) (σ := σ) hf).le.1, (r0_X8_init (a := a) (x1 := x1) (x2 := x2) (σ := σ) hf).le.2⟩
  refine lv_aload_n hx hb dX8_init_0 rfl (lv_at hl 0 rfl) ?_
  refine lv_iload_n hx hb dX8_init_1 rfl (lv_at hl 1 rfl) ?_
  refine lv_iload_n hx hb dX8_init_2 rfl (lv_at hl 2 rfl) ?_
  refine k_bind hf (fun e1 he1 hf => ?_)
  refine x_callI (As := [.int x1, .int x2]) (rest := []) S hR hS hn (met_X6_init he1) (r0_X6_init he1).le (hn.b (r0_X6_init he1)) wi_X6_init q529 ⟨Nat.le_of_ble_eq_true rfl, Nat.le_of_ble_eq_true rfl⟩ rfl hl.1 rfl (Nat.le_of_ble_eq_true rfl) dX8_init_3 (fun H locs cells slots hR hS hn => ?_)
  obtain rfl := Option.some.inj hf
  exact x_vret S hR hS hn dX8_init_6


noncomputable def fX10_init (a : Nat) (x1 : Int32) (x2 : Int32) (σ : xS) : Option (xS) :=
  (fX8_init a x1 x2 σ).bind (fun e1 => some e1)
theorem wi_X10_init : wInfI yX10_init cX10_init 3 2 := ⟨q545, q122, q546, rfl, (by decide +kernel), (by decide +kernel), (by decide +kernel)⟩
set_option maxHeartbeats 4000000 in
set_option maxRecDepth 100000 in
theorem r0_X10_init {a : Nat} {x1 : Int32} {x2 : Int32} {σ : xS} {res : xS} (hf : fX10_init a x1 x2 σ = some res) : rl0 σ res := by
  replace hf : ((fX8_init a x1 x2 σ).bind (fun e1 => some e1)) = some res := hf
  refine k_bind hf (fun e1 he1 hf => ?_)
  refine rl0.tr (r0_X8_init he1) ?_
  obtain rfl := Option.some.inj hf
  exact rl0.rf _
set_option maxHeartbeats 4000000 in
set_option maxRecDepth 100000 in
theorem met_X10_init {l : Launch} {E : xG} {a : Nat} {x1 : Int32} {x2 : Int32} {σ : xS} {res : xS} (hf : fX10_init a x1 x2 σ = some res) : xMet l yX10_init cX10_init 3 (Option.none : Option Jvm.ClassFile.FieldType) 4 90 E [.ref a, .int x1, .int x2] σ none res := by
  replace hf : ((fX8_init a x1 x2 σ).bind (fun e1 => some e1)) = some res := hf
  refine x_start (by decide) (Nat.le_of_ble_eq_true rfl) ?_
  intro p e s m args below meth c S hnm hR hS ls hl
  obtain ⟨hx, hb, hml, hown, hts⟩ := S.1.1
  have hl : lv_has ls 3 [(0, .ref a), (1, .int x1), (2, .int x2)] := hl
  have hn : XN 0 0 (xnx σ) (xns σ) (xnx res) (xns res) σ := ⟨Nat.zero_add _, Nat.zero_add _, (r0_X10_init (a := a) (x1 := x1) (x2 := x2) (σ := σ) hf).le.1, (r0_X10_init (a := a) (x1 := x1) (x2 := x2) (σ := σ) hf).le.2⟩
  refine lv_aload_n hx hb dX10_init_0 rfl (lv_at hl 0 rfl) ?_
  refine lv_iload_n hx hb dX10_init_1 rfl (lv_at hl 1 rfl) ?_
  refine lv_iload_n hx hb dX10_init_2 rfl (lv_at hl 2 rfl) ?_
  refine k_bind hf (fun e1 he1 hf => ?_)
  refine x_callI (As := [.int x1, .int x2]) (rest := []) S hR hS hn (met_X8_init he1) (r0_X8_init he1).le (hn.b (r0_X8_init he1)) wi_X8_init q547 ⟨Nat.le_of_ble_eq_true rfl, Nat.le_of_ble_eq_true rfl⟩ rfl hl.1 rfl (Nat.le_of_ble_eq_true rfl) dX10_init_3 (fun H locs cells slots hR hS hn => ?_)
  obtain rfl := Option.some.inj hf
  exact x_vret S hR hS hn dX10_init_6


noncomputable def fX7_init (a : Nat) (x1 : Int32) (x2 : Int32) (σ : xS) : Option (xS) :=
  (fX5_init a x1 x2 σ).bind (fun e1 => some e1)
theorem wi_X7_init : wInfI yX7_init cX7_init 3 2 := ⟨q518, q119, q519, rfl, (by decide +kernel), (by decide +kernel), (by decide +kernel)⟩
set_option maxHeartbeats 4000000 in
set_option maxRecDepth 100000 in
theorem r0_X7_init {a : Nat} {x1 : Int32} {x2 : Int32} {σ : xS} {res : xS} (hf : fX7_init a x1 x2 σ = some res) : rl0 σ res := by
  replace hf : ((fX5_init a x1 x2 σ).bind (fun e1 => some e1)) = some res := hf
  refine k_bind hf (fun e1 he1 hf => ?_)
  refine rl0.tr (r0_X5_init he1) ?_
  obtain rfl := Option.some.inj hf
  exact rl0.rf _
set_option maxHeartbeats 4000000 in
set_option maxRecDepth 100000 in
theorem met_X7_init {l : Launch} {E : xG} {a : Nat} {x1 : Int32} {x2 : Int32} {σ : xS} {res : xS} (hf : fX7_init a x1 x2 σ = some res) : xMet l yX7_init cX7_init 3 (Option.none : Option Jvm.ClassFile.FieldType) 2 46 E [.ref a, .int x1, .int x2] σ none res := by
  replace hf : ((fX5_init a x1 x2 σ).bind (fun e1 => some e1)) = some res := hf
  refine x_start (by decide) (Nat.le_of_ble_eq_true rfl) ?_
  intro p e s m args below meth c S hnm hR hS ls hl
  obtain ⟨hx, hb, hml, hown, hts⟩ := S.1.1
  have hl : lv_has ls 3 [(0, .ref a), (1, .int x1), (2, .int x2)] := hl
  have hn : XN 0 0 (xnx σ) (xns σ) (xnx res) (xns res) σ := ⟨Nat.zero_add _, Nat.zero_add _, (r0_X7_init (a := a) (x1 := x1) (x2 := x2) (σ := σ) hf).le.1, (r0_X7_init (a := a) (x1 := x1) (x2 := x2) (σ := σ) hf).le.2⟩
  refine lv_aload_n hx hb dX7_init_0 rfl (lv_at hl 0 rfl) ?_
  refine lv_iload_n hx hb dX7_init_1 rfl (lv_at hl 1 rfl) ?_
  refine lv_iload_n hx hb dX7_init_2 rfl (lv_at hl 2 rfl) ?_
  refine k_bind hf (fun e1 he1 hf => ?_)
  refine x_callI (As := [.int x1, .int x2]) (rest := []) S hR hS hn (met_X5_init he1) (r0_X5_init he1).le (hn.b (r0_X5_init he1)) wi_X5_init q520 ⟨Nat.le_of_ble_eq_true rfl, Nat.le_of_ble_eq_true rfl⟩ rfl hl.1 rfl (Nat.le_of_ble_eq_true rfl) dX7_init_3 (fun H locs cells slots hR hS hn => ?_)
  obtain rfl := Option.some.inj hf
  exact x_vret S hR hS hn dX7_init_6


noncomputable def fX9_init (a : Nat) (x1 : Int32) (x2 : Int32) (σ : xS) : Option (xS) :=
  (fX7_init a x1 x2 σ).bind (fun e1 => some e1)
theorem wi_X9_init : wInfI yX9_init cX9_init 3 2 := ⟨q536, q121, q537, rfl, (by decide +kernel), (by decide +kernel), (by decide +kernel)⟩
set_option maxHeartbeats 4000000 in
set_option maxRecDepth 100000 in
theorem r0_X9_init {a : Nat} {x1 : Int32} {x2 : Int32} {σ : xS} {res : xS} (hf : fX9_init a x1 x2 σ = some res) : rl0 σ res := by
  replace hf : ((fX7_init a x1 x2 σ).bind (fun e1 => some e1)) = some res := hf
  refine k_bind hf (fun e1 he1 hf => ?_)
  refine rl0.tr (r0_X7_init he1) ?_
  obtain rfl := Option.some.inj hf
  exact rl0.rf _
set_option maxHeartbeats 4000000 in
set_option maxRecDepth 100000 in
theorem met_X9_init {l : Launch} {E : xG} {a : Nat} {x1 : Int32} {x2 : Int32} {σ : xS} {res : xS} (hf : fX9_init a x1 x2 σ = some res) : xMet l yX9_init cX9_init 3 (Option.none : Option Jvm.ClassFile.FieldType) 3 68 E [.ref a, .int x1, .int x2] σ none res := by
  replace hf : ((fX7_init a x1 x2 σ).bind (fun e1 => some e1)) = some res := hf
  refine x_start (by decide) (Nat.le_of_ble_eq_true rfl) ?_
  intro p e s m args below meth c S hnm hR hS ls hl
  obtain ⟨hx, hb, hml, hown, hts⟩ := S.1.1
  have hl : lv_has ls 3 [(0, .ref a), (1, .int x1), (2, .int x2)] := hl
  have hn : XN 0 0 (xnx σ) (xns σ) (xnx res) (xns res) σ := ⟨Nat.zero_add _, Nat.zero_add _, (r0_X9_init (a := a) (x1 := x1) (x2 := x2) (σ := σ) hf).le.1, (r0_X9_init (a := a) (x1 := x1) (x2 := x2) (σ := σ) hf).le.2⟩
  refine lv_aload_n hx hb dX9_init_0 rfl (lv_at hl 0 rfl) ?_
  refine lv_iload_n hx hb dX9_init_1 rfl (lv_at hl 1 rfl) ?_
  refine lv_iload_n hx hb dX9_init_2 rfl (lv_at hl 2 rfl) ?_
  refine k_bind hf (fun e1 he1 hf => ?_)
  refine x_callI (As := [.int x1, .int x2]) (rest := []) S hR hS hn (met_X7_init he1) (r0_X7_init he1).le (hn.b (r0_X7_init he1)) wi_X7_init q538 ⟨Nat.le_of_ble_eq_true rfl, Nat.le_of_ble_eq_true rfl⟩ rfl hl.1 rfl (Nat.le_of_ble_eq_true rfl) dX9_init_3 (fun H locs cells slots hR hS hn => ?_)
  obtain rfl := Option.some.inj hf
  exact x_vret S hR hS hn dX9_init_6


noncomputable def fX0_made (x0 : Int32) (x1 : Int32) (x2 : Int32) (σ : xS) : Option (Option Nat × xS) :=
  if x0 = (0 : Int32) then (xnw σ (.inr (4, [.int 0, .int 0])) 2).bind (fun n1 => (fX5_init n1.1 x1 x2 n1.2).bind (fun e2 => some ((some n1.1), e2))) else if x0 = (1 : Int32) then (xnw σ (.inr (5, [.int 0, .int 0])) 2).bind (fun n3 => (fX6_init n3.1 x1 x2 n3.2).bind (fun e4 => some ((some n3.1), e4))) else if x0 = (2 : Int32) then (xnw σ (.inr (6, [.int 0, .int 0])) 2).bind (fun n5 => (fX7_init n5.1 x1 x2 n5.2).bind (fun e6 => some ((some n5.1), e6))) else if x0 = (3 : Int32) then (xnw σ (.inr (7, [.int 0, .int 0])) 2).bind (fun n7 => (fX8_init n7.1 x1 x2 n7.2).bind (fun e8 => some ((some n7.1), e8))) else if x0 = (4 : Int32) then (xnw σ (.inr (8, [.int 0, .int 0])) 2).bind (fun n9 => (fX9_init n9.1 x1 x2 n9.2).bind (fun e10 => some ((some n9.1), e10))) else (xnw σ (.inr (9, [.int 0, .int 0])) 2).bind (fun n11 => (fX10_init n11.1 x1 x2 n11.2).bind (fun e12 => some ((some n11.1), e12)))
theorem wi_X0_made : wInfS yX0_made cX0_made 3 (Option.some (Jvm.ClassFile.FieldType.object "LinesTouched$Point")) 3 := ⟨q487, q106, q488, (by decide +kernel), (by decide +kernel), (by decide +kernel)⟩
set_option maxHeartbeats 4000000 in
set_option maxRecDepth 100000 in
theorem r1_X0_made {x0 : Int32} {x1 : Int32} {x2 : Int32} {σ : xS} {res : Option Nat × xS} (hf : fX0_made x0 x1 x2 σ = some res) : rl1 σ res.2 := by
  replace hf : (if x0 = (0 : Int32) then (xnw σ (.inr (4, [.int 0, .int 0])) 2).bind (fun n1 => (fX5_init n1.1 x1 x2 n1.2).bind (fun e2 => some ((some n1.1), e2))) else if x0 = (1 : Int32) then (xnw σ (.inr (5, [.int 0, .int 0])) 2).bind (fun n3 => (fX6_init n3.1 x1 x2 n3.2).bind (fun e4 => some ((some n3.1), e4))) else if x0 = (2 : Int32) then (xnw σ (.inr (6, [.int 0, .int 0])) 2).bind (fun n5 => (fX7_init n5.1 x1 x2 n5.2).bind (fun e6 => some ((some n5.1), e6))) else if x0 = (3 : Int32) then (xnw σ (.inr (7, [.int 0, .int 0])) 2).bind (fun n7 => (fX8_init n7.1 x1 x2 n7.2).bind (fun e8 => some ((some n7.1), e8))) else if x0 = (4 : Int32) then (xnw σ (.inr (8, [.int 0, .int 0])) 2).bind (fun n9 => (fX9_init n9.1 x1 x2 n9.2).bind (fun e10 => some ((some n9.1), e10))) else (xnw σ (.inr (9, [.int 0, .int 0])) 2).bind (fun n11 => (fX10_init n11.1 x1 x2 n11.2).bind (fun e12 => some ((some n11.1), e12)))) = some res := hf
  by_cases c_1_0 : x0 = (0 : Int32)
  · replace hf := o_t hf c_1_0
    refine k_bind hf (fun n1 hn1 hf => ?_)
    refine rl1.tr (r1_nw hn1) ?_
    refine k_bind hf (fun e2 he2 hf => ?_)
    refine rl0.tr1 (r0_X5_init he2) ?_
    obtain rfl := Option.some.inj hf
    exact rl1.rf _
  replace hf := o_f hf c_1_0
  by_cases c_1_1 : x0 = (1 : Int32)
  · replace hf := o_t hf c_1_1
    refine k_bind hf (fun n3 hn3 hf => ?_)
    refine rl1.tr (r1_nw hn3) ?_
    refine k_bind hf (fun e4 he4 hf => ?_)
    refine rl0.tr1 (r0_X6_init he4) ?_
    obtain rfl := Option.some.inj hf
    exact rl1.rf _
  replace hf := o_f hf c_1_1
  by_cases c_1_2 : x0 = (2 : Int32)
  · replace hf := o_t hf c_1_2
    refine k_bind hf (fun n5 hn5 hf => ?_)
    refine rl1.tr (r1_nw hn5) ?_
    refine k_bind hf (fun e6 he6 hf => ?_)
    refine rl0.tr1 (r0_X7_init he6) ?_
    obtain rfl := Option.some.inj hf
    exact rl1.rf _
  replace hf := o_f hf c_1_2
  by_cases c_1_3 : x0 = (3 : Int32)
  · replace hf := o_t hf c_1_3
    refine k_bind hf (fun n7 hn7 hf => ?_)
    refine rl1.tr (r1_nw hn7) ?_
    refine k_bind hf (fun e8 he8 hf => ?_)
    refine rl0.tr1 (r0_X8_init he8) ?_
    obtain rfl := Option.some.inj hf
    exact rl1.rf _
  replace hf := o_f hf c_1_3
  by_cases c_1_4 : x0 = (4 : Int32)
  · replace hf := o_t hf c_1_4
    refine k_bind hf (fun n9 hn9 hf => ?_)
    refine rl1.tr (r1_nw hn9) ?_
    refine k_bind hf (fun e10 he10 hf => ?_)
    refine rl0.tr1 (r0_X9_init he10) ?_
    obtain rfl := Option.some.inj hf
    exact rl1.rf _
  replace hf := o_f hf c_1_4
  refine k_bind hf (fun n11 hn11 hf => ?_)
  refine rl1.tr (r1_nw hn11) ?_
  refine k_bind hf (fun e12 he12 hf => ?_)
  refine rl0.tr1 (r0_X10_init he12) ?_
  obtain rfl := Option.some.inj hf
  exact rl1.rf _
set_option maxHeartbeats 4000000 in
set_option maxRecDepth 100000 in
theorem met_X0_made {l : Launch} {E : xG} {x0 : Int32} {x1 : Int32} {x2 : Int32} {σ : xS} {res : Option Nat × xS} (hf : fX0_made x0 x1 x2 σ = some res) : xMet l yX0_made cX0_made 3 (Option.some (Jvm.ClassFile.FieldType.object "LinesTouched$Point")) 5 112 E [.int x0, .int x1, .int x2] σ (some (va_rf res.1)) res.2 := by
  replace hf : (if x0 = (0 : Int32) then (xnw σ (.inr (4, [.int 0, .int 0])) 2).bind (fun n1 => (fX5_init n1.1 x1 x2 n1.2).bind (fun e2 => some ((some n1.1), e2))) else if x0 = (1 : Int32) then (xnw σ (.inr (5, [.int 0, .int 0])) 2).bind (fun n3 => (fX6_init n3.1 x1 x2 n3.2).bind (fun e4 => some ((some n3.1), e4))) else if x0 = (2 : Int32) then (xnw σ (.inr (6, [.int 0, .int 0])) 2).bind (fun n5 => (fX7_init n5.1 x1 x2 n5.2).bind (fun e6 => some ((some n5.1), e6))) else if x0 = (3 : Int32) then (xnw σ (.inr (7, [.int 0, .int 0])) 2).bind (fun n7 => (fX8_init n7.1 x1 x2 n7.2).bind (fun e8 => some ((some n7.1), e8))) else if x0 = (4 : Int32) then (xnw σ (.inr (8, [.int 0, .int 0])) 2).bind (fun n9 => (fX9_init n9.1 x1 x2 n9.2).bind (fun e10 => some ((some n9.1), e10))) else (xnw σ (.inr (9, [.int 0, .int 0])) 2).bind (fun n11 => (fX10_init n11.1 x1 x2 n11.2).bind (fun e12 => some ((some n11.1), e12)))) = some res := hf
  refine x_start (by decide) (Nat.le_of_ble_eq_true rfl) ?_
  intro p e s m args below meth c S hnm hR hS ls hl
  obtain ⟨hx, hb, hml, hown, hts⟩ := S.1.1
  have hl : lv_has ls 3 [(0, .int x0), (1, .int x1), (2, .int x2)] := hl
  have hn : XN 0 0 (xnx σ) (xns σ) (xnx res.2) (xns res.2) σ := ⟨Nat.zero_add _, Nat.zero_add _, (r1_X0_made (x0 := x0) (x1 := x1) (x2 := x2) (σ := σ) hf).1, (r1_X0_made (x0 := x0) (x1 := x1) (x2 := x2) (σ := σ) hf).2⟩
  have hb9 : XB (xnx res.2) (xns res.2) res.2 := ⟨Nat.le_refl _, Nat.le_refl _⟩
  refine lv_iload_n hx hb dX0_made_0 rfl (lv_at hl 0 rfl) ?_
  by_cases c_1_0 : x0 = (0 : Int32)
  · replace hf := o_t hf c_1_0
    refine lv_tableIn (tgt := 36) hx hb dX0_made_1 (by rw [c_1_0]; decide) (by rw [c_1_0]; decide) (by rw [c_1_0]; rfl) (by decide) ?_
    refine k_bind hf (fun n1 hn1 hf => ?_)
    have hbn1 : XB (xnx res.2) (xns res.2) n1.2 := hb9.back (by
      refine k_bind hf (fun e2 he2 hf => ?_)
      refine rl0.tr1 (r0_X5_init he2) ?_
      obtain rfl := Option.some.inj hf
      exact rl1.rf _)
    refine x_newQ (T := TX5) (ty := tyX5) S hR hS hn hn1 hbn1 rfl in_X5 tyX5_ok (by decide +kernel) q489 q490 q117 dX0_made_36 (fun H cells slots hR hS hn => ?_)
    refine lv_dup hx hb dX0_made_39 rfl ?_
    refine lv_iload_n hx hb dX0_made_40 rfl (lv_at hl 1 rfl) ?_
    refine lv_iload_n hx hb dX0_made_41 rfl (lv_at hl 2 rfl) ?_
    refine k_bind hf (fun e2 he2 hf => ?_)
    refine x_callI (As := [.int x1, .int x2]) (rest := [.ref n1.1]) S hR hS hn (met_X5_init he2) (r0_X5_init he2).le (hn.b (r0_X5_init he2)) wi_X5_init q491 ⟨Nat.le_of_ble_eq_true rfl, Nat.le_of_ble_eq_true rfl⟩ rfl hl.1 rfl (Nat.le_of_ble_eq_true rfl) dX0_made_42 (fun H locs cells slots hR hS hn => ?_)
    obtain rfl := Option.some.inj hf
    exact x_aret (r := (some n1.1)) S (Or.inl ⟨_, rfl⟩) hR hS hn dX0_made_45
  replace hf := o_f hf c_1_0
  by_cases c_1_1 : x0 = (1 : Int32)
  · replace hf := o_t hf c_1_1
    refine lv_tableIn (tgt := 46) hx hb dX0_made_1 (by rw [c_1_1]; decide) (by rw [c_1_1]; decide) (by rw [c_1_1]; rfl) (by decide) ?_
    refine k_bind hf (fun n3 hn3 hf => ?_)
    have hbn3 : XB (xnx res.2) (xns res.2) n3.2 := hb9.back (by
      refine k_bind hf (fun e4 he4 hf => ?_)
      refine rl0.tr1 (r0_X6_init he4) ?_
      obtain rfl := Option.some.inj hf
      exact rl1.rf _)
    refine x_newQ (T := TX6) (ty := tyX6) S hR hS hn hn3 hbn3 rfl in_X6 tyX6_ok (by decide +kernel) q506 q507 q118 dX0_made_46 (fun H cells slots hR hS hn => ?_)
    refine lv_dup hx hb dX0_made_49 rfl ?_
    refine lv_iload_n hx hb dX0_made_50 rfl (lv_at hl 1 rfl) ?_
    refine lv_iload_n hx hb dX0_made_51 rfl (lv_at hl 2 rfl) ?_
    refine k_bind hf (fun e4 he4 hf => ?_)
    refine x_callI (As := [.int x1, .int x2]) (rest := [.ref n3.1]) S hR hS hn (met_X6_init he4) (r0_X6_init he4).le (hn.b (r0_X6_init he4)) wi_X6_init q508 ⟨Nat.le_of_ble_eq_true rfl, Nat.le_of_ble_eq_true rfl⟩ rfl hl.1 rfl (Nat.le_of_ble_eq_true rfl) dX0_made_52 (fun H locs cells slots hR hS hn => ?_)
    obtain rfl := Option.some.inj hf
    exact x_aret (r := (some n3.1)) S (Or.inl ⟨_, rfl⟩) hR hS hn dX0_made_55
  replace hf := o_f hf c_1_1
  by_cases c_1_2 : x0 = (2 : Int32)
  · replace hf := o_t hf c_1_2
    refine lv_tableIn (tgt := 56) hx hb dX0_made_1 (by rw [c_1_2]; decide) (by rw [c_1_2]; decide) (by rw [c_1_2]; rfl) (by decide) ?_
    refine k_bind hf (fun n5 hn5 hf => ?_)
    have hbn5 : XB (xnx res.2) (xns res.2) n5.2 := hb9.back (by
      refine k_bind hf (fun e6 he6 hf => ?_)
      refine rl0.tr1 (r0_X7_init he6) ?_
      obtain rfl := Option.some.inj hf
      exact rl1.rf _)
    refine x_newQ (T := TX7) (ty := tyX7) S hR hS hn hn5 hbn5 rfl in_X7 tyX7_ok (by decide +kernel) q515 q516 q119 dX0_made_56 (fun H cells slots hR hS hn => ?_)
    refine lv_dup hx hb dX0_made_59 rfl ?_
    refine lv_iload_n hx hb dX0_made_60 rfl (lv_at hl 1 rfl) ?_
    refine lv_iload_n hx hb dX0_made_61 rfl (lv_at hl 2 rfl) ?_
    refine k_bind hf (fun e6 he6 hf => ?_)
    refine x_callI (As := [.int x1, .int x2]) (rest := [.ref n5.1]) S hR hS hn (met_X7_init he6) (r0_X7_init he6).le (hn.b (r0_X7_init he6)) wi_X7_init q517 ⟨Nat.le_of_ble_eq_true rfl, Nat.le_of_ble_eq_true rfl⟩ rfl hl.1 rfl (Nat.le_of_ble_eq_true rfl) dX0_made_62 (fun H locs cells slots hR hS hn => ?_)
    obtain rfl := Option.some.inj hf
    exact x_aret (r := (some n5.1)) S (Or.inl ⟨_, rfl⟩) hR hS hn dX0_made_65
  replace hf := o_f hf c_1_2
  by_cases c_1_3 : x0 = (3 : Int32)
  · replace hf := o_t hf c_1_3
    refine lv_tableIn (tgt := 66) hx hb dX0_made_1 (by rw [c_1_3]; decide) (by rw [c_1_3]; decide) (by rw [c_1_3]; rfl) (by decide) ?_
    refine k_bind hf (fun n7 hn7 hf => ?_)
    have hbn7 : XB (xnx res.2) (xns res.2) n7.2 := hb9.back (by
      refine k_bind hf (fun e8 he8 hf => ?_)
      refine rl0.tr1 (r0_X8_init he8) ?_
      obtain rfl := Option.some.inj hf
      exact rl1.rf _)
    refine x_newQ (T := TX8) (ty := tyX8) S hR hS hn hn7 hbn7 rfl in_X8 tyX8_ok (by decide +kernel) q524 q525 q120 dX0_made_66 (fun H cells slots hR hS hn => ?_)
    refine lv_dup hx hb dX0_made_69 rfl ?_
    refine lv_iload_n hx hb dX0_made_70 rfl (lv_at hl 1 rfl) ?_
    refine lv_iload_n hx hb dX0_made_71 rfl (lv_at hl 2 rfl) ?_
    refine k_bind hf (fun e8 he8 hf => ?_)
    refine x_callI (As := [.int x1, .int x2]) (rest := [.ref n7.1]) S hR hS hn (met_X8_init he8) (r0_X8_init he8).le (hn.b (r0_X8_init he8)) wi_X8_init q526 ⟨Nat.le_of_ble_eq_true rfl, Nat.le_of_ble_eq_true rfl⟩ rfl hl.1 rfl (Nat.le_of_ble_eq_true rfl) dX0_made_72 (fun H locs cells slots hR hS hn => ?_)
    obtain rfl := Option.some.inj hf
    exact x_aret (r := (some n7.1)) S (Or.inl ⟨_, rfl⟩) hR hS hn dX0_made_75
  replace hf := o_f hf c_1_3
  by_cases c_1_4 : x0 = (4 : Int32)
  · replace hf := o_t hf c_1_4
    refine lv_tableIn (tgt := 76) hx hb dX0_made_1 (by rw [c_1_4]; decide) (by rw [c_1_4]; decide) (by rw [c_1_4]; rfl) (by decide) ?_
    refine k_bind hf (fun n9 hn9 hf => ?_)
    have hbn9 : XB (xnx res.2) (xns res.2) n9.2 := hb9.back (by
      refine k_bind hf (fun e10 he10 hf => ?_)
      refine rl0.tr1 (r0_X9_init he10) ?_
      obtain rfl := Option.some.inj hf
      exact rl1.rf _)
    refine x_newQ (T := TX9) (ty := tyX9) S hR hS hn hn9 hbn9 rfl in_X9 tyX9_ok (by decide +kernel) q533 q534 q121 dX0_made_76 (fun H cells slots hR hS hn => ?_)
    refine lv_dup hx hb dX0_made_79 rfl ?_
    refine lv_iload_n hx hb dX0_made_80 rfl (lv_at hl 1 rfl) ?_
    refine lv_iload_n hx hb dX0_made_81 rfl (lv_at hl 2 rfl) ?_
    refine k_bind hf (fun e10 he10 hf => ?_)
    refine x_callI (As := [.int x1, .int x2]) (rest := [.ref n9.1]) S hR hS hn (met_X9_init he10) (r0_X9_init he10).le (hn.b (r0_X9_init he10)) wi_X9_init q535 ⟨Nat.le_of_ble_eq_true rfl, Nat.le_of_ble_eq_true rfl⟩ rfl hl.1 rfl (Nat.le_of_ble_eq_true rfl) dX0_made_82 (fun H locs cells slots hR hS hn => ?_)
    obtain rfl := Option.some.inj hf
    exact x_aret (r := (some n9.1)) S (Or.inl ⟨_, rfl⟩) hR hS hn dX0_made_85
  replace hf := o_f hf c_1_4
  refine lv_tableOut (tgt := 86) hx hb dX0_made_1 (by have t0 := lv_neT c_1_0 (a := 0) rfl; have t1 := lv_neT c_1_1 (a := 1) rfl; have t2 := lv_neT c_1_2 (a := 2) rfl; have t3 := lv_neT c_1_3 (a := 3) rfl; have t4 := lv_neT c_1_4 (a := 4) rfl; omega) (by decide) ?_
  refine k_bind hf (fun n11 hn11 hf => ?_)
  have hbn11 : XB (xnx res.2) (xns res.2) n11.2 := hb9.back (by
    refine k_bind hf (fun e12 he12 hf => ?_)
    refine rl0.tr1 (r0_X10_init he12) ?_
    obtain rfl := Option.some.inj hf
    exact rl1.rf _)
  refine x_newQ (T := TX10) (ty := tyX10) S hR hS hn hn11 hbn11 rfl in_X10 tyX10_ok (by decide +kernel) q542 q543 q122 dX0_made_86 (fun H cells slots hR hS hn => ?_)
  refine lv_dup hx hb dX0_made_89 rfl ?_
  refine lv_iload_n hx hb dX0_made_90 rfl (lv_at hl 1 rfl) ?_
  refine lv_iload_n hx hb dX0_made_91 rfl (lv_at hl 2 rfl) ?_
  refine k_bind hf (fun e12 he12 hf => ?_)
  refine x_callI (As := [.int x1, .int x2]) (rest := [.ref n11.1]) S hR hS hn (met_X10_init he12) (r0_X10_init he12).le (hn.b (r0_X10_init he12)) wi_X10_init q544 ⟨Nat.le_of_ble_eq_true rfl, Nat.le_of_ble_eq_true rfl⟩ rfl hl.1 rfl (Nat.le_of_ble_eq_true rfl) dX0_made_92 (fun H locs cells slots hR hS hn => ?_)
  obtain rfl := Option.some.inj hf
  exact x_aret (r := (some n11.1)) S (Or.inl ⟨_, rfl⟩) hR hS hn dX0_made_95


noncomputable def fX1_isPoint (j : Fin 3) (x1 : Int32) (σ : xS) : Option (Int32) :=
  some ((fX0_in x1 (0 : Int32) ((xN σ j 2) - (1 : Int32))) &&& 1)
theorem wi_X1_isPoint : wInfV yX1_isPoint cX1_isPoint 2 (Option.some Jvm.ClassFile.FieldType.boolean) 1 := ⟨q560, q561, q107, q562, (by decide +kernel), (by decide +kernel), (by decide +kernel)⟩
set_option maxHeartbeats 4000000 in
set_option maxRecDepth 100000 in
theorem met_X1_isPoint {l : Launch} {E : xG} {j : Fin 3} {x1 : Int32} {σ : xS} {res : Int32} (hf : fX1_isPoint j x1 σ = some res) : xMet l yX1_isPoint cX1_isPoint 2 (Option.some Jvm.ClassFile.FieldType.boolean) 1 22 E [.ref (xnt E j), .int x1] σ (some (.int res)) σ := by
  replace hf : (some ((fX0_in x1 (0 : Int32) ((xN σ j 2) - (1 : Int32))) &&& 1)) = some res := hf
  refine x_start (by decide) (Nat.le_of_ble_eq_true rfl) ?_
  intro p e s m args below meth c S hnm hR hS ls hl
  obtain ⟨hx, hb, hml, hown, hts⟩ := S.1.1
  have hl : lv_has ls 2 [(0, .ref (xnt E j)), (1, .int x1)] := hl
  have hn : XN 0 0 (xnx σ) (xns σ) (xnx σ) (xns σ) σ := ⟨Nat.zero_add _, Nat.zero_add _, (rl1.rf σ).1, (rl1.rf σ).2⟩
  refine lv_iload_n hx hb dX1_isPoint_0 rfl (lv_at hl 1 rfl) ?_
  refine lv_iconst (v := 0) hx hb dX1_isPoint_1 (by decide) ?_
  refine lv_aload_n hx hb dX1_isPoint_2 rfl (lv_at hl 0 rfl) ?_
  refine x_nget (j := j) (k := 2) (v := .int (xN σ j 2)) S hR (lk_X1_31 _ List.mem_cons_self) rfl dX1_isPoint_3 ?_
  refine lv_iconst (v := 1) hx hb dX1_isPoint_6 (by decide) ?_
  refine lv_isub hx hb dX1_isPoint_7 ?_
  refine s_callN (As := [.int x1, .int (0 : Int32), .int ((xN σ j 2) - (1 : Int32))]) (rest := []) S.1.1 S.2.2.1 (met_X0_in rfl) wi_X0_in q563 ⟨rfl, rfl⟩ ⟨Nat.le_of_ble_eq_true rfl, Nat.le_of_ble_eq_true rfl⟩ rfl hl.1 rfl (Nat.le_of_ble_eq_true rfl) dX1_isPoint_8 hn.cs ?_
  obtain rfl := Option.some.inj hf
  exact x_iret S hR hS hn rfl dX1_isPoint_11


noncomputable def fX0_areTwo (x1 : Int32) (x2 : Int32) (σ : xS) : Option (Int32) :=
  (fX1_isPoint (0 : Fin 3) x1 σ).bind (fun v1 => if v1 = (0 : Int32) then some (0 : Int32) else (fX1_isPoint (0 : Fin 3) x2 σ).bind (fun v2 => if v2 = (0 : Int32) then some (0 : Int32) else if x1 = x2 then some (0 : Int32) else some (1 : Int32)))
theorem wi_X0_areTwo : wInfV yX0_areTwo cX0_areTwo 3 (Option.some Jvm.ClassFile.FieldType.boolean) 2 := ⟨q557, qs10, q106, q558, (by decide +kernel), (by decide +kernel), (by decide +kernel)⟩
set_option maxHeartbeats 4000000 in
set_option maxRecDepth 100000 in
theorem met_X0_areTwo {l : Launch} {E : xG} {x1 : Int32} {x2 : Int32} {σ : xS} {res : Int32} (hf : fX0_areTwo x1 x2 σ = some res) : xMet l yX0_areTwo cX0_areTwo 3 (Option.some Jvm.ClassFile.FieldType.boolean) 2 43 E [.ref (xo E), .int x1, .int x2] σ (some (.int res)) σ := by
  replace hf : ((fX1_isPoint (0 : Fin 3) x1 σ).bind (fun v1 => if v1 = (0 : Int32) then some (0 : Int32) else (fX1_isPoint (0 : Fin 3) x2 σ).bind (fun v2 => if v2 = (0 : Int32) then some (0 : Int32) else if x1 = x2 then some (0 : Int32) else some (1 : Int32)))) = some res := hf
  refine x_start (by decide) (Nat.le_of_ble_eq_true rfl) ?_
  intro p e s m args below meth c S hnm hR hS ls hl
  obtain ⟨hx, hb, hml, hown, hts⟩ := S.1.1
  have hl : lv_has ls 3 [(0, .ref (xo E)), (1, .int x1), (2, .int x2)] := hl
  have hn : XN 0 0 (xnx σ) (xns σ) (xnx σ) (xns σ) σ := ⟨Nat.zero_add _, Nat.zero_add _, (rl1.rf σ).1, (rl1.rf σ).2⟩
  refine lv_aload_n hx hb dX0_areTwo_0 rfl (lv_at hl 0 rfl) ?_
  refine x_oget (k := 0) (v := .ref (xnt E (0 : Fin 3))) S hR (lk_X0_10 _ List.mem_cons_self) rfl dX0_areTwo_1 ?_
  refine lv_iload_n hx hb dX0_areTwo_4 rfl (lv_at hl 1 rfl) ?_
  refine k_bind hf (fun v1 hv1 hf => ?_)
  refine x_call (C := RX1) (As := [.int x1]) (rest := []) S hR hS hn (met_X1_isPoint hv1) (rl1.rf _) (hn.b (rl0.rf _)) wi_X1_isPoint (xrc S.2 hR (ci := 1) rfl (Or.inr (Or.inl ⟨_, rfl, rfl⟩))) rfl q559 ⟨Nat.le_of_ble_eq_true rfl, Nat.le_of_ble_eq_true rfl⟩ rfl hl.1 rfl (Nat.le_of_ble_eq_true rfl) dX0_areTwo_5 (fun H locs cells slots hR hS hn => ?_)
  refine lv_if_eq (tgt := 31) hx hb dX0_areTwo_8 (by decide) (fun c_8 => ?_) (fun c_8 => ?_)
  · replace hf := o_t hf c_8
    refine lv_iconst (v := 0) hx hb dX0_areTwo_31 (by decide) ?_
    obtain rfl := Option.some.inj hf
    exact x_iret S hR hS hn rfl dX0_areTwo_32
  · replace hf := o_f hf c_8
    refine lv_aload_n hx hb dX0_areTwo_11 rfl (lv_at hl 0 rfl) ?_
    refine x_oget (k := 0) (v := .ref (xnt E (0 : Fin 3))) S hR (lk_X0_10 _ List.mem_cons_self) rfl dX0_areTwo_12 ?_
    refine lv_iload_n hx hb dX0_areTwo_15 rfl (lv_at hl 2 rfl) ?_
    refine k_bind hf (fun v2 hv2 hf => ?_)
    refine x_call (C := RX1) (As := [.int x2]) (rest := []) S hR hS hn (met_X1_isPoint hv2) (rl1.rf _) (hn.b (rl0.rf _)) wi_X1_isPoint (xrc S.2 hR (ci := 1) rfl (Or.inr (Or.inl ⟨_, rfl, rfl⟩))) rfl q559 ⟨Nat.le_of_ble_eq_true rfl, Nat.le_of_ble_eq_true rfl⟩ rfl hl.1 rfl (Nat.le_of_ble_eq_true rfl) dX0_areTwo_16 (fun H locs cells slots hR hS hn => ?_)
    refine lv_if_eq (tgt := 31) hx hb dX0_areTwo_19 (by decide) (fun c_19 => ?_) (fun c_19 => ?_)
    · replace hf := o_t hf c_19
      refine lv_iconst (v := 0) hx hb dX0_areTwo_31 (by decide) ?_
      obtain rfl := Option.some.inj hf
      exact x_iret S hR hS hn rfl dX0_areTwo_32
    · replace hf := o_f hf c_19
      refine lv_iload_n hx hb dX0_areTwo_22 rfl (lv_at hl 1 rfl) ?_
      refine lv_iload_n hx hb dX0_areTwo_23 rfl (lv_at hl 2 rfl) ?_
      refine lv_icmp_eq (tgt := 31) hx hb dX0_areTwo_24 (by decide) (fun c_24 => ?_) (fun c_24 => ?_)
      · replace hf := o_t hf c_24
        refine lv_iconst (v := 0) hx hb dX0_areTwo_31 (by decide) ?_
        obtain rfl := Option.some.inj hf
        exact x_iret S hR hS hn rfl dX0_areTwo_32
      · replace hf := o_f hf c_24
        refine lv_iconst (v := 1) hx hb dX0_areTwo_27 (by decide) ?_
        refine lv_goto (tgt := 32) hx hb dX0_areTwo_28 (by decide) ?_
        obtain rfl := Option.some.inj hf
        exact x_iret S hR hS hn rfl dX0_areTwo_32


noncomputable def fX1_areJoined (j : Fin 3) (x1 : Int32) (x2 : Int32) (σ : xS) : Option (Int32) :=
  (xla 1 σ (11 + 2 * j.val) x1).bind (fun v1 => some ((fX0_has v1 x2) &&& 1))
theorem wi_X1_areJoined : wInfV yX1_areJoined cX1_areJoined 3 (Option.some Jvm.ClassFile.FieldType.boolean) 2 := ⟨q565, q566, q107, q567, (by decide +kernel), (by decide +kernel), (by decide +kernel)⟩
set_option maxHeartbeats 4000000 in
set_option maxRecDepth 100000 in
theorem met_X1_areJoined {l : Launch} {E : xG} {j : Fin 3} {x1 : Int32} {x2 : Int32} {σ : xS} {res : Int32} (hf : fX1_areJoined j x1 x2 σ = some res) : xMet l yX1_areJoined cX1_areJoined 3 (Option.some Jvm.ClassFile.FieldType.boolean) 1 21 E [.ref (xnt E j), .int x1, .int x2] σ (some (.int res)) σ := by
  replace hf : ((xla 1 σ (11 + 2 * j.val) x1).bind (fun v1 => some ((fX0_has v1 x2) &&& 1))) = some res := hf
  refine x_start (by decide) (Nat.le_of_ble_eq_true rfl) ?_
  intro p e s m args below meth c S hnm hR hS ls hl
  obtain ⟨hx, hb, hml, hown, hts⟩ := S.1.1
  have hl : lv_has ls 3 [(0, .ref (xnt E j)), (1, .int x1), (2, .int x2)] := hl
  have hn : XN 0 0 (xnx σ) (xns σ) (xnx σ) (xns σ) σ := ⟨Nat.zero_add _, Nat.zero_add _, (rl1.rf σ).1, (rl1.rf σ).2⟩
  refine lv_aload_n hx hb dX1_areJoined_0 rfl (lv_at hl 0 rfl) ?_
  refine x_nget (j := j) (k := 1) (v := .ref (xar E (11 + 2 * j.val))) S hR (lk_X1_17 _ List.mem_cons_self) rfl dX1_areJoined_1 ?_
  refine lv_iload_n hx hb dX1_areJoined_4 rfl (lv_at hl 1 rfl) ?_
  refine k_bind hf (fun v1 hv1 hf => ?_)
  refine x_sl1 S hR hv1 dX1_areJoined_5 ?_
  refine lv_iload_n hx hb dX1_areJoined_6 rfl (lv_at hl 2 rfl) ?_
  refine s_callN (As := [.int v1, .int x2]) (rest := []) S.1.1 S.2.2.1 (met_X0_has rfl) wi_X0_has q568 ⟨rfl, rfl⟩ ⟨Nat.le_of_ble_eq_true rfl, Nat.le_of_ble_eq_true rfl⟩ rfl hl.1 rfl (Nat.le_of_ble_eq_true rfl) dX1_areJoined_7 hn.cs ?_
  obtain rfl := Option.some.inj hf
  exact x_iret S hR hS hn rfl dX1_areJoined_10


noncomputable def JX1_joins_34 (y0 : Fin 3) (y1 : Int32) (y2 : Int32) (y3 : Int32) (z0 : Int32) (z1 : Int32) (z2 : Nat) (σ : xS) : Option (xS) :=
  (xsa 1 σ z2 z1 z0).bind (fun σ2 => if y3 = (0 : Int32) then (xla 1 σ2 (11 + 2 * y0.val) y2).bind (fun v3 => (xsa 1 σ2 (11 + 2 * y0.val) y2 (v3 &&& ((ish (1 : Int32) y1) ^^^ (-1 : Int32)))).bind (fun σ4 => some σ4)) else (xla 1 σ2 (11 + 2 * y0.val) y2).bind (fun v5 => (xsa 1 σ2 (11 + 2 * y0.val) y2 (v5 ||| (ish (1 : Int32) y1))).bind (fun σ6 => some σ6)))
noncomputable def fX1_joins (j : Fin 3) (x1 : Int32) (x2 : Int32) (x3 : Int32) (σ : xS) : Option (xS) :=
  if x3 = (0 : Int32) then (xla 1 σ (11 + 2 * j.val) x1).bind (fun v1 => JX1_joins_34 j x1 x2 x3 (v1 &&& ((ish (1 : Int32) x2) ^^^ (-1 : Int32))) x1 (11 + 2 * j.val) σ) else (xla 1 σ (11 + 2 * j.val) x1).bind (fun v7 => JX1_joins_34 j x1 x2 x3 (v7 ||| (ish (1 : Int32) x2)) x1 (11 + 2 * j.val) σ)
theorem wi_X1_joins : wInfV yX1_joins cX1_joins 4 (Option.none : Option Jvm.ClassFile.FieldType) 3 := ⟨q570, q571, q107, q572, (by decide +kernel), (by decide +kernel), (by decide +kernel)⟩
set_option maxHeartbeats 4000000 in
set_option maxRecDepth 100000 in
theorem rJX1_joins_34 {y0 : Fin 3} {y1 : Int32} {y2 : Int32} {y3 : Int32} {z0 : Int32} {z1 : Int32} {z2 : Nat} {σ : xS} {res : xS} (hf : JX1_joins_34 y0 y1 y2 y3 z0 z1 z2 σ = some res) : rl0 σ res := by
  replace hf : ((xsa 1 σ z2 z1 z0).bind (fun σ2 => if y3 = (0 : Int32) then (xla 1 σ2 (11 + 2 * y0.val) y2).bind (fun v3 => (xsa 1 σ2 (11 + 2 * y0.val) y2 (v3 &&& ((ish (1 : Int32) y1) ^^^ (-1 : Int32)))).bind (fun σ4 => some σ4)) else (xla 1 σ2 (11 + 2 * y0.val) y2).bind (fun v5 => (xsa 1 σ2 (11 + 2 * y0.val) y2 (v5 ||| (ish (1 : Int32) y1))).bind (fun σ6 => some σ6)))) = some res := hf
  refine k_bind hf (fun σ2 hσ2 hf => ?_)
  refine rl0.tr (r0_sa hσ2) ?_
  by_cases c0 : y3 = (0 : Int32)
  · replace hf := o_t hf c0
    refine k_bind hf (fun v3 hv3 hf => ?_)
    refine k_bind hf (fun σ4 hσ4 hf => ?_)
    refine rl0.tr (r0_sa hσ4) ?_
    obtain rfl := Option.some.inj hf
    exact rl0.rf _
  · replace hf := o_f hf c0
    refine k_bind hf (fun v5 hv5 hf => ?_)
    refine k_bind hf (fun σ6 hσ6 hf => ?_)
    refine rl0.tr (r0_sa hσ6) ?_
    obtain rfl := Option.some.inj hf
    exact rl0.rf _
set_option maxHeartbeats 4000000 in
set_option maxRecDepth 100000 in
theorem r0_X1_joins {j : Fin 3} {x1 : Int32} {x2 : Int32} {x3 : Int32} {σ : xS} {res : xS} (hf : fX1_joins j x1 x2 x3 σ = some res) : rl0 σ res := by
  replace hf : (if x3 = (0 : Int32) then (xla 1 σ (11 + 2 * j.val) x1).bind (fun v1 => JX1_joins_34 j x1 x2 x3 (v1 &&& ((ish (1 : Int32) x2) ^^^ (-1 : Int32))) x1 (11 + 2 * j.val) σ) else (xla 1 σ (11 + 2 * j.val) x1).bind (fun v7 => JX1_joins_34 j x1 x2 x3 (v7 ||| (ish (1 : Int32) x2)) x1 (11 + 2 * j.val) σ)) = some res := hf
  by_cases c0 : x3 = (0 : Int32)
  · replace hf := o_t hf c0
    refine k_bind hf (fun v1 hv1 hf => ?_)
    exact rJX1_joins_34 hf
  · replace hf := o_f hf c0
    refine k_bind hf (fun v7 hv7 hf => ?_)
    exact rJX1_joins_34 hf
set_option maxHeartbeats 4000000 in
set_option maxRecDepth 100000 in
theorem wJX1_joins_34 {l : Launch} {E : xG} {p : Program} {e : Env} {s : State} {m : MethodId} {args : Array Value} {below : List Frame} {meth : Method} {c : Code} {σ0 : xS} {y0 : Fin 3} {y1 : Int32} {y2 : Int32} {y3 : Int32} {z0 : Int32} {z1 : Int32} {z2 : Nat} {σ : xS} {res : xS} (S : xSt E RX1 p m c cX1_joins 4 s args meth (Option.none : Option Jvm.ClassFile.FieldType)) (hf : JX1_joins_34 y0 y1 y2 y3 z0 z1 z2 σ = some res) : ∀ (H : Heap) (locs : List Loc) (cells slots : Nat) (ls : Array Slot), xR E σ H → va_S (xAA E) s.heap H locs → XN cells slots (xnx σ0) (xns σ0) (xnx res) (xns res) σ → lv_has ls 4 [(0, .ref (xnt E y0)), (1, .int y1), (2, .int y2), (3, .int y3)] → W p l e (xRm 0 0 ((xnx res) - (xnx σ0)) ((xns res) - (xns σ0))) s m args below meth c H locs cells slots (MQ below (xQ E none res) args s (xnx res - xnx σ0) (xns res - xns σ0) (xAA E)) (F0 m 34 ls [.int z0, .int z1, .ref (xar E z2)]) := by
  replace hf : ((xsa 1 σ z2 z1 z0).bind (fun σ2 => if y3 = (0 : Int32) then (xla 1 σ2 (11 + 2 * y0.val) y2).bind (fun v3 => (xsa 1 σ2 (11 + 2 * y0.val) y2 (v3 &&& ((ish (1 : Int32) y1) ^^^ (-1 : Int32)))).bind (fun σ4 => some σ4)) else (xla 1 σ2 (11 + 2 * y0.val) y2).bind (fun v5 => (xsa 1 σ2 (11 + 2 * y0.val) y2 (v5 ||| (ish (1 : Int32) y1))).bind (fun σ6 => some σ6)))) = some res := hf
  obtain ⟨hx, hb, hml, hown, hts⟩ := S.1.1
  intro H locs cells slots ls hR hS hn hl
  refine k_bind hf (fun σ2 hσ2 hf => ?_)
  refine x_ss1 S hR hS hσ2 dX1_joins_34 (fun H locs hR hS => ?_)
  replace hn := hn.to (r0_sa hσ2)
  refine lv_aload_n hx hb dX1_joins_35 rfl (lv_at hl 0 rfl) ?_
  refine x_nget (j := y0) (k := 1) (v := .ref (xar E (11 + 2 * y0.val))) S hR (lk_X1_17 _ List.mem_cons_self) rfl dX1_joins_36 ?_
  refine lv_iload_n hx hb dX1_joins_39 rfl (lv_at hl 2 rfl) ?_
  refine lv_iload_n hx hb dX1_joins_40 rfl (lv_at hl 3 rfl) ?_
  refine lv_if_eq (tgt := 57) hx hb dX1_joins_41 (by decide) (fun c_41 => ?_) (fun c_41 => ?_)
  · replace hf := o_t hf c_41
    refine lv_aload_n hx hb dX1_joins_57 rfl (lv_at hl 0 rfl) ?_
    refine x_nget (j := y0) (k := 1) (v := .ref (xar E (11 + 2 * y0.val))) S hR (lk_X1_17 _ List.mem_cons_self) rfl dX1_joins_58 ?_
    refine lv_iload_n hx hb dX1_joins_61 rfl (lv_at hl 2 rfl) ?_
    refine k_bind hf (fun v3 hv3 hf => ?_)
    refine x_sl1 S hR hv3 dX1_joins_62 ?_
    refine lv_iconst (v := 1) hx hb dX1_joins_63 (by decide) ?_
    refine lv_iload_n hx hb dX1_joins_64 rfl (lv_at hl 1 rfl) ?_
    refine lv_ishl hx hb dX1_joins_65 ?_
    refine lv_iconst (v := -1) hx hb dX1_joins_66 (by decide) ?_
    refine lv_ixor hx hb dX1_joins_67 ?_
    refine lv_iand hx hb dX1_joins_68 ?_
    refine k_bind hf (fun σ4 hσ4 hf => ?_)
    refine x_ss1 S hR hS hσ4 dX1_joins_69 (fun H locs hR hS => ?_)
    replace hn := hn.to (r0_sa hσ4)
    obtain rfl := Option.some.inj hf
    exact x_vret S hR hS hn dX1_joins_70
  · replace hf := o_f hf c_41
    refine lv_aload_n hx hb dX1_joins_44 rfl (lv_at hl 0 rfl) ?_
    refine x_nget (j := y0) (k := 1) (v := .ref (xar E (11 + 2 * y0.val))) S hR (lk_X1_17 _ List.mem_cons_self) rfl dX1_joins_45 ?_
    refine lv_iload_n hx hb dX1_joins_48 rfl (lv_at hl 2 rfl) ?_
    refine k_bind hf (fun v5 hv5 hf => ?_)
    refine x_sl1 S hR hv5 dX1_joins_49 ?_
    refine lv_iconst (v := 1) hx hb dX1_joins_50 (by decide) ?_
    refine lv_iload_n hx hb dX1_joins_51 rfl (lv_at hl 1 rfl) ?_
    refine lv_ishl hx hb dX1_joins_52 ?_
    refine lv_ior hx hb dX1_joins_53 ?_
    refine lv_goto (tgt := 69) hx hb dX1_joins_54 (by decide) ?_
    refine k_bind hf (fun σ6 hσ6 hf => ?_)
    refine x_ss1 S hR hS hσ6 dX1_joins_69 (fun H locs hR hS => ?_)
    replace hn := hn.to (r0_sa hσ6)
    obtain rfl := Option.some.inj hf
    exact x_vret S hR hS hn dX1_joins_70
set_option maxHeartbeats 4000000 in
set_option maxRecDepth 100000 in
theorem met_X1_joins {l : Launch} {E : xG} {j : Fin 3} {x1 : Int32} {x2 : Int32} {x3 : Int32} {σ : xS} {res : xS} (hf : fX1_joins j x1 x2 x3 σ = some res) : xMet l yX1_joins cX1_joins 4 (Option.none : Option Jvm.ClassFile.FieldType) 0 0 E [.ref (xnt E j), .int x1, .int x2, .int x3] σ none res := by
  replace hf : (if x3 = (0 : Int32) then (xla 1 σ (11 + 2 * j.val) x1).bind (fun v1 => JX1_joins_34 j x1 x2 x3 (v1 &&& ((ish (1 : Int32) x2) ^^^ (-1 : Int32))) x1 (11 + 2 * j.val) σ) else (xla 1 σ (11 + 2 * j.val) x1).bind (fun v7 => JX1_joins_34 j x1 x2 x3 (v7 ||| (ish (1 : Int32) x2)) x1 (11 + 2 * j.val) σ)) = some res := hf
  refine x_start (by decide) (Nat.le_of_ble_eq_true rfl) ?_
  intro p e s m args below meth c S hnm hR hS ls hl
  obtain ⟨hx, hb, hml, hown, hts⟩ := S.1.1
  have hl : lv_has ls 4 [(0, .ref (xnt E j)), (1, .int x1), (2, .int x2), (3, .int x3)] := hl
  have hn : XN 0 0 (xnx σ) (xns σ) (xnx res) (xns res) σ := ⟨Nat.zero_add _, Nat.zero_add _, (r0_X1_joins (j := j) (x1 := x1) (x2 := x2) (x3 := x3) (σ := σ) hf).le.1, (r0_X1_joins (j := j) (x1 := x1) (x2 := x2) (x3 := x3) (σ := σ) hf).le.2⟩
  refine lv_aload_n hx hb dX1_joins_0 rfl (lv_at hl 0 rfl) ?_
  refine x_nget (j := j) (k := 1) (v := .ref (xar E (11 + 2 * j.val))) S hR (lk_X1_17 _ List.mem_cons_self) rfl dX1_joins_1 ?_
  refine lv_iload_n hx hb dX1_joins_4 rfl (lv_at hl 1 rfl) ?_
  refine lv_iload_n hx hb dX1_joins_5 rfl (lv_at hl 3 rfl) ?_
  refine lv_if_eq (tgt := 22) hx hb dX1_joins_6 (by decide) (fun c_6 => ?_) (fun c_6 => ?_)
  · replace hf := o_t hf c_6
    refine lv_aload_n hx hb dX1_joins_22 rfl (lv_at hl 0 rfl) ?_
    refine x_nget (j := j) (k := 1) (v := .ref (xar E (11 + 2 * j.val))) S hR (lk_X1_17 _ List.mem_cons_self) rfl dX1_joins_23 ?_
    refine lv_iload_n hx hb dX1_joins_26 rfl (lv_at hl 1 rfl) ?_
    refine k_bind hf (fun v1 hv1 hf => ?_)
    refine x_sl1 S hR hv1 dX1_joins_27 ?_
    refine lv_iconst (v := 1) hx hb dX1_joins_28 (by decide) ?_
    refine lv_iload_n hx hb dX1_joins_29 rfl (lv_at hl 2 rfl) ?_
    refine lv_ishl hx hb dX1_joins_30 ?_
    refine lv_iconst (v := -1) hx hb dX1_joins_31 (by decide) ?_
    refine lv_ixor hx hb dX1_joins_32 ?_
    refine lv_iand hx hb dX1_joins_33 ?_
    exact wJX1_joins_34 S hf _ _ _ _ _ hR hS hn hl
  · replace hf := o_f hf c_6
    refine lv_aload_n hx hb dX1_joins_9 rfl (lv_at hl 0 rfl) ?_
    refine x_nget (j := j) (k := 1) (v := .ref (xar E (11 + 2 * j.val))) S hR (lk_X1_17 _ List.mem_cons_self) rfl dX1_joins_10 ?_
    refine lv_iload_n hx hb dX1_joins_13 rfl (lv_at hl 1 rfl) ?_
    refine k_bind hf (fun v7 hv7 hf => ?_)
    refine x_sl1 S hR hv7 dX1_joins_14 ?_
    refine lv_iconst (v := 1) hx hb dX1_joins_15 (by decide) ?_
    refine lv_iload_n hx hb dX1_joins_16 rfl (lv_at hl 2 rfl) ?_
    refine lv_ishl hx hb dX1_joins_17 ?_
    refine lv_ior hx hb dX1_joins_18 ?_
    refine lv_goto (tgt := 34) hx hb dX1_joins_19 (by decide) ?_
    exact wJX1_joins_34 S hf _ _ _ _ _ hR hS hn hl
