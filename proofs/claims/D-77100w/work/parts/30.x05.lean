/-! the component, walked: X0_line X1_cost X0_pointOf X0_change X0_lonely X0_lineCount X0_count -/

noncomputable def JX0_line_38 (y1 : Int32) (y2 : Int32) (y3 : Int32) (z0 : Int32) (σ : xS) : Option (Int32 × xS) :=
  if y3 = (1 : Int32) then (fX1_joins (0 : Fin 3) y1 y2 (1 : Int32) σ).bind (fun e4 => some (z0, e4)) else (fX1_joins (0 : Fin 3) y1 y2 (0 : Int32) σ).bind (fun e3 => some (z0, e3))
noncomputable def fX0_line (x1 : Int32) (x2 : Int32) (x3 : Int32) (σ : xS) : Option (Int32 × xS) :=
  (fX0_areTwo x1 x2 σ).bind (fun v1 => if v1 = (0 : Int32) then some ((-2 : Int32), σ) else if (fX0_in x3 (0 : Int32) (1 : Int32)) = (0 : Int32) then some ((-2 : Int32), σ) else (fX1_areJoined (0 : Fin 3) x1 x2 σ).bind (fun v2 => if v2 = (0 : Int32) then JX0_line_38 x1 x2 x3 (0 : Int32) σ else JX0_line_38 x1 x2 x3 (1 : Int32) σ))
theorem wi_X0_line : wInfV yX0_line cX0_line 5 (Option.some Jvm.ClassFile.FieldType.int) 3 := ⟨q552, q553, q106, q554, (by decide +kernel), (by decide +kernel), (by decide +kernel)⟩
set_option maxHeartbeats 4000000 in
set_option maxRecDepth 100000 in
theorem rJX0_line_38 {y1 : Int32} {y2 : Int32} {y3 : Int32} {z0 : Int32} {σ : xS} {res : Int32 × xS} (hf : JX0_line_38 y1 y2 y3 z0 σ = some res) : rl0 σ res.2 := by
  replace hf : (if y3 = (1 : Int32) then (fX1_joins (0 : Fin 3) y1 y2 (1 : Int32) σ).bind (fun e4 => some (z0, e4)) else (fX1_joins (0 : Fin 3) y1 y2 (0 : Int32) σ).bind (fun e3 => some (z0, e3))) = some res := hf
  by_cases c0 : y3 = (1 : Int32)
  · replace hf := o_t hf c0
    refine k_bind hf (fun e4 he4 hf => ?_)
    refine rl0.tr (r0_X1_joins he4) ?_
    obtain rfl := Option.some.inj hf
    exact rl0.rf _
  · replace hf := o_f hf c0
    refine k_bind hf (fun e3 he3 hf => ?_)
    refine rl0.tr (r0_X1_joins he3) ?_
    obtain rfl := Option.some.inj hf
    exact rl0.rf _
set_option maxHeartbeats 4000000 in
set_option maxRecDepth 100000 in
theorem r0_X0_line {x1 : Int32} {x2 : Int32} {x3 : Int32} {σ : xS} {res : Int32 × xS} (hf : fX0_line x1 x2 x3 σ = some res) : rl0 σ res.2 := by
  replace hf : ((fX0_areTwo x1 x2 σ).bind (fun v1 => if v1 = (0 : Int32) then some ((-2 : Int32), σ) else if (fX0_in x3 (0 : Int32) (1 : Int32)) = (0 : Int32) then some ((-2 : Int32), σ) else (fX1_areJoined (0 : Fin 3) x1 x2 σ).bind (fun v2 => if v2 = (0 : Int32) then JX0_line_38 x1 x2 x3 (0 : Int32) σ else JX0_line_38 x1 x2 x3 (1 : Int32) σ))) = some res := hf
  refine k_bind hf (fun v1 hv1 hf => ?_)
  by_cases c0 : v1 = (0 : Int32)
  · replace hf := o_t hf c0
    obtain rfl := Option.some.inj hf
    exact rl0.rf _
  · replace hf := o_f hf c0
    by_cases c0 : (fX0_in x3 (0 : Int32) (1 : Int32)) = (0 : Int32)
    · replace hf := o_t hf c0
      obtain rfl := Option.some.inj hf
      exact rl0.rf _
    · replace hf := o_f hf c0
      refine k_bind hf (fun v2 hv2 hf => ?_)
      by_cases c0 : v2 = (0 : Int32)
      · replace hf := o_t hf c0
        exact rJX0_line_38 hf
      · replace hf := o_f hf c0
        exact rJX0_line_38 hf
set_option maxHeartbeats 4000000 in
set_option maxRecDepth 100000 in
theorem wJX0_line_38 {l : Launch} {E : xG} {p : Program} {e : Env} {s : State} {m : MethodId} {args : Array Value} {below : List Frame} {meth : Method} {c : Code} {σ0 : xS} {y1 : Int32} {y2 : Int32} {y3 : Int32} {z0 : Int32} {σ : xS} {res : Int32 × xS} (S : xSt E RX0 p m c cX0_line 5 s args meth (Option.some Jvm.ClassFile.FieldType.int)) (hf : JX0_line_38 y1 y2 y3 z0 σ = some res) : ∀ (H : Heap) (locs : List Loc) (cells slots : Nat) (ls : Array Slot), xR E σ H → va_S (xAA E) s.heap H locs → XN cells slots (xnx σ0) (xns σ0) (xnx res.2) (xns res.2) σ → lv_has ls 5 [(0, .ref (xo E)), (1, .int y1), (2, .int y2), (3, .int y3)] → W p l e (xRm 3 65 ((xnx res.2) - (xnx σ0)) ((xns res.2) - (xns σ0))) s m args below meth c H locs cells slots (MQ below (xQ E (some (.int res.1)) res.2) args s (xnx res.2 - xnx σ0) (xns res.2 - xns σ0) (xAA E)) (F0 m 38 ls [.int z0]) := by
  replace hf : (if y3 = (1 : Int32) then (fX1_joins (0 : Fin 3) y1 y2 (1 : Int32) σ).bind (fun e4 => some (z0, e4)) else (fX1_joins (0 : Fin 3) y1 y2 (0 : Int32) σ).bind (fun e3 => some (z0, e3))) = some res := hf
  obtain ⟨hx, hb, hml, hown, hts⟩ := S.1.1
  intro H locs cells slots ls hR hS hn hl
  refine lv_istore (lv' := [(4, .int z0), (0, .ref (xo E)), (1, .int y1), (2, .int y2), (3, .int y3)]) hx hb dX0_line_38 hl (by decide) rfl (fun ls hl => ?_)
  refine lv_aload_n hx hb dX0_line_40 rfl (lv_at hl 1 rfl) ?_
  refine x_oget (k := 0) (v := .ref (xnt E (0 : Fin 3))) S hR (lk_X0_10 _ List.mem_cons_self) rfl dX0_line_41 ?_
  refine lv_iload_n hx hb dX0_line_44 rfl (lv_at hl 2 rfl) ?_
  refine lv_iload_n hx hb dX0_line_45 rfl (lv_at hl 3 rfl) ?_
  refine lv_iload_n hx hb dX0_line_46 rfl (lv_at hl 4 rfl) ?_
  refine lv_iconst (v := 1) hx hb dX0_line_47 (by decide) ?_
  refine lv_icmp_ne (tgt := 55) hx hb dX0_line_48 (by decide) (fun c_48 => ?_) (fun c_48 => ?_)
  · replace hf := o_f hf c_48
    refine lv_iconst (v := 0) hx hb dX0_line_55 (by decide) ?_
    refine k_bind hf (fun e3 he3 hf => ?_)
    refine x_call (C := RX1) (As := [.int y1, .int y2, .int (0 : Int32)]) (rest := []) S hR hS hn (met_X1_joins he3) (r0_X1_joins he3).le (hn.b (r0_X1_joins he3)) wi_X1_joins (xrc S.2 hR (ci := 1) rfl (Or.inr (Or.inl ⟨_, rfl, rfl⟩))) rfl q569 ⟨Nat.le_of_ble_eq_true rfl, Nat.le_of_ble_eq_true rfl⟩ rfl hl.1 rfl (Nat.le_of_ble_eq_true rfl) dX0_line_56 (fun H locs cells slots hR hS hn => ?_)
    refine lv_iload hx hb dX0_line_59 (lv_at hl 0 rfl) ?_
    obtain rfl := Option.some.inj hf
    exact x_iret S hR hS hn rfl dX0_line_61
  · replace hf := o_t hf c_48
    refine lv_iconst (v := 1) hx hb dX0_line_51 (by decide) ?_
    refine lv_goto (tgt := 56) hx hb dX0_line_52 (by decide) ?_
    refine k_bind hf (fun e4 he4 hf => ?_)
    refine x_call (C := RX1) (As := [.int y1, .int y2, .int (1 : Int32)]) (rest := []) S hR hS hn (met_X1_joins he4) (r0_X1_joins he4).le (hn.b (r0_X1_joins he4)) wi_X1_joins (xrc S.2 hR (ci := 1) rfl (Or.inr (Or.inl ⟨_, rfl, rfl⟩))) rfl q569 ⟨Nat.le_of_ble_eq_true rfl, Nat.le_of_ble_eq_true rfl⟩ rfl hl.1 rfl (Nat.le_of_ble_eq_true rfl) dX0_line_56 (fun H locs cells slots hR hS hn => ?_)
    refine lv_iload hx hb dX0_line_59 (lv_at hl 0 rfl) ?_
    obtain rfl := Option.some.inj hf
    exact x_iret S hR hS hn rfl dX0_line_61
set_option maxHeartbeats 4000000 in
set_option maxRecDepth 100000 in
theorem met_X0_line {l : Launch} {E : xG} {x1 : Int32} {x2 : Int32} {x3 : Int32} {σ : xS} {res : Int32 × xS} (hf : fX0_line x1 x2 x3 σ = some res) : xMet l yX0_line cX0_line 5 (Option.some Jvm.ClassFile.FieldType.int) 3 65 E [.ref (xo E), .int x1, .int x2, .int x3] σ (some (.int res.1)) res.2 := by
  replace hf : ((fX0_areTwo x1 x2 σ).bind (fun v1 => if v1 = (0 : Int32) then some ((-2 : Int32), σ) else if (fX0_in x3 (0 : Int32) (1 : Int32)) = (0 : Int32) then some ((-2 : Int32), σ) else (fX1_areJoined (0 : Fin 3) x1 x2 σ).bind (fun v2 => if v2 = (0 : Int32) then JX0_line_38 x1 x2 x3 (0 : Int32) σ else JX0_line_38 x1 x2 x3 (1 : Int32) σ))) = some res := hf
  refine x_start (by decide) (Nat.le_of_ble_eq_true rfl) ?_
  intro p e s m args below meth c S hnm hR hS ls hl
  obtain ⟨hx, hb, hml, hown, hts⟩ := S.1.1
  have hl : lv_has ls 5 [(0, .ref (xo E)), (1, .int x1), (2, .int x2), (3, .int x3)] := hl
  have hn : XN 0 0 (xnx σ) (xns σ) (xnx res.2) (xns res.2) σ := ⟨Nat.zero_add _, Nat.zero_add _, (r0_X0_line (x1 := x1) (x2 := x2) (x3 := x3) (σ := σ) hf).le.1, (r0_X0_line (x1 := x1) (x2 := x2) (x3 := x3) (σ := σ) hf).le.2⟩
  refine lv_aload_n hx hb dX0_line_0 rfl (lv_at hl 0 rfl) ?_
  refine lv_iload_n hx hb dX0_line_1 rfl (lv_at hl 1 rfl) ?_
  refine lv_iload_n hx hb dX0_line_2 rfl (lv_at hl 2 rfl) ?_
  refine k_bind hf (fun v1 hv1 hf => ?_)
  refine x_call (C := RX0) (As := [.int x1, .int x2]) (rest := []) S hR hS hn (met_X0_areTwo hv1) (rl1.rf _) (hn.b (rl0.rf _)) wi_X0_areTwo (xrc S.2 hR (ci := 0) rfl (Or.inl ⟨rfl, rfl⟩)) rfl q555 ⟨Nat.le_of_ble_eq_true rfl, Nat.le_of_ble_eq_true rfl⟩ rfl hl.1 rfl (Nat.le_of_ble_eq_true rfl) dX0_line_3 (fun H locs cells slots hR hS hn => ?_)
  refine lv_if_eq (tgt := 18) hx hb dX0_line_6 (by decide) (fun c_6 => ?_) (fun c_6 => ?_)
  · replace hf := o_t hf c_6
    refine lv_bipush (v := -2) hx hb dX0_line_18 (by decide) ?_
    obtain rfl := Option.some.inj hf
    exact x_iret S hR hS hn rfl dX0_line_20
  · replace hf := o_f hf c_6
    refine lv_iload_n hx hb dX0_line_9 rfl (lv_at hl 3 rfl) ?_
    refine lv_iconst (v := 0) hx hb dX0_line_10 (by decide) ?_
    refine lv_iconst (v := 1) hx hb dX0_line_11 (by decide) ?_
    refine s_call (As := [.int x3, .int (0 : Int32), .int (1 : Int32)]) (rest := []) S.1.1 (met_X0_in rfl) wi_X0_in q479 ⟨rfl, rfl⟩ ⟨Nat.le_of_ble_eq_true rfl, Nat.le_of_ble_eq_true rfl⟩ rfl hl.1 rfl (Nat.le_of_ble_eq_true rfl) dX0_line_12 hn.cs ?_
    refine lv_if_ne (tgt := 21) hx hb dX0_line_15 (by decide) (fun c_15 => ?_) (fun c_15 => ?_)
    · replace hf := o_f hf c_15
      refine lv_aload_n hx hb dX0_line_21 rfl (lv_at hl 0 rfl) ?_
      refine x_oget (k := 0) (v := .ref (xnt E (0 : Fin 3))) S hR (lk_X0_10 _ List.mem_cons_self) rfl dX0_line_22 ?_
      refine lv_iload_n hx hb dX0_line_25 rfl (lv_at hl 1 rfl) ?_
      refine lv_iload_n hx hb dX0_line_26 rfl (lv_at hl 2 rfl) ?_
      refine k_bind hf (fun v2 hv2 hf => ?_)
      refine x_call (C := RX1) (As := [.int x1, .int x2]) (rest := []) S hR hS hn (met_X1_areJoined hv2) (rl1.rf _) (hn.b (rl0.rf _)) wi_X1_areJoined (xrc S.2 hR (ci := 1) rfl (Or.inr (Or.inl ⟨_, rfl, rfl⟩))) rfl q564 ⟨Nat.le_of_ble_eq_true rfl, Nat.le_of_ble_eq_true rfl⟩ rfl hl.1 rfl (Nat.le_of_ble_eq_true rfl) dX0_line_27 (fun H locs cells slots hR hS hn => ?_)
      refine lv_if_eq (tgt := 37) hx hb dX0_line_30 (by decide) (fun c_30 => ?_) (fun c_30 => ?_)
      · replace hf := o_t hf c_30
        refine lv_iconst (v := 0) hx hb dX0_line_37 (by decide) ?_
        exact wJX0_line_38 S hf _ _ _ _ _ hR hS hn hl
      · replace hf := o_f hf c_30
        refine lv_iconst (v := 1) hx hb dX0_line_33 (by decide) ?_
        refine lv_goto (tgt := 38) hx hb dX0_line_34 (by decide) ?_
        exact wJX0_line_38 S hf _ _ _ _ _ hR hS hn hl
    · replace hf := o_t hf c_15
      refine lv_bipush (v := -2) hx hb dX0_line_18 (by decide) ?_
      obtain rfl := Option.some.inj hf
      exact x_iret S hR hS hn rfl dX0_line_20


noncomputable def fX1_cost (j : Fin 3) (x1 : Int32) (σ : xS) : Option (Int32) :=
  (xlr σ (10 + 2 * j.val) x1).bind (fun v1 => (xla 1 σ (11 + 2 * j.val) x1).bind (fun v2 => (fX0_ones v2).bind (fun v3 => none)))
theorem wi_X1_cost : wInfV yX1_cost cX1_cost 2 (Option.some Jvm.ClassFile.FieldType.int) 1 := ⟨q601, q602, q107, q603, (by decide +kernel), (by decide +kernel), (by decide +kernel)⟩
set_option maxHeartbeats 4000000 in
set_option maxRecDepth 100000 in
theorem met_X1_cost {l : Launch} {E : xG} {j : Fin 3} {x1 : Int32} {σ : xS} {res : Int32} (hf : fX1_cost j x1 σ = some res) : xMet l yX1_cost cX1_cost 2 (Option.some Jvm.ClassFile.FieldType.int) 2 40 E [.ref (xnt E j), .int x1] σ (some (.int res)) σ := by
  replace hf : ((xlr σ (10 + 2 * j.val) x1).bind (fun v1 => (xla 1 σ (11 + 2 * j.val) x1).bind (fun v2 => (fX0_ones v2).bind (fun v3 => none)))) = some res := hf
  refine x_start (by decide) (Nat.le_of_ble_eq_true rfl) ?_
  intro p e s m args below meth c S hnm hR hS ls hl
  obtain ⟨hx, hb, hml, hown, hts⟩ := S.1.1
  have hl : lv_has ls 2 [(0, .ref (xnt E j)), (1, .int x1)] := hl
  have hn : XN 0 0 (xnx σ) (xns σ) (xnx σ) (xns σ) σ := ⟨Nat.zero_add _, Nat.zero_add _, (rl1.rf σ).1, (rl1.rf σ).2⟩
  refine lv_aload_n hx hb dX1_cost_0 rfl (lv_at hl 0 rfl) ?_
  refine x_nget (j := j) (k := 0) (v := .ref (xar E (10 + 2 * j.val))) S hR (lk_X1_11 _ List.mem_cons_self) rfl dX1_cost_1 ?_
  refine lv_iload_n hx hb dX1_cost_4 rfl (lv_at hl 1 rfl) ?_
  refine k_bind hf (fun v1 hv1 hf => ?_)
  refine x_slr S hR hv1 dX1_cost_5 ?_
  refine lv_aload_n hx hb dX1_cost_6 rfl (lv_at hl 0 rfl) ?_
  refine x_nget (j := j) (k := 1) (v := .ref (xar E (11 + 2 * j.val))) S hR (lk_X1_17 _ List.mem_cons_self) rfl dX1_cost_7 ?_
  refine lv_iload_n hx hb dX1_cost_10 rfl (lv_at hl 1 rfl) ?_
  refine k_bind hf (fun v2 hv2 hf => ?_)
  refine x_sl1 S hR hv2 dX1_cost_11 ?_
  refine k_bind hf (fun v3 hv3 hf => ?_)
  refine s_callN (As := [.int v2]) (rest := [va_rf v1]) S.1.1 S.2.2.1 (met_X0_ones hv3) wi_X0_ones q217 ⟨rfl, rfl⟩ ⟨Nat.le_of_ble_eq_true rfl, Nat.le_of_ble_eq_true rfl⟩ rfl hl.1 rfl (by simp only [List.map_cons, List.map_nil, rf_cat]; exact Nat.le_of_ble_eq_true rfl) dX1_cost_12 hn.cs ?_
  cases hf

theorem lk_X0_138 : ∀ q ∈ ([(1, 0)] : List (Nat × Nat)), wLkN RX0 138 q.1 q.2 := List.forall_mem_cons.mpr ⟨⟨RX1, TX1, 4, "LinesTouched", rfl, by decide, in_X1, q186⟩, fun _ h => absurd h List.not_mem_nil⟩
theorem lk_X0_146 : ∀ q ∈ ([(4, 1), (5, 1), (6, 1), (7, 1), (8, 1), (9, 1)] : List (Nat × Nat)), wLk RX0 146 q.1 q.2 := List.forall_mem_cons.mpr ⟨⟨RX5, TX5, 2, "LinesTouched$Point", rfl, by decide, in_X5, q500, Or.inl rfl⟩, List.forall_mem_cons.mpr ⟨⟨RX6, TX6, 2, "LinesTouched$Point", rfl, by decide, in_X6, q500, Or.inl rfl⟩, List.forall_mem_cons.mpr ⟨⟨RX7, TX7, 2, "LinesTouched$Point", rfl, by decide, in_X7, q500, Or.inl rfl⟩, List.forall_mem_cons.mpr ⟨⟨RX8, TX8, 2, "LinesTouched$Point", rfl, by decide, in_X8, q500, Or.inl rfl⟩, List.forall_mem_cons.mpr ⟨⟨RX9, TX9, 2, "LinesTouched$Point", rfl, by decide, in_X9, q500, Or.inl rfl⟩, List.forall_mem_cons.mpr ⟨⟨RX10, TX10, 2, "LinesTouched$Point", rfl, by decide, in_X10, q500, Or.inl rfl⟩, fun _ h => absurd h List.not_mem_nil⟩⟩⟩⟩⟩⟩
noncomputable def fX0_pointOf (x1 : Int32) (x2 : Int32) (σ : xS) : Option (Int32) :=
  (fX1_isPoint (0 : Fin 3) x1 σ).bind (fun v1 => if v1 = (0 : Int32) then some (-2 : Int32) else if x2 = (0 : Int32) then (xlr σ 10 x1).bind (fun v2 => none) else if x2 = (1 : Int32) then (xlr σ 10 x1).bind (fun v3 => (v3).bind (fun a4 => (xgI σ [(4, 1), (5, 1), (6, 1), (7, 1), (8, 1), (9, 1)] a4).bind (fun v5 => some v5))) else if x2 = (2 : Int32) then (fX1_cost (0 : Fin 3) x1 σ).bind (fun v6 => some v6) else if x2 = (3 : Int32) then (xla 1 σ 11 x1).bind (fun v7 => some v7) else if x2 = (4 : Int32) then (xla 1 σ 11 x1).bind (fun v8 => (fX0_ones v8).bind (fun v9 => some v9)) else some (-2 : Int32))
theorem wi_X0_pointOf : wInfV yX0_pointOf cX0_pointOf 3 (Option.some Jvm.ClassFile.FieldType.int) 2 := ⟨q574, q575, q106, q576, (by decide +kernel), (by decide +kernel), (by decide +kernel)⟩
set_option maxHeartbeats 4000000 in
set_option maxRecDepth 100000 in
theorem met_X0_pointOf {l : Launch} {E : xG} {x1 : Int32} {x2 : Int32} {σ : xS} {res : Int32} (hf : fX0_pointOf x1 x2 σ = some res) : xMet l yX0_pointOf cX0_pointOf 3 (Option.some Jvm.ClassFile.FieldType.int) 3 61 E [.ref (xo E), .int x1, .int x2] σ (some (.int res)) σ := by
  replace hf : ((fX1_isPoint (0 : Fin 3) x1 σ).bind (fun v1 => if v1 = (0 : Int32) then some (-2 : Int32) else if x2 = (0 : Int32) then (xlr σ 10 x1).bind (fun v2 => none) else if x2 = (1 : Int32) then (xlr σ 10 x1).bind (fun v3 => (v3).bind (fun a4 => (xgI σ [(4, 1), (5, 1), (6, 1), (7, 1), (8, 1), (9, 1)] a4).bind (fun v5 => some v5))) else if x2 = (2 : Int32) then (fX1_cost (0 : Fin 3) x1 σ).bind (fun v6 => some v6) else if x2 = (3 : Int32) then (xla 1 σ 11 x1).bind (fun v7 => some v7) else if x2 = (4 : Int32) then (xla 1 σ 11 x1).bind (fun v8 => (fX0_ones v8).bind (fun v9 => some v9)) else some (-2 : Int32))) = some res := hf
  refine x_start (by decide) (Nat.le_of_ble_eq_true rfl) ?_
  intro p e s m args below meth c S hnm hR hS ls hl
  obtain ⟨hx, hb, hml, hown, hts⟩ := S.1.1
  have hl : lv_has ls 3 [(0, .ref (xo E)), (1, .int x1), (2, .int x2)] := hl
  have hn : XN 0 0 (xnx σ) (xns σ) (xnx σ) (xns σ) σ := ⟨Nat.zero_add _, Nat.zero_add _, (rl1.rf σ).1, (rl1.rf σ).2⟩
  refine lv_aload_n hx hb dX0_pointOf_0 rfl (lv_at hl 0 rfl) ?_
  refine x_oget (k := 0) (v := .ref (xnt E (0 : Fin 3))) S hR (lk_X0_10 _ List.mem_cons_self) rfl dX0_pointOf_1 ?_
  refine lv_iload_n hx hb dX0_pointOf_4 rfl (lv_at hl 1 rfl) ?_
  refine k_bind hf (fun v1 hv1 hf => ?_)
  refine x_call (C := RX1) (As := [.int x1]) (rest := []) S hR hS hn (met_X1_isPoint hv1) (rl1.rf _) (hn.b (rl0.rf _)) wi_X1_isPoint (xrc S.2 hR (ci := 1) rfl (Or.inr (Or.inl ⟨_, rfl, rfl⟩))) rfl q559 ⟨Nat.le_of_ble_eq_true rfl, Nat.le_of_ble_eq_true rfl⟩ rfl hl.1 rfl (Nat.le_of_ble_eq_true rfl) dX0_pointOf_5 (fun H locs cells slots hR hS hn => ?_)
  refine lv_if_ne (tgt := 14) hx hb dX0_pointOf_8 (by decide) (fun c_8 => ?_) (fun c_8 => ?_)
  · replace hf := o_f hf c_8
    refine lv_iload_n hx hb dX0_pointOf_14 rfl (lv_at hl 2 rfl) ?_
    by_cases c_15_0 : x2 = (0 : Int32)
    · replace hf := o_t hf c_15_0
      refine lv_tableIn (tgt := 48) hx hb dX0_pointOf_15 (by rw [c_15_0]; decide) (by rw [c_15_0]; decide) (by rw [c_15_0]; rfl) (by decide) ?_
      refine lv_aload_n hx hb dX0_pointOf_48 rfl (lv_at hl 0 rfl) ?_
      refine x_oget (k := 0) (v := .ref (xnt E (0 : Fin 3))) S hR (lk_X0_10 _ List.mem_cons_self) rfl dX0_pointOf_49 ?_
      refine x_ngetN (j := (0 : Fin 3)) (k := 0) (v := .ref (xar E 10)) S hR (lk_X0_138 _ List.mem_cons_self) rfl dX0_pointOf_52 ?_
      refine lv_iload_n hx hb dX0_pointOf_55 rfl (lv_at hl 1 rfl) ?_
      refine k_bind hf (fun v2 hv2 hf => ?_)
      refine x_slr S hR hv2 dX0_pointOf_56 ?_
      cases hf
    replace hf := o_f hf c_15_0
    by_cases c_15_1 : x2 = (1 : Int32)
    · replace hf := o_t hf c_15_1
      refine lv_tableIn (tgt := 61) hx hb dX0_pointOf_15 (by rw [c_15_1]; decide) (by rw [c_15_1]; decide) (by rw [c_15_1]; rfl) (by decide) ?_
      refine lv_aload_n hx hb dX0_pointOf_61 rfl (lv_at hl 0 rfl) ?_
      refine x_oget (k := 0) (v := .ref (xnt E (0 : Fin 3))) S hR (lk_X0_10 _ List.mem_cons_self) rfl dX0_pointOf_62 ?_
      refine x_ngetN (j := (0 : Fin 3)) (k := 0) (v := .ref (xar E 10)) S hR (lk_X0_138 _ List.mem_cons_self) rfl dX0_pointOf_65 ?_
      refine lv_iload_n hx hb dX0_pointOf_68 rfl (lv_at hl 1 rfl) ?_
      refine k_bind hf (fun v3 hv3 hf => ?_)
      refine x_slr S hR hv3 dX0_pointOf_69 ?_
      refine k_bind hf (fun a4 ha4 hf => ?_)
      rw [rf_some ha4]
      refine k_bind hf (fun v5 hv5 hf => ?_)
      refine x_get S hR lk_X0_146 (xgI_g hv5) dX0_pointOf_70 ?_
      obtain rfl := Option.some.inj hf
      exact x_iret S hR hS hn rfl dX0_pointOf_73
    replace hf := o_f hf c_15_1
    by_cases c_15_2 : x2 = (2 : Int32)
    · replace hf := o_t hf c_15_2
      refine lv_tableIn (tgt := 74) hx hb dX0_pointOf_15 (by rw [c_15_2]; decide) (by rw [c_15_2]; decide) (by rw [c_15_2]; rfl) (by decide) ?_
      refine lv_aload_n hx hb dX0_pointOf_74 rfl (lv_at hl 0 rfl) ?_
      refine x_oget (k := 0) (v := .ref (xnt E (0 : Fin 3))) S hR (lk_X0_10 _ List.mem_cons_self) rfl dX0_pointOf_75 ?_
      refine lv_iload_n hx hb dX0_pointOf_78 rfl (lv_at hl 1 rfl) ?_
      refine k_bind hf (fun v6 hv6 hf => ?_)
      refine x_call (C := RX1) (As := [.int x1]) (rest := []) S hR hS hn (met_X1_cost hv6) (rl1.rf _) (hn.b (rl0.rf _)) wi_X1_cost (xrc S.2 hR (ci := 1) rfl (Or.inr (Or.inl ⟨_, rfl, rfl⟩))) rfl q600 ⟨Nat.le_of_ble_eq_true rfl, Nat.le_of_ble_eq_true rfl⟩ rfl hl.1 rfl (Nat.le_of_ble_eq_true rfl) dX0_pointOf_79 (fun H locs cells slots hR hS hn => ?_)
      obtain rfl := Option.some.inj hf
      exact x_iret S hR hS hn rfl dX0_pointOf_82
    replace hf := o_f hf c_15_2
    by_cases c_15_3 : x2 = (3 : Int32)
    · replace hf := o_t hf c_15_3
      refine lv_tableIn (tgt := 83) hx hb dX0_pointOf_15 (by rw [c_15_3]; decide) (by rw [c_15_3]; decide) (by rw [c_15_3]; rfl) (by decide) ?_
      refine lv_aload_n hx hb dX0_pointOf_83 rfl (lv_at hl 0 rfl) ?_
      refine x_oget (k := 0) (v := .ref (xnt E (0 : Fin 3))) S hR (lk_X0_10 _ List.mem_cons_self) rfl dX0_pointOf_84 ?_
      refine x_ngetN (j := (0 : Fin 3)) (k := 1) (v := .ref (xar E 11)) S hR (lk_X0_152 _ List.mem_cons_self) rfl dX0_pointOf_87 ?_
      refine lv_iload_n hx hb dX0_pointOf_90 rfl (lv_at hl 1 rfl) ?_
      refine k_bind hf (fun v7 hv7 hf => ?_)
      refine x_sl1 S hR hv7 dX0_pointOf_91 ?_
      obtain rfl := Option.some.inj hf
      exact x_iret S hR hS hn rfl dX0_pointOf_92
    replace hf := o_f hf c_15_3
    by_cases c_15_4 : x2 = (4 : Int32)
    · replace hf := o_t hf c_15_4
      refine lv_tableIn (tgt := 93) hx hb dX0_pointOf_15 (by rw [c_15_4]; decide) (by rw [c_15_4]; decide) (by rw [c_15_4]; rfl) (by decide) ?_
      refine lv_aload_n hx hb dX0_pointOf_93 rfl (lv_at hl 0 rfl) ?_
      refine x_oget (k := 0) (v := .ref (xnt E (0 : Fin 3))) S hR (lk_X0_10 _ List.mem_cons_self) rfl dX0_pointOf_94 ?_
      refine x_ngetN (j := (0 : Fin 3)) (k := 1) (v := .ref (xar E 11)) S hR (lk_X0_152 _ List.mem_cons_self) rfl dX0_pointOf_97 ?_
      refine lv_iload_n hx hb dX0_pointOf_100 rfl (lv_at hl 1 rfl) ?_
      refine k_bind hf (fun v8 hv8 hf => ?_)
      refine x_sl1 S hR hv8 dX0_pointOf_101 ?_
      refine k_bind hf (fun v9 hv9 hf => ?_)
      refine s_call (As := [.int v8]) (rest := []) S.1.1 (met_X0_ones hv9) wi_X0_ones q637 ⟨rfl, rfl⟩ ⟨Nat.le_of_ble_eq_true rfl, Nat.le_of_ble_eq_true rfl⟩ rfl hl.1 rfl (Nat.le_of_ble_eq_true rfl) dX0_pointOf_102 hn.cs ?_
      obtain rfl := Option.some.inj hf
      exact x_iret S hR hS hn rfl dX0_pointOf_105
    replace hf := o_f hf c_15_4
    refine lv_tableOut (tgt := 106) hx hb dX0_pointOf_15 (by have t0 := lv_neT c_15_0 (a := 0) rfl; have t1 := lv_neT c_15_1 (a := 1) rfl; have t2 := lv_neT c_15_2 (a := 2) rfl; have t3 := lv_neT c_15_3 (a := 3) rfl; have t4 := lv_neT c_15_4 (a := 4) rfl; omega) (by decide) ?_
    refine lv_bipush (v := -2) hx hb dX0_pointOf_106 (by decide) ?_
    obtain rfl := Option.some.inj hf
    exact x_iret S hR hS hn rfl dX0_pointOf_108
  · replace hf := o_t hf c_8
    refine lv_bipush (v := -2) hx hb dX0_pointOf_11 (by decide) ?_
    obtain rfl := Option.some.inj hf
    exact x_iret S hR hS hn rfl dX0_pointOf_13


noncomputable def JX0_change_87 (y2 : Int32) (y4 : Option Nat) (z0 : Int32) (z1 : Int32) (z2 : Int32) (z3 : Int32) (z4 : Nat) (σ : xS) : Option (Int32 × xS) :=
  (fX0_made z2 z1 z0 σ).bind (fun e3 => (xsr e3.2 z4 z3 e3.1).bind (fun σ4 => if y2 = (0 : Int32) then none else (y4).bind (fun a5 => (xgI σ4 [(4, 1), (5, 1), (6, 1), (7, 1), (8, 1), (9, 1)] a5).bind (fun v6 => some (v6, σ4)))))
noncomputable def JX0_change_32 (y1 : Int32) (y2 : Int32) (y3 : Int32) (z0 : Int32) (z1 : Int32) (z2 : Int32) (σ : xS) : Option (Int32 × xS) :=
  if (fX0_in z2 z1 z0) = (0 : Int32) then some ((-2 : Int32), σ) else (xlr σ 10 y1).bind (fun v2 => if y2 = (0 : Int32) then if y2 = (0 : Int32) then (v2).bind (fun a7 => (xgI σ [(4, 1), (5, 1), (6, 1), (7, 1), (8, 1), (9, 1)] a7).bind (fun v8 => JX0_change_87 y2 v2 v8 y1 y3 y1 10 σ)) else JX0_change_87 y2 v2 y3 y1 y3 y1 10 σ else none)
noncomputable def fX0_change (x1 : Int32) (x2 : Int32) (x3 : Int32) (σ : xS) : Option (Int32 × xS) :=
  (fX1_isPoint (0 : Fin 3) x1 σ).bind (fun v1 => if v1 = (0 : Int32) then some ((-2 : Int32), σ) else if (fX0_in x2 (0 : Int32) (1 : Int32)) = (0 : Int32) then some ((-2 : Int32), σ) else if x2 = (0 : Int32) then JX0_change_32 x1 x2 x3 (5 : Int32) x2 x3 σ else JX0_change_32 x1 x2 x3 (9 : Int32) x2 x3 σ)
theorem wi_X0_change : wInfV yX0_change cX0_change 5 (Option.some Jvm.ClassFile.FieldType.int) 3 := ⟨q639, q640, q106, q641, (by decide +kernel), (by decide +kernel), (by decide +kernel)⟩
set_option maxHeartbeats 4000000 in
set_option maxRecDepth 100000 in
theorem rJX0_change_87 {y2 : Int32} {y4 : Option Nat} {z0 : Int32} {z1 : Int32} {z2 : Int32} {z3 : Int32} {z4 : Nat} {σ : xS} {res : Int32 × xS} (hf : JX0_change_87 y2 y4 z0 z1 z2 z3 z4 σ = some res) : rl1 σ res.2 := by
  replace hf : ((fX0_made z2 z1 z0 σ).bind (fun e3 => (xsr e3.2 z4 z3 e3.1).bind (fun σ4 => if y2 = (0 : Int32) then none else (y4).bind (fun a5 => (xgI σ4 [(4, 1), (5, 1), (6, 1), (7, 1), (8, 1), (9, 1)] a5).bind (fun v6 => some (v6, σ4)))))) = some res := hf
  refine k_bind hf (fun e3 he3 hf => ?_)
  refine rl1.tr (r1_X0_made he3) ?_
  refine k_bind hf (fun σ4 hσ4 hf => ?_)
  refine rl0.tr1 (r0_sr hσ4) ?_
  by_cases c0 : y2 = (0 : Int32)
  · replace hf := o_t hf c0
    cases hf
  · replace hf := o_f hf c0
    refine k_bind hf (fun a5 ha5 hf => ?_)
    refine k_bind hf (fun v6 hv6 hf => ?_)
    obtain rfl := Option.some.inj hf
    exact rl1.rf _
set_option maxHeartbeats 4000000 in
set_option maxRecDepth 100000 in
theorem rJX0_change_32 {y1 : Int32} {y2 : Int32} {y3 : Int32} {z0 : Int32} {z1 : Int32} {z2 : Int32} {σ : xS} {res : Int32 × xS} (hf : JX0_change_32 y1 y2 y3 z0 z1 z2 σ = some res) : rl1 σ res.2 := by
  replace hf : (if (fX0_in z2 z1 z0) = (0 : Int32) then some ((-2 : Int32), σ) else (xlr σ 10 y1).bind (fun v2 => if y2 = (0 : Int32) then if y2 = (0 : Int32) then (v2).bind (fun a7 => (xgI σ [(4, 1), (5, 1), (6, 1), (7, 1), (8, 1), (9, 1)] a7).bind (fun v8 => JX0_change_87 y2 v2 v8 y1 y3 y1 10 σ)) else JX0_change_87 y2 v2 y3 y1 y3 y1 10 σ else none)) = some res := hf
  by_cases c0 : (fX0_in z2 z1 z0) = (0 : Int32)
  · replace hf := o_t hf c0
    obtain rfl := Option.some.inj hf
    exact rl1.rf _
  · replace hf := o_f hf c0
    refine k_bind hf (fun v2 hv2 hf => ?_)
    by_cases c0 : y2 = (0 : Int32)
    · replace hf := o_t hf c0
      by_cases c0 : y2 = (0 : Int32)
      · replace hf := o_t hf c0
        refine k_bind hf (fun a7 ha7 hf => ?_)
        refine k_bind hf (fun v8 hv8 hf => ?_)
        exact rJX0_change_87 hf
      · replace hf := o_f hf c0
        exact rJX0_change_87 hf
    · replace hf := o_f hf c0
      cases hf
set_option maxHeartbeats 4000000 in
set_option maxRecDepth 100000 in
theorem r1_X0_change {x1 : Int32} {x2 : Int32} {x3 : Int32} {σ : xS} {res : Int32 × xS} (hf : fX0_change x1 x2 x3 σ = some res) : rl1 σ res.2 := by
  replace hf : ((fX1_isPoint (0 : Fin 3) x1 σ).bind (fun v1 => if v1 = (0 : Int32) then some ((-2 : Int32), σ) else if (fX0_in x2 (0 : Int32) (1 : Int32)) = (0 : Int32) then some ((-2 : Int32), σ) else if x2 = (0 : Int32) then JX0_change_32 x1 x2 x3 (5 : Int32) x2 x3 σ else JX0_change_32 x1 x2 x3 (9 : Int32) x2 x3 σ)) = some res := hf
  refine k_bind hf (fun v1 hv1 hf => ?_)
  by_cases c0 : v1 = (0 : Int32)
  · replace hf := o_t hf c0
    obtain rfl := Option.some.inj hf
    exact rl1.rf _
  · replace hf := o_f hf c0
    by_cases c0 : (fX0_in x2 (0 : Int32) (1 : Int32)) = (0 : Int32)
    · replace hf := o_t hf c0
      obtain rfl := Option.some.inj hf
      exact rl1.rf _
    · replace hf := o_f hf c0
      by_cases c0 : x2 = (0 : Int32)
      · replace hf := o_t hf c0
        exact rJX0_change_32 hf
      · replace hf := o_f hf c0
        exact rJX0_change_32 hf
set_option maxHeartbeats 4000000 in
set_option maxRecDepth 100000 in
theorem wJX0_change_87 {l : Launch} {E : xG} {p : Program} {e : Env} {s : State} {m : MethodId} {args : Array Value} {below : List Frame} {meth : Method} {c : Code} {σ0 : xS} {y2 : Int32} {y4 : Option Nat} {z0 : Int32} {z1 : Int32} {z2 : Int32} {z3 : Int32} {z4 : Nat} {σ : xS} {res : Int32 × xS} (S : xSt E RX0 p m c cX0_change 5 s args meth (Option.some Jvm.ClassFile.FieldType.int)) (hf : JX0_change_87 y2 y4 z0 z1 z2 z3 z4 σ = some res) : ∀ (H : Heap) (locs : List Loc) (cells slots : Nat) (ls : Array Slot), xR E σ H → va_S (xAA E) s.heap H locs → XN cells slots (xnx σ0) (xns σ0) (xnx res.2) (xns res.2) σ → lv_has ls 5 [(2, .int y2), (4, va_rf y4)] → W p l e (xRm 6 134 ((xnx res.2) - (xnx σ0)) ((xns res.2) - (xns σ0))) s m args below meth c H locs cells slots (MQ below (xQ E (some (.int res.1)) res.2) args s (xnx res.2 - xnx σ0) (xns res.2 - xns σ0) (xAA E)) (F0 m 87 ls [.int z0, .int z1, .int z2, .int z3, .ref (xar E z4)]) := by
  replace hf : ((fX0_made z2 z1 z0 σ).bind (fun e3 => (xsr e3.2 z4 z3 e3.1).bind (fun σ4 => if y2 = (0 : Int32) then none else (y4).bind (fun a5 => (xgI σ4 [(4, 1), (5, 1), (6, 1), (7, 1), (8, 1), (9, 1)] a5).bind (fun v6 => some (v6, σ4)))))) = some res := hf
  obtain ⟨hx, hb, hml, hown, hts⟩ := S.1.1
  intro H locs cells slots ls hR hS hn hl
  have hb9 : XB (xnx res.2) (xns res.2) res.2 := ⟨Nat.le_refl _, Nat.le_refl _⟩
  refine k_bind hf (fun e3 he3 hf => ?_)
  have hb_87 : XB (xnx res.2) (xns res.2) e3.2 := hb9.back (by
    refine k_bind hf (fun σ4 hσ4 hf => ?_)
    refine rl0.tr1 (r0_sr hσ4) ?_
    by_cases c0 : y2 = (0 : Int32)
    · replace hf := o_t hf c0
      cases hf
    · replace hf := o_f hf c0
      refine k_bind hf (fun a5 ha5 hf => ?_)
      refine k_bind hf (fun v6 hv6 hf => ?_)
      obtain rfl := Option.some.inj hf
      exact rl1.rf _)
  refine x_callS (As := [.int z2, .int z1, .int z0]) (rest := [.int z3, .ref (xar E z4)]) S hR hS hn (met_X0_made he3) (r1_X0_made he3) hb_87 wi_X0_made q642 ⟨Nat.le_of_ble_eq_true rfl, Nat.le_of_ble_eq_true rfl⟩ rfl hl.1 rfl (Nat.le_of_ble_eq_true rfl) dX0_change_87 (fun H locs cells slots hR hS hn => ?_)
  refine k_bind hf (fun σ4 hσ4 hf => ?_)
  refine x_ssr (r := e3.1) S hR hS hσ4 dX0_change_90 (fun H locs hR hS => ?_)
  replace hn := hn.to (r0_sr hσ4)
  refine lv_iload_n hx hb dX0_change_91 rfl (lv_at hl 0 rfl) ?_
  refine lv_if_ne (tgt := 103) hx hb dX0_change_92 (by decide) (fun c_92 => ?_) (fun c_92 => ?_)
  · replace hf := o_f hf c_92
    refine x_aload (r := y4) hx hb dX0_change_103 (lv_at hl 1 rfl) ?_
    refine k_bind hf (fun a5 ha5 hf => ?_)
    rw [rf_some ha5]
    refine k_bind hf (fun v6 hv6 hf => ?_)
    refine x_get S hR lk_X0_146 (xgI_g hv6) dX0_change_105 ?_
    obtain rfl := Option.some.inj hf
    exact x_iret S hR hS hn rfl dX0_change_108
  · replace hf := o_t hf c_92
    refine x_aload (r := y4) hx hb dX0_change_95 (lv_at hl 1 rfl) ?_
    cases hf
set_option maxHeartbeats 4000000 in
set_option maxRecDepth 100000 in
theorem wJX0_change_32 {l : Launch} {E : xG} {p : Program} {e : Env} {s : State} {m : MethodId} {args : Array Value} {below : List Frame} {meth : Method} {c : Code} {σ0 : xS} {y1 : Int32} {y2 : Int32} {y3 : Int32} {z0 : Int32} {z1 : Int32} {z2 : Int32} {σ : xS} {res : Int32 × xS} (S : xSt E RX0 p m c cX0_change 5 s args meth (Option.some Jvm.ClassFile.FieldType.int)) (hf : JX0_change_32 y1 y2 y3 z0 z1 z2 σ = some res) : ∀ (H : Heap) (locs : List Loc) (cells slots : Nat) (ls : Array Slot), xR E σ H → va_S (xAA E) s.heap H locs → XN cells slots (xnx σ0) (xns σ0) (xnx res.2) (xns res.2) σ → lv_has ls 5 [(0, .ref (xo E)), (1, .int y1), (2, .int y2), (3, .int y3)] → W p l e (xRm 6 134 ((xnx res.2) - (xnx σ0)) ((xns res.2) - (xns σ0))) s m args below meth c H locs cells slots (MQ below (xQ E (some (.int res.1)) res.2) args s (xnx res.2 - xnx σ0) (xns res.2 - xns σ0) (xAA E)) (F0 m 32 ls [.int z0, .int z1, .int z2]) := by
  replace hf : (if (fX0_in z2 z1 z0) = (0 : Int32) then some ((-2 : Int32), σ) else (xlr σ 10 y1).bind (fun v2 => if y2 = (0 : Int32) then if y2 = (0 : Int32) then (v2).bind (fun a7 => (xgI σ [(4, 1), (5, 1), (6, 1), (7, 1), (8, 1), (9, 1)] a7).bind (fun v8 => JX0_change_87 y2 v2 v8 y1 y3 y1 10 σ)) else JX0_change_87 y2 v2 y3 y1 y3 y1 10 σ else none)) = some res := hf
  obtain ⟨hx, hb, hml, hown, hts⟩ := S.1.1
  intro H locs cells slots ls hR hS hn hl
  have hb9 : XB (xnx res.2) (xns res.2) res.2 := ⟨Nat.le_refl _, Nat.le_refl _⟩
  refine s_call (As := [.int z2, .int z1, .int z0]) (rest := []) S.1.1 (met_X0_in rfl) wi_X0_in q479 ⟨rfl, rfl⟩ ⟨Nat.le_of_ble_eq_true rfl, Nat.le_of_ble_eq_true rfl⟩ rfl hl.1 rfl (Nat.le_of_ble_eq_true rfl) dX0_change_32 hn.cs ?_
  refine lv_if_ne (tgt := 41) hx hb dX0_change_35 (by decide) (fun c_35 => ?_) (fun c_35 => ?_)
  · replace hf := o_f hf c_35
    refine lv_aload_n hx hb dX0_change_41 rfl (lv_at hl 0 rfl) ?_
    refine x_oget (k := 0) (v := .ref (xnt E (0 : Fin 3))) S hR (lk_X0_10 _ List.mem_cons_self) rfl dX0_change_42 ?_
    refine x_ngetN (j := (0 : Fin 3)) (k := 0) (v := .ref (xar E 10)) S hR (lk_X0_138 _ List.mem_cons_self) rfl dX0_change_45 ?_
    refine lv_iload_n hx hb dX0_change_48 rfl (lv_at hl 1 rfl) ?_
    refine k_bind hf (fun v2 hv2 hf => ?_)
    refine x_slr S hR hv2 dX0_change_49 ?_
    refine x_astore (r := v2) (lv' := [(4, va_rf v2), (0, .ref (xo E)), (1, .int y1), (2, .int y2), (3, .int y3)]) hx hb dX0_change_50 hl (by decide) rfl (fun ls hl => ?_)
    refine lv_aload_n hx hb dX0_change_52 rfl (lv_at hl 1 rfl) ?_
    refine x_oget (k := 0) (v := .ref (xnt E (0 : Fin 3))) S hR (lk_X0_10 _ List.mem_cons_self) rfl dX0_change_53 ?_
    refine x_ngetN (j := (0 : Fin 3)) (k := 0) (v := .ref (xar E 10)) S hR (lk_X0_138 _ List.mem_cons_self) rfl dX0_change_56 ?_
    refine lv_iload_n hx hb dX0_change_59 rfl (lv_at hl 2 rfl) ?_
    refine lv_iload_n hx hb dX0_change_60 rfl (lv_at hl 3 rfl) ?_
    refine lv_if_ne (tgt := 68) hx hb dX0_change_61 (by decide) (fun c_61 => ?_) (fun c_61 => ?_)
    · replace hf := o_f hf c_61
      refine x_aload (r := v2) hx hb dX0_change_68 (lv_at hl 0 rfl) ?_
      cases hf
    · replace hf := o_t hf c_61
      refine lv_iload_n hx hb dX0_change_64 rfl (lv_at hl 4 rfl) ?_
      refine lv_goto (tgt := 73) hx hb dX0_change_65 (by decide) ?_
      refine lv_iload_n hx hb dX0_change_73 rfl (lv_at hl 2 rfl) ?_
      refine lv_iload_n hx hb dX0_change_74 rfl (lv_at hl 3 rfl) ?_
      refine lv_if_ne (tgt := 86) hx hb dX0_change_75 (by decide) (fun c_75 => ?_) (fun c_75 => ?_)
      · replace hf := o_f hf c_75
        refine lv_iload_n hx hb dX0_change_86 rfl (lv_at hl 4 rfl) ?_
        exact wJX0_change_87 S hf _ _ _ _ _ hR hS hn (lv_sub (l' := [(2, .int y2), (4, va_rf v2)]) hl [3, 0] rfl)
      · replace hf := o_t hf c_75
        refine x_aload (r := v2) hx hb dX0_change_78 (lv_at hl 0 rfl) ?_
        refine k_bind hf (fun a7 ha7 hf => ?_)
        rw [rf_some ha7]
        refine k_bind hf (fun v8 hv8 hf => ?_)
        refine x_get S hR lk_X0_146 (xgI_g hv8) dX0_change_80 ?_
        refine lv_goto (tgt := 87) hx hb dX0_change_83 (by decide) ?_
        exact wJX0_change_87 S hf _ _ _ _ _ hR hS hn (lv_sub (l' := [(2, .int y2), (4, va_rf v2)]) hl [3, 0] rfl)
  · replace hf := o_t hf c_35
    refine lv_bipush (v := -2) hx hb dX0_change_38 (by decide) ?_
    obtain rfl := Option.some.inj hf
    exact x_iret S hR hS hn rfl dX0_change_40
set_option maxHeartbeats 4000000 in
set_option maxRecDepth 100000 in
theorem met_X0_change {l : Launch} {E : xG} {x1 : Int32} {x2 : Int32} {x3 : Int32} {σ : xS} {res : Int32 × xS} (hf : fX0_change x1 x2 x3 σ = some res) : xMet l yX0_change cX0_change 5 (Option.some Jvm.ClassFile.FieldType.int) 6 134 E [.ref (xo E), .int x1, .int x2, .int x3] σ (some (.int res.1)) res.2 := by
  replace hf : ((fX1_isPoint (0 : Fin 3) x1 σ).bind (fun v1 => if v1 = (0 : Int32) then some ((-2 : Int32), σ) else if (fX0_in x2 (0 : Int32) (1 : Int32)) = (0 : Int32) then some ((-2 : Int32), σ) else if x2 = (0 : Int32) then JX0_change_32 x1 x2 x3 (5 : Int32) x2 x3 σ else JX0_change_32 x1 x2 x3 (9 : Int32) x2 x3 σ)) = some res := hf
  refine x_start (by decide) (Nat.le_of_ble_eq_true rfl) ?_
  intro p e s m args below meth c S hnm hR hS ls hl
  obtain ⟨hx, hb, hml, hown, hts⟩ := S.1.1
  have hl : lv_has ls 5 [(0, .ref (xo E)), (1, .int x1), (2, .int x2), (3, .int x3)] := hl
  have hn : XN 0 0 (xnx σ) (xns σ) (xnx res.2) (xns res.2) σ := ⟨Nat.zero_add _, Nat.zero_add _, (r1_X0_change (x1 := x1) (x2 := x2) (x3 := x3) (σ := σ) hf).1, (r1_X0_change (x1 := x1) (x2 := x2) (x3 := x3) (σ := σ) hf).2⟩
  have hb9 : XB (xnx res.2) (xns res.2) res.2 := ⟨Nat.le_refl _, Nat.le_refl _⟩
  refine lv_aload_n hx hb dX0_change_0 rfl (lv_at hl 0 rfl) ?_
  refine x_oget (k := 0) (v := .ref (xnt E (0 : Fin 3))) S hR (lk_X0_10 _ List.mem_cons_self) rfl dX0_change_1 ?_
  refine lv_iload_n hx hb dX0_change_4 rfl (lv_at hl 1 rfl) ?_
  refine k_bind hf (fun v1 hv1 hf => ?_)
  refine x_call (C := RX1) (As := [.int x1]) (rest := []) S hR hS hn (met_X1_isPoint hv1) (rl1.rf _) (hn.b (rl0.rf _)) wi_X1_isPoint (xrc S.2 hR (ci := 1) rfl (Or.inr (Or.inl ⟨_, rfl, rfl⟩))) rfl q559 ⟨Nat.le_of_ble_eq_true rfl, Nat.le_of_ble_eq_true rfl⟩ rfl hl.1 rfl (Nat.le_of_ble_eq_true rfl) dX0_change_5 (fun H locs cells slots hR hS hn => ?_)
  refine lv_if_eq (tgt := 38) hx hb dX0_change_8 (by decide) (fun c_8 => ?_) (fun c_8 => ?_)
  · replace hf := o_t hf c_8
    refine lv_bipush (v := -2) hx hb dX0_change_38 (by decide) ?_
    obtain rfl := Option.some.inj hf
    exact x_iret S hR hS hn rfl dX0_change_40
  · replace hf := o_f hf c_8
    refine lv_iload_n hx hb dX0_change_11 rfl (lv_at hl 2 rfl) ?_
    refine lv_iconst (v := 0) hx hb dX0_change_12 (by decide) ?_
    refine lv_iconst (v := 1) hx hb dX0_change_13 (by decide) ?_
    refine s_call (As := [.int x2, .int (0 : Int32), .int (1 : Int32)]) (rest := []) S.1.1 (met_X0_in rfl) wi_X0_in q479 ⟨rfl, rfl⟩ ⟨Nat.le_of_ble_eq_true rfl, Nat.le_of_ble_eq_true rfl⟩ rfl hl.1 rfl (Nat.le_of_ble_eq_true rfl) dX0_change_14 hn.cs ?_
    refine lv_if_eq (tgt := 38) hx hb dX0_change_17 (by decide) (fun c_17 => ?_) (fun c_17 => ?_)
    · replace hf := o_t hf c_17
      refine lv_bipush (v := -2) hx hb dX0_change_38 (by decide) ?_
      obtain rfl := Option.some.inj hf
      exact x_iret S hR hS hn rfl dX0_change_40
    · replace hf := o_f hf c_17
      refine lv_iload_n hx hb dX0_change_20 rfl (lv_at hl 3 rfl) ?_
      refine lv_iload_n hx hb dX0_change_21 rfl (lv_at hl 2 rfl) ?_
      refine lv_iload_n hx hb dX0_change_22 rfl (lv_at hl 2 rfl) ?_
      refine lv_if_ne (tgt := 30) hx hb dX0_change_23 (by decide) (fun c_23 => ?_) (fun c_23 => ?_)
      · replace hf := o_f hf c_23
        refine lv_bipush (v := 9) hx hb dX0_change_30 (by decide) ?_
        exact wJX0_change_32 S hf _ _ _ _ _ hR hS hn hl
      · replace hf := o_t hf c_23
        refine lv_iconst (v := 5) hx hb dX0_change_26 (by decide) ?_
        refine lv_goto (tgt := 32) hx hb dX0_change_27 (by decide) ?_
        exact wJX0_change_32 S hf _ _ _ _ _ hR hS hn hl


noncomputable def LX0_lonely_4 (σ : xS) (q : Int32 × Int32) : Option ((Int32 × Int32) ⊕ (Int32)) :=
  if (xN σ (0 : Fin 3) 2) ≤ q.2 then some (Sum.inr q.1) else (xla 1 σ 11 q.2).bind (fun v1 => if v1 = (0 : Int32) then (some (q.1 + (1 : Int32))).bind (fun v3 => some (Sum.inl (v3, q.2 + (1 : Int32)))) else (some (q.1 + (0 : Int32))).bind (fun v2 => some (Sum.inl (v2, q.2 + (1 : Int32)))))
noncomputable def fX0_lonely (σ : xS) : Option (Int32) :=
  (lpw (LX0_lonely_4 σ) ((0 : Int32), (0 : Int32))).bind (fun b4 => some b4)
theorem wi_X0_lonely : wInfV yX0_lonely cX0_lonely 3 (Option.some Jvm.ClassFile.FieldType.int) 0 := ⟨q653, qs12, q106, q654, (by decide +kernel), (by decide +kernel), (by decide +kernel)⟩
set_option maxHeartbeats 4000000 in
set_option maxRecDepth 100000 in
theorem wbLX0_lonely_4 {l : Launch} {E : xG} {p : Program} {e : Env} {s : State} {m : MethodId} {args : Array Value} {below : List Frame} {meth : Method} {c : Code} {Q : State → Prop} {n0 s0 nf sf : Nat} {σ : xS} {q : Int32 × Int32} {res : (Int32 × Int32) ⊕ (Int32)} (S : xSt E RX0 p m c cX0_lonely 3 s args meth (Option.some Jvm.ClassFile.FieldType.int)) (hf : LX0_lonely_4 σ q = some res) (hK : ∀ q, res = Sum.inl q → (∀ (H : Heap) (locs : List Loc) (cells slots : Nat) (ls : Array Slot), xR E σ H → va_S (xAA E) s.heap H locs → XN cells slots n0 s0 nf sf σ → lv_has ls 3 [(0, .ref (xo E)), (1, .int q.1), (2, .int q.2)] → W p l e (xRm 0 0 (nf - n0) (sf - s0)) s m args below meth c H locs cells slots Q (F0 m 4 ls []))) (hE41 : ∀ b, res = Sum.inr b → (∀ (H : Heap) (locs : List Loc) (cells slots : Nat) (ls : Array Slot), xR E σ H → va_S (xAA E) s.heap H locs → XN cells slots n0 s0 nf sf σ → lv_has ls 3 [(1, .int b)] → W p l e (xRm 0 0 (nf - n0) (sf - s0)) s m args below meth c H locs cells slots Q (F0 m 41 ls []))) : (∀ (H : Heap) (locs : List Loc) (cells slots : Nat) (ls : Array Slot), xR E σ H → va_S (xAA E) s.heap H locs → XN cells slots n0 s0 nf sf σ → lv_has ls 3 [(0, .ref (xo E)), (1, .int q.1), (2, .int q.2)] → W p l e (xRm 0 0 (nf - n0) (sf - s0)) s m args below meth c H locs cells slots Q (F0 m 4 ls [])) := by
  replace hf : (if (xN σ (0 : Fin 3) 2) ≤ q.2 then some (Sum.inr q.1) else (xla 1 σ 11 q.2).bind (fun v1 => if v1 = (0 : Int32) then (some (q.1 + (1 : Int32))).bind (fun v3 => some (Sum.inl (v3, q.2 + (1 : Int32)))) else (some (q.1 + (0 : Int32))).bind (fun v2 => some (Sum.inl (v2, q.2 + (1 : Int32)))))) = some res := hf
  obtain ⟨hx, hb, hml, hown, hts⟩ := S.1.1
  intro H locs cells slots ls hR hS hn hl
  refine lv_iload_n hx hb dX0_lonely_4 rfl (lv_at hl 2 rfl) ?_
  refine lv_aload_n hx hb dX0_lonely_5 rfl (lv_at hl 0 rfl) ?_
  refine x_oget (k := 0) (v := .ref (xnt E (0 : Fin 3))) S hR (lk_X0_10 _ List.mem_cons_self) rfl dX0_lonely_6 ?_
  refine x_ngetN (j := (0 : Fin 3)) (k := 2) (v := .int (xN σ (0 : Fin 3) 2)) S hR (lk_X0_115 _ List.mem_cons_self) rfl dX0_lonely_9 ?_
  refine lv_icmp_ge (tgt := 41) hx hb dX0_lonely_12 (by decide) (fun c_12 => ?_) (fun c_12 => ?_)
  · replace hf := o_t hf c_12
    exact hE41 _ (Option.some.inj hf).symm _ _ _ _ _ hR hS hn (lv_sub (l' := [(1, .int q.1)]) hl [1] rfl)
  · replace hf := o_f hf c_12
    refine lv_iload_n hx hb dX0_lonely_15 rfl (lv_at hl 1 rfl) ?_
    refine lv_aload_n hx hb dX0_lonely_16 rfl (lv_at hl 0 rfl) ?_
    refine x_oget (k := 0) (v := .ref (xnt E (0 : Fin 3))) S hR (lk_X0_10 _ List.mem_cons_self) rfl dX0_lonely_17 ?_
    refine x_ngetN (j := (0 : Fin 3)) (k := 1) (v := .ref (xar E 11)) S hR (lk_X0_152 _ List.mem_cons_self) rfl dX0_lonely_20 ?_
    refine lv_iload_n hx hb dX0_lonely_23 rfl (lv_at hl 2 rfl) ?_
    refine k_bind hf (fun v1 hv1 hf => ?_)
    refine x_sl1 S hR hv1 dX0_lonely_24 ?_
    refine lv_if_ne (tgt := 32) hx hb dX0_lonely_25 (by decide) (fun c_25 => ?_) (fun c_25 => ?_)
    · replace hf := o_f hf c_25
      refine lv_iconst (v := 0) hx hb dX0_lonely_32 (by decide) ?_
      refine lv_iadd hx hb dX0_lonely_33 ?_
      refine k_bind hf (fun v2 hv2 hf => ?_)
      refine m_nmi hv2 ?_
      refine lv_istore_n (lv' := [(1, .int v2), (0, .ref (xo E)), (2, .int q.2)]) hx hb dX0_lonely_34 rfl hl (by decide) rfl (fun ls hl => ?_)
      refine lv_iinc (lv' := [(2, .int (q.2 + (1 : Int32))), (1, .int v2), (0, .ref (xo E))]) hx hb dX0_lonely_35 hl (k := 2) rfl (m_inc (by decide)) (by decide) rfl (fun ls hl => ?_)
      refine lv_goto (tgt := 4) hx hb dX0_lonely_38 (by decide) ?_
      exact hK _ (Option.some.inj hf).symm _ _ _ _ _ hR hS hn (lv_sub (l' := [(0, .ref (xo E)), (1, .int v2), (2, .int (q.2 + (1 : Int32)))]) hl [2, 1, 0] rfl)
    · replace hf := o_t hf c_25
      refine lv_iconst (v := 1) hx hb dX0_lonely_28 (by decide) ?_
      refine lv_goto (tgt := 33) hx hb dX0_lonely_29 (by decide) ?_
      refine lv_iadd hx hb dX0_lonely_33 ?_
      refine k_bind hf (fun v3 hv3 hf => ?_)
      refine m_nmi hv3 ?_
      refine lv_istore_n (lv' := [(1, .int v3), (0, .ref (xo E)), (2, .int q.2)]) hx hb dX0_lonely_34 rfl hl (by decide) rfl (fun ls hl => ?_)
      refine lv_iinc (lv' := [(2, .int (q.2 + (1 : Int32))), (1, .int v3), (0, .ref (xo E))]) hx hb dX0_lonely_35 hl (k := 2) rfl (m_inc (by decide)) (by decide) rfl (fun ls hl => ?_)
      refine lv_goto (tgt := 4) hx hb dX0_lonely_38 (by decide) ?_
      exact hK _ (Option.some.inj hf).symm _ _ _ _ _ hR hS hn (lv_sub (l' := [(0, .ref (xo E)), (1, .int v3), (2, .int (q.2 + (1 : Int32)))]) hl [2, 1, 0] rfl)
set_option maxHeartbeats 4000000 in
set_option maxRecDepth 100000 in
theorem wLX0_lonely_4 {l : Launch} {E : xG} {p : Program} {e : Env} {s : State} {m : MethodId} {args : Array Value} {below : List Frame} {meth : Method} {c : Code} {Q : State → Prop} {n0 s0 nf sf : Nat} {σ : xS} {q : Int32 × Int32} {res : Int32} (S : xSt E RX0 p m c cX0_lonely 3 s args meth (Option.some Jvm.ClassFile.FieldType.int)) (h : lpw (LX0_lonely_4 σ) q = some res) (hE41 : ∀ b, res = b → (∀ (H : Heap) (locs : List Loc) (cells slots : Nat) (ls : Array Slot), xR E σ H → va_S (xAA E) s.heap H locs → XN cells slots n0 s0 nf sf σ → lv_has ls 3 [(1, .int b)] → W p l e (xRm 0 0 (nf - n0) (sf - s0)) s m args below meth c H locs cells slots Q (F0 m 41 ls []))) : (∀ (H : Heap) (locs : List Loc) (cells slots : Nat) (ls : Array Slot), xR E σ H → va_S (xAA E) s.heap H locs → XN cells slots n0 s0 nf sf σ → lv_has ls 3 [(0, .ref (xo E)), (1, .int q.1), (2, .int q.2)] → W p l e (xRm 0 0 (nf - n0) (sf - s0)) s m args below meth c H locs cells slots Q (F0 m 4 ls [])) :=
  lpw_go _ (fun q => (∀ (H : Heap) (locs : List Loc) (cells slots : Nat) (ls : Array Slot), xR E σ H → va_S (xAA E) s.heap H locs → XN cells slots n0 s0 nf sf σ → lv_has ls 3 [(0, .ref (xo E)), (1, .int q.1), (2, .int q.2)] → W p l e (xRm 0 0 (nf - n0) (sf - s0)) s m args below meth c H locs cells slots Q (F0 m 4 ls []))) (fun b0 => (∀ b, b0 = b → (∀ (H : Heap) (locs : List Loc) (cells slots : Nat) (ls : Array Slot), xR E σ H → va_S (xAA E) s.heap H locs → XN cells slots n0 s0 nf sf σ → lv_has ls 3 [(1, .int b)] → W p l e (xRm 0 0 (nf - n0) (sf - s0)) s m args below meth c H locs cells slots Q (F0 m 41 ls [])))) (fun q x hf hK hX => wbLX0_lonely_4 S hf hK (fun b eb => (hX _ eb) b rfl)) q res h hE41
set_option maxHeartbeats 4000000 in
set_option maxRecDepth 100000 in
theorem met_X0_lonely {l : Launch} {E : xG} {σ : xS} {res : Int32} (hf : fX0_lonely σ = some res) : xMet l yX0_lonely cX0_lonely 3 (Option.some Jvm.ClassFile.FieldType.int) 0 0 E [.ref (xo E)] σ (some (.int res)) σ := by
  replace hf : ((lpw (LX0_lonely_4 σ) ((0 : Int32), (0 : Int32))).bind (fun b4 => some b4)) = some res := hf
  refine x_start (by decide) (Nat.le_of_ble_eq_true rfl) ?_
  intro p e s m args below meth c S hnm hR hS ls hl
  obtain ⟨hx, hb, hml, hown, hts⟩ := S.1.1
  have hl : lv_has ls 3 [(0, .ref (xo E))] := hl
  have hn : XN 0 0 (xnx σ) (xns σ) (xnx σ) (xns σ) σ := ⟨Nat.zero_add _, Nat.zero_add _, (rl1.rf σ).1, (rl1.rf σ).2⟩
  refine lv_iconst (v := 0) hx hb dX0_lonely_0 (by decide) ?_
  refine lv_istore_n (lv' := [(1, .int (0 : Int32)), (0, .ref (xo E))]) hx hb dX0_lonely_1 rfl hl (by decide) rfl (fun ls hl => ?_)
  refine lv_iconst (v := 0) hx hb dX0_lonely_2 (by decide) ?_
  refine lv_istore_n (lv' := [(2, .int (0 : Int32)), (1, .int (0 : Int32)), (0, .ref (xo E))]) hx hb dX0_lonely_3 rfl hl (by decide) rfl (fun ls hl => ?_)
  refine k_bind hf (fun b4 hb4 hf => ?_)
  refine wLX0_lonely_4 S hb4 ?_ _ _ _ _ _ hR hS hn (lv_sub (l' := [(0, .ref (xo E)), (1, .int (0 : Int32)), (2, .int (0 : Int32))]) hl [2, 1, 0] rfl)
  · intro b eb; subst eb; intro H locs cells slots ls hR hS hn hl
    refine lv_iload_n hx hb dX0_lonely_41 rfl (lv_at hl 0 rfl) ?_
    obtain rfl := Option.some.inj hf
    exact x_iret S hR hS hn rfl dX0_lonely_42


noncomputable def LX0_lineCount_4 (σ : xS) (q : Int32 × Int32) : Option ((Int32 × Int32) ⊕ (Int32)) :=
  if (xN σ (0 : Fin 3) 2) ≤ q.2 then some (Sum.inr q.1) else (xla 1 σ 11 q.2).bind (fun v1 => (fX0_ones v1).bind (fun v2 => (some (q.1 + v2)).bind (fun v3 => some (Sum.inl (v3, q.2 + (1 : Int32))))))
noncomputable def fX0_lineCount (σ : xS) : Option (Int32) :=
  (lpw (LX0_lineCount_4 σ) ((0 : Int32), (0 : Int32))).bind (fun b4 => some (b4 / (2 : Int32)))
theorem wi_X0_lineCount : wInfV yX0_lineCount cX0_lineCount 3 (Option.some Jvm.ClassFile.FieldType.int) 0 := ⟨q649, qs11, q106, q650, (by decide +kernel), (by decide +kernel), (by decide +kernel)⟩
set_option maxHeartbeats 4000000 in
set_option maxRecDepth 100000 in
theorem wbLX0_lineCount_4 {l : Launch} {E : xG} {p : Program} {e : Env} {s : State} {m : MethodId} {args : Array Value} {below : List Frame} {meth : Method} {c : Code} {Q : State → Prop} {n0 s0 nf sf : Nat} {σ : xS} {q : Int32 × Int32} {res : (Int32 × Int32) ⊕ (Int32)} (S : xSt E RX0 p m c cX0_lineCount 3 s args meth (Option.some Jvm.ClassFile.FieldType.int)) (hf : LX0_lineCount_4 σ q = some res) (hK : ∀ q, res = Sum.inl q → (∀ (H : Heap) (locs : List Loc) (cells slots : Nat) (ls : Array Slot), xR E σ H → va_S (xAA E) s.heap H locs → XN cells slots n0 s0 nf sf σ → lv_has ls 3 [(0, .ref (xo E)), (1, .int q.1), (2, .int q.2)] → W p l e (xRm 2 40 (nf - n0) (sf - s0)) s m args below meth c H locs cells slots Q (F0 m 4 ls []))) (hE36 : ∀ b, res = Sum.inr b → (∀ (H : Heap) (locs : List Loc) (cells slots : Nat) (ls : Array Slot), xR E σ H → va_S (xAA E) s.heap H locs → XN cells slots n0 s0 nf sf σ → lv_has ls 3 [(1, .int b)] → W p l e (xRm 2 40 (nf - n0) (sf - s0)) s m args below meth c H locs cells slots Q (F0 m 36 ls []))) : (∀ (H : Heap) (locs : List Loc) (cells slots : Nat) (ls : Array Slot), xR E σ H → va_S (xAA E) s.heap H locs → XN cells slots n0 s0 nf sf σ → lv_has ls 3 [(0, .ref (xo E)), (1, .int q.1), (2, .int q.2)] → W p l e (xRm 2 40 (nf - n0) (sf - s0)) s m args below meth c H locs cells slots Q (F0 m 4 ls [])) := by
  replace hf : (if (xN σ (0 : Fin 3) 2) ≤ q.2 then some (Sum.inr q.1) else (xla 1 σ 11 q.2).bind (fun v1 => (fX0_ones v1).bind (fun v2 => (some (q.1 + v2)).bind (fun v3 => some (Sum.inl (v3, q.2 + (1 : Int32))))))) = some res := hf
  obtain ⟨hx, hb, hml, hown, hts⟩ := S.1.1
  intro H locs cells slots ls hR hS hn hl
  refine lv_iload_n hx hb dX0_lineCount_4 rfl (lv_at hl 2 rfl) ?_
  refine lv_aload_n hx hb dX0_lineCount_5 rfl (lv_at hl 0 rfl) ?_
  refine x_oget (k := 0) (v := .ref (xnt E (0 : Fin 3))) S hR (lk_X0_10 _ List.mem_cons_self) rfl dX0_lineCount_6 ?_
  refine x_ngetN (j := (0 : Fin 3)) (k := 2) (v := .int (xN σ (0 : Fin 3) 2)) S hR (lk_X0_115 _ List.mem_cons_self) rfl dX0_lineCount_9 ?_
  refine lv_icmp_ge (tgt := 36) hx hb dX0_lineCount_12 (by decide) (fun c_12 => ?_) (fun c_12 => ?_)
  · replace hf := o_t hf c_12
    exact hE36 _ (Option.some.inj hf).symm _ _ _ _ _ hR hS hn (lv_sub (l' := [(1, .int q.1)]) hl [1] rfl)
  · replace hf := o_f hf c_12
    refine lv_iload_n hx hb dX0_lineCount_15 rfl (lv_at hl 1 rfl) ?_
    refine lv_aload_n hx hb dX0_lineCount_16 rfl (lv_at hl 0 rfl) ?_
    refine x_oget (k := 0) (v := .ref (xnt E (0 : Fin 3))) S hR (lk_X0_10 _ List.mem_cons_self) rfl dX0_lineCount_17 ?_
    refine x_ngetN (j := (0 : Fin 3)) (k := 1) (v := .ref (xar E 11)) S hR (lk_X0_152 _ List.mem_cons_self) rfl dX0_lineCount_20 ?_
    refine lv_iload_n hx hb dX0_lineCount_23 rfl (lv_at hl 2 rfl) ?_
    refine k_bind hf (fun v1 hv1 hf => ?_)
    refine x_sl1 S hR hv1 dX0_lineCount_24 ?_
    refine k_bind hf (fun v2 hv2 hf => ?_)
    refine s_call (As := [.int v1]) (rest := [.int q.1]) S.1.1 (met_X0_ones hv2) wi_X0_ones q637 ⟨rfl, rfl⟩ ⟨Nat.le_of_ble_eq_true rfl, Nat.le_of_ble_eq_true rfl⟩ rfl hl.1 rfl (Nat.le_of_ble_eq_true rfl) dX0_lineCount_25 hn.cs ?_
    refine lv_iadd hx hb dX0_lineCount_28 ?_
    refine k_bind hf (fun v3 hv3 hf => ?_)
    refine m_nmi hv3 ?_
    refine lv_istore_n (lv' := [(1, .int v3), (0, .ref (xo E)), (2, .int q.2)]) hx hb dX0_lineCount_29 rfl hl (by decide) rfl (fun ls hl => ?_)
    refine lv_iinc (lv' := [(2, .int (q.2 + (1 : Int32))), (1, .int v3), (0, .ref (xo E))]) hx hb dX0_lineCount_30 hl (k := 2) rfl (m_inc (by decide)) (by decide) rfl (fun ls hl => ?_)
    refine lv_goto (tgt := 4) hx hb dX0_lineCount_33 (by decide) ?_
    exact hK _ (Option.some.inj hf).symm _ _ _ _ _ hR hS hn (lv_sub (l' := [(0, .ref (xo E)), (1, .int v3), (2, .int (q.2 + (1 : Int32)))]) hl [2, 1, 0] rfl)
set_option maxHeartbeats 4000000 in
set_option maxRecDepth 100000 in
theorem wLX0_lineCount_4 {l : Launch} {E : xG} {p : Program} {e : Env} {s : State} {m : MethodId} {args : Array Value} {below : List Frame} {meth : Method} {c : Code} {Q : State → Prop} {n0 s0 nf sf : Nat} {σ : xS} {q : Int32 × Int32} {res : Int32} (S : xSt E RX0 p m c cX0_lineCount 3 s args meth (Option.some Jvm.ClassFile.FieldType.int)) (h : lpw (LX0_lineCount_4 σ) q = some res) (hE36 : ∀ b, res = b → (∀ (H : Heap) (locs : List Loc) (cells slots : Nat) (ls : Array Slot), xR E σ H → va_S (xAA E) s.heap H locs → XN cells slots n0 s0 nf sf σ → lv_has ls 3 [(1, .int b)] → W p l e (xRm 2 40 (nf - n0) (sf - s0)) s m args below meth c H locs cells slots Q (F0 m 36 ls []))) : (∀ (H : Heap) (locs : List Loc) (cells slots : Nat) (ls : Array Slot), xR E σ H → va_S (xAA E) s.heap H locs → XN cells slots n0 s0 nf sf σ → lv_has ls 3 [(0, .ref (xo E)), (1, .int q.1), (2, .int q.2)] → W p l e (xRm 2 40 (nf - n0) (sf - s0)) s m args below meth c H locs cells slots Q (F0 m 4 ls [])) :=
  lpw_go _ (fun q => (∀ (H : Heap) (locs : List Loc) (cells slots : Nat) (ls : Array Slot), xR E σ H → va_S (xAA E) s.heap H locs → XN cells slots n0 s0 nf sf σ → lv_has ls 3 [(0, .ref (xo E)), (1, .int q.1), (2, .int q.2)] → W p l e (xRm 2 40 (nf - n0) (sf - s0)) s m args below meth c H locs cells slots Q (F0 m 4 ls []))) (fun b0 => (∀ b, b0 = b → (∀ (H : Heap) (locs : List Loc) (cells slots : Nat) (ls : Array Slot), xR E σ H → va_S (xAA E) s.heap H locs → XN cells slots n0 s0 nf sf σ → lv_has ls 3 [(1, .int b)] → W p l e (xRm 2 40 (nf - n0) (sf - s0)) s m args below meth c H locs cells slots Q (F0 m 36 ls [])))) (fun q x hf hK hX => wbLX0_lineCount_4 S hf hK (fun b eb => (hX _ eb) b rfl)) q res h hE36
set_option maxHeartbeats 4000000 in
set_option maxRecDepth 100000 in
theorem met_X0_lineCount {l : Launch} {E : xG} {σ : xS} {res : Int32} (hf : fX0_lineCount σ = some res) : xMet l yX0_lineCount cX0_lineCount 3 (Option.some Jvm.ClassFile.FieldType.int) 2 40 E [.ref (xo E)] σ (some (.int res)) σ := by
  replace hf : ((lpw (LX0_lineCount_4 σ) ((0 : Int32), (0 : Int32))).bind (fun b4 => some (b4 / (2 : Int32)))) = some res := hf
  refine x_start (by decide) (Nat.le_of_ble_eq_true rfl) ?_
  intro p e s m args below meth c S hnm hR hS ls hl
  obtain ⟨hx, hb, hml, hown, hts⟩ := S.1.1
  have hl : lv_has ls 3 [(0, .ref (xo E))] := hl
  have hn : XN 0 0 (xnx σ) (xns σ) (xnx σ) (xns σ) σ := ⟨Nat.zero_add _, Nat.zero_add _, (rl1.rf σ).1, (rl1.rf σ).2⟩
  refine lv_iconst (v := 0) hx hb dX0_lineCount_0 (by decide) ?_
  refine lv_istore_n (lv' := [(1, .int (0 : Int32)), (0, .ref (xo E))]) hx hb dX0_lineCount_1 rfl hl (by decide) rfl (fun ls hl => ?_)
  refine lv_iconst (v := 0) hx hb dX0_lineCount_2 (by decide) ?_
  refine lv_istore_n (lv' := [(2, .int (0 : Int32)), (1, .int (0 : Int32)), (0, .ref (xo E))]) hx hb dX0_lineCount_3 rfl hl (by decide) rfl (fun ls hl => ?_)
  refine k_bind hf (fun b4 hb4 hf => ?_)
  refine wLX0_lineCount_4 S hb4 ?_ _ _ _ _ _ hR hS hn (lv_sub (l' := [(0, .ref (xo E)), (1, .int (0 : Int32)), (2, .int (0 : Int32))]) hl [2, 1, 0] rfl)
  · intro b eb; subst eb; intro H locs cells slots ls hR hS hn hl
    refine lv_iload_n hx hb dX0_lineCount_36 rfl (lv_at hl 0 rfl) ?_
    refine lv_iconst (v := 2) hx hb dX0_lineCount_37 (by decide) ?_
    refine lv_idiv hx hb dX0_lineCount_38 (by decide) ?_
    obtain rfl := Option.some.inj hf
    exact x_iret S hR hS hn rfl dX0_lineCount_39

theorem lk_X0_168 : ∀ q ∈ ([(0, 27)] : List (Nat × Nat)), wLk RX0 168 q.1 q.2 := List.forall_mem_cons.mpr ⟨⟨RX0, TX0, 32, "LinesTouched", rfl, by decide, in_X0, q405, Or.inl rfl⟩, fun _ h => absurd h List.not_mem_nil⟩
theorem lk_X0_171 : ∀ q ∈ ([(1, 3)] : List (Nat × Nat)), wLkN RX0 171 q.1 q.2 := List.forall_mem_cons.mpr ⟨⟨RX1, TX1, 4, "LinesTouched", rfl, by decide, in_X1, q194⟩, fun _ h => absurd h List.not_mem_nil⟩
theorem lk_X0_174 : ∀ q ∈ ([(0, 29)] : List (Nat × Nat)), wLk RX0 174 q.1 q.2 := List.forall_mem_cons.mpr ⟨⟨RX0, TX0, 32, "LinesTouched", rfl, by decide, in_X0, q407, Or.inl rfl⟩, fun _ h => absurd h List.not_mem_nil⟩
noncomputable def fX0_count (x1 : Int32) (σ : xS) : Option (Int32) :=
  if x1 = (0 : Int32) then some (xN σ (0 : Fin 3) 2) else if x1 = (1 : Int32) then (fX0_lineCount σ).bind (fun v1 => some v1) else if x1 = (2 : Int32) then (fX0_lonely σ).bind (fun v2 => some v2) else if x1 = (3 : Int32) then some (xI σ 27) else if x1 = (4 : Int32) then some (xN σ (0 : Fin 3) 3) else if x1 = (5 : Int32) then some (xI σ 29) else some (-2 : Int32)
theorem wi_X0_count : wInfV yX0_count cX0_count 2 (Option.some Jvm.ClassFile.FieldType.int) 1 := ⟨q644, q645, q106, q646, (by decide +kernel), (by decide +kernel), (by decide +kernel)⟩
set_option maxHeartbeats 4000000 in
set_option maxRecDepth 100000 in
theorem met_X0_count {l : Launch} {E : xG} {x1 : Int32} {σ : xS} {res : Int32} (hf : fX0_count x1 σ = some res) : xMet l yX0_count cX0_count 2 (Option.some Jvm.ClassFile.FieldType.int) 3 62 E [.ref (xo E), .int x1] σ (some (.int res)) σ := by
  replace hf : (if x1 = (0 : Int32) then some (xN σ (0 : Fin 3) 2) else if x1 = (1 : Int32) then (fX0_lineCount σ).bind (fun v1 => some v1) else if x1 = (2 : Int32) then (fX0_lonely σ).bind (fun v2 => some v2) else if x1 = (3 : Int32) then some (xI σ 27) else if x1 = (4 : Int32) then some (xN σ (0 : Fin 3) 3) else if x1 = (5 : Int32) then some (xI σ 29) else some (-2 : Int32)) = some res := hf
  refine x_start (by decide) (Nat.le_of_ble_eq_true rfl) ?_
  intro p e s m args below meth c S hnm hR hS ls hl
  obtain ⟨hx, hb, hml, hown, hts⟩ := S.1.1
  have hl : lv_has ls 2 [(0, .ref (xo E)), (1, .int x1)] := hl
  have hn : XN 0 0 (xnx σ) (xns σ) (xnx σ) (xns σ) σ := ⟨Nat.zero_add _, Nat.zero_add _, (rl1.rf σ).1, (rl1.rf σ).2⟩
  refine lv_iload_n hx hb dX0_count_0 rfl (lv_at hl 1 rfl) ?_
  by_cases c_1_0 : x1 = (0 : Int32)
  · replace hf := o_t hf c_1_0
    refine lv_tableIn (tgt := 40) hx hb dX0_count_1 (by rw [c_1_0]; decide) (by rw [c_1_0]; decide) (by rw [c_1_0]; rfl) (by decide) ?_
    refine lv_aload_n hx hb dX0_count_40 rfl (lv_at hl 0 rfl) ?_
    refine x_oget (k := 0) (v := .ref (xnt E (0 : Fin 3))) S hR (lk_X0_10 _ List.mem_cons_self) rfl dX0_count_41 ?_
    refine x_ngetN (j := (0 : Fin 3)) (k := 2) (v := .int (xN σ (0 : Fin 3) 2)) S hR (lk_X0_115 _ List.mem_cons_self) rfl dX0_count_44 ?_
    obtain rfl := Option.some.inj hf
    exact x_iret S hR hS hn rfl dX0_count_47
  replace hf := o_f hf c_1_0
  by_cases c_1_1 : x1 = (1 : Int32)
  · replace hf := o_t hf c_1_1
    refine lv_tableIn (tgt := 48) hx hb dX0_count_1 (by rw [c_1_1]; decide) (by rw [c_1_1]; decide) (by rw [c_1_1]; rfl) (by decide) ?_
    refine lv_aload_n hx hb dX0_count_48 rfl (lv_at hl 0 rfl) ?_
    refine k_bind hf (fun v1 hv1 hf => ?_)
    refine x_call (C := RX0) (As := []) (rest := []) S hR hS hn (met_X0_lineCount hv1) (rl1.rf _) (hn.b (rl0.rf _)) wi_X0_lineCount (xrc S.2 hR (ci := 0) rfl (Or.inl ⟨rfl, rfl⟩)) rfl q647 ⟨Nat.le_of_ble_eq_true rfl, Nat.le_of_ble_eq_true rfl⟩ rfl hl.1 rfl (Nat.le_of_ble_eq_true rfl) dX0_count_49 (fun H locs cells slots hR hS hn => ?_)
    obtain rfl := Option.some.inj hf
    exact x_iret S hR hS hn rfl dX0_count_52
  replace hf := o_f hf c_1_1
  by_cases c_1_2 : x1 = (2 : Int32)
  · replace hf := o_t hf c_1_2
    refine lv_tableIn (tgt := 53) hx hb dX0_count_1 (by rw [c_1_2]; decide) (by rw [c_1_2]; decide) (by rw [c_1_2]; rfl) (by decide) ?_
    refine lv_aload_n hx hb dX0_count_53 rfl (lv_at hl 0 rfl) ?_
    refine k_bind hf (fun v2 hv2 hf => ?_)
    refine x_call (C := RX0) (As := []) (rest := []) S hR hS hn (met_X0_lonely hv2) (rl1.rf _) (hn.b (rl0.rf _)) wi_X0_lonely (xrc S.2 hR (ci := 0) rfl (Or.inl ⟨rfl, rfl⟩)) rfl q651 ⟨Nat.le_of_ble_eq_true rfl, Nat.le_of_ble_eq_true rfl⟩ rfl hl.1 rfl (Nat.le_of_ble_eq_true rfl) dX0_count_54 (fun H locs cells slots hR hS hn => ?_)
    obtain rfl := Option.some.inj hf
    exact x_iret S hR hS hn rfl dX0_count_57
  replace hf := o_f hf c_1_2
  by_cases c_1_3 : x1 = (3 : Int32)
  · replace hf := o_t hf c_1_3
    refine lv_tableIn (tgt := 58) hx hb dX0_count_1 (by rw [c_1_3]; decide) (by rw [c_1_3]; decide) (by rw [c_1_3]; rfl) (by decide) ?_
    refine lv_aload_n hx hb dX0_count_58 rfl (lv_at hl 0 rfl) ?_
    refine x_oget (k := 27) (v := .int (xI σ 27)) S hR (lk_X0_168 _ List.mem_cons_self) rfl dX0_count_59 ?_
    obtain rfl := Option.some.inj hf
    exact x_iret S hR hS hn rfl dX0_count_62
  replace hf := o_f hf c_1_3
  by_cases c_1_4 : x1 = (4 : Int32)
  · replace hf := o_t hf c_1_4
    refine lv_tableIn (tgt := 63) hx hb dX0_count_1 (by rw [c_1_4]; decide) (by rw [c_1_4]; decide) (by rw [c_1_4]; rfl) (by decide) ?_
    refine lv_aload_n hx hb dX0_count_63 rfl (lv_at hl 0 rfl) ?_
    refine x_oget (k := 0) (v := .ref (xnt E (0 : Fin 3))) S hR (lk_X0_10 _ List.mem_cons_self) rfl dX0_count_64 ?_
    refine x_ngetN (j := (0 : Fin 3)) (k := 3) (v := .int (xN σ (0 : Fin 3) 3)) S hR (lk_X0_171 _ List.mem_cons_self) rfl dX0_count_67 ?_
    obtain rfl := Option.some.inj hf
    exact x_iret S hR hS hn rfl dX0_count_70
  replace hf := o_f hf c_1_4
  by_cases c_1_5 : x1 = (5 : Int32)
  · replace hf := o_t hf c_1_5
    refine lv_tableIn (tgt := 71) hx hb dX0_count_1 (by rw [c_1_5]; decide) (by rw [c_1_5]; decide) (by rw [c_1_5]; rfl) (by decide) ?_
    refine lv_aload_n hx hb dX0_count_71 rfl (lv_at hl 0 rfl) ?_
    refine x_oget (k := 29) (v := .int (xI σ 29)) S hR (lk_X0_174 _ List.mem_cons_self) rfl dX0_count_72 ?_
    obtain rfl := Option.some.inj hf
    exact x_iret S hR hS hn rfl dX0_count_75
  replace hf := o_f hf c_1_5
  refine lv_tableOut (tgt := 76) hx hb dX0_count_1 (by have t0 := lv_neT c_1_0 (a := 0) rfl; have t1 := lv_neT c_1_1 (a := 1) rfl; have t2 := lv_neT c_1_2 (a := 2) rfl; have t3 := lv_neT c_1_3 (a := 3) rfl; have t4 := lv_neT c_1_4 (a := 4) rfl; have t5 := lv_neT c_1_5 (a := 5) rfl; omega) (by decide) ?_
  refine lv_bipush (v := -2) hx hb dX0_count_76 (by decide) ?_
  obtain rfl := Option.some.inj hf
  exact x_iret S hR hS hn rfl dX0_count_78
