/-! the component, walked: X0_dear X0_lambda_dear_0 X0_sized X0_lambda_sized_1 X14_init X0_picked X0_bare X15_init X0_findsBare X0_share X0_lambda_share_2 X0_halves X0_half X0_mayHave X0_canPair X0_mateIn -/

noncomputable def fX0_dear (x1 : Int32) (σ : xS) : Option (Int32) :=
  if (fX0_in x1 (0 : Int32) (2 : Int32)) = (0 : Int32) then some (-2 : Int32) else none
theorem wi_X0_dear : wInfV yX0_dear cX0_dear 3 (Option.some Jvm.ClassFile.FieldType.int) 1 := ⟨q786, q787, q106, q788, (by decide +kernel), (by decide +kernel), (by decide +kernel)⟩
set_option maxHeartbeats 4000000 in
set_option maxRecDepth 100000 in
theorem met_X0_dear {l : Launch} {E : xG} {x1 : Int32} {σ : xS} {res : Int32} (hf : fX0_dear x1 σ = some res) : xMet l yX0_dear cX0_dear 3 (Option.some Jvm.ClassFile.FieldType.int) 1 22 E [.ref (xo E), .int x1] σ (some (.int res)) σ := by
  replace hf : (if (fX0_in x1 (0 : Int32) (2 : Int32)) = (0 : Int32) then some (-2 : Int32) else none) = some res := hf
  refine x_start (by decide) (Nat.le_of_ble_eq_true rfl) ?_
  intro p e s m args below meth c S hnm hR hS ls hl
  obtain ⟨hx, hb, hml, hown, hts⟩ := S.1.1
  have hl : lv_has ls 3 [(0, .ref (xo E)), (1, .int x1)] := hl
  have hn : XN 0 0 (xnx σ) (xns σ) (xnx σ) (xns σ) σ := ⟨Nat.zero_add _, Nat.zero_add _, (rl1.rf σ).1, (rl1.rf σ).2⟩
  refine lv_iload_n hx hb dX0_dear_0 rfl (lv_at hl 1 rfl) ?_
  refine lv_iconst (v := 0) hx hb dX0_dear_1 (by decide) ?_
  refine lv_iconst (v := 2) hx hb dX0_dear_2 (by decide) ?_
  refine s_call (As := [.int x1, .int (0 : Int32), .int (2 : Int32)]) (rest := []) S.1.1 (met_X0_in rfl) wi_X0_in q479 ⟨rfl, rfl⟩ ⟨Nat.le_of_ble_eq_true rfl, Nat.le_of_ble_eq_true rfl⟩ rfl hl.1 rfl (Nat.le_of_ble_eq_true rfl) dX0_dear_3 hn.cs ?_
  refine lv_if_ne (tgt := 12) hx hb dX0_dear_6 (by decide) (fun c_6 => ?_) (fun c_6 => ?_)
  · replace hf := o_f hf c_6
    refine lv_aload_n hx hb dX0_dear_12 rfl (lv_at hl 0 rfl) ?_
    refine lv_aload_n hx hb dX0_dear_13 rfl (lv_at hl 0 rfl) ?_
    cases hf
  · replace hf := o_t hf c_6
    refine lv_bipush (v := -2) hx hb dX0_dear_9 (by decide) ?_
    obtain rfl := Option.some.inj hf
    exact x_iret S hR hS hn rfl dX0_dear_11


noncomputable def fX0_lambda_dear_0 (x1 : Int32) (σ : xS) : Option (Int32) :=
  (fX1_costOf (0 : Fin 3) x1 σ).bind (fun v1 => some v1)
theorem wi_X0_lambda_dear_0 : wInfV yX0_lambda_dear_0 cX0_lambda_dear_0 2 (Option.some Jvm.ClassFile.FieldType.int) 1 := ⟨q790, qs15, q106, q791, (by decide +kernel), (by decide +kernel), (by decide +kernel)⟩
set_option maxHeartbeats 4000000 in
set_option maxRecDepth 100000 in
theorem met_X0_lambda_dear_0 {l : Launch} {E : xG} {x1 : Int32} {σ : xS} {res : Int32} (hf : fX0_lambda_dear_0 x1 σ = some res) : xMet l yX0_lambda_dear_0 cX0_lambda_dear_0 2 (Option.some Jvm.ClassFile.FieldType.int) 4 84 E [.ref (xo E), .int x1] σ (some (.int res)) σ := by
  replace hf : ((fX1_costOf (0 : Fin 3) x1 σ).bind (fun v1 => some v1)) = some res := hf
  refine x_start (by decide) (Nat.le_of_ble_eq_true rfl) ?_
  intro p e s m args below meth c S hnm hR hS ls hl
  obtain ⟨hx, hb, hml, hown, hts⟩ := S.1.1
  have hl : lv_has ls 2 [(0, .ref (xo E)), (1, .int x1)] := hl
  have hn : XN 0 0 (xnx σ) (xns σ) (xnx σ) (xns σ) σ := ⟨Nat.zero_add _, Nat.zero_add _, (rl1.rf σ).1, (rl1.rf σ).2⟩
  refine lv_aload_n hx hb dX0_lambda_dear_0_0 rfl (lv_at hl 0 rfl) ?_
  refine x_oget (k := 0) (v := .ref (xnt E (0 : Fin 3))) S hR (lk_X0_10 _ List.mem_cons_self) rfl dX0_lambda_dear_0_1 ?_
  refine lv_iload_n hx hb dX0_lambda_dear_0_4 rfl (lv_at hl 1 rfl) ?_
  refine k_bind hf (fun v1 hv1 hf => ?_)
  refine x_call (C := RX1) (As := [.int x1]) (rest := []) S hR hS hn (met_X1_costOf hv1) (rl1.rf _) (hn.b (rl0.rf _)) wi_X1_costOf (xrc S.2 hR (ci := 1) rfl (Or.inr (Or.inl ⟨_, rfl, rfl⟩))) rfl q685 ⟨Nat.le_of_ble_eq_true rfl, Nat.le_of_ble_eq_true rfl⟩ rfl hl.1 rfl (Nat.le_of_ble_eq_true rfl) dX0_lambda_dear_0_5 (fun H locs cells slots hR hS hn => ?_)
  obtain rfl := Option.some.inj hf
  exact x_iret S hR hS hn rfl dX0_lambda_dear_0_8


noncomputable def fX0_sized (x1 : Int32) (σ : xS) : Option (Int32) :=
  if (fX0_in x1 (0 : Int32) (12 : Int32)) = (0 : Int32) then some (-2 : Int32) else none
theorem wi_X0_sized : wInfV yX0_sized cX0_sized 2 (Option.some Jvm.ClassFile.FieldType.int) 1 := ⟨q793, q794, q106, q795, (by decide +kernel), (by decide +kernel), (by decide +kernel)⟩
set_option maxHeartbeats 4000000 in
set_option maxRecDepth 100000 in
theorem met_X0_sized {l : Launch} {E : xG} {x1 : Int32} {σ : xS} {res : Int32} (hf : fX0_sized x1 σ = some res) : xMet l yX0_sized cX0_sized 2 (Option.some Jvm.ClassFile.FieldType.int) 1 22 E [.ref (xo E), .int x1] σ (some (.int res)) σ := by
  replace hf : (if (fX0_in x1 (0 : Int32) (12 : Int32)) = (0 : Int32) then some (-2 : Int32) else none) = some res := hf
  refine x_start (by decide) (Nat.le_of_ble_eq_true rfl) ?_
  intro p e s m args below meth c S hnm hR hS ls hl
  obtain ⟨hx, hb, hml, hown, hts⟩ := S.1.1
  have hl : lv_has ls 2 [(0, .ref (xo E)), (1, .int x1)] := hl
  have hn : XN 0 0 (xnx σ) (xns σ) (xnx σ) (xns σ) σ := ⟨Nat.zero_add _, Nat.zero_add _, (rl1.rf σ).1, (rl1.rf σ).2⟩
  refine lv_iload_n hx hb dX0_sized_0 rfl (lv_at hl 1 rfl) ?_
  refine lv_iconst (v := 0) hx hb dX0_sized_1 (by decide) ?_
  refine lv_bipush (v := 12) hx hb dX0_sized_2 (by decide) ?_
  refine s_call (As := [.int x1, .int (0 : Int32), .int (12 : Int32)]) (rest := []) S.1.1 (met_X0_in rfl) wi_X0_in q479 ⟨rfl, rfl⟩ ⟨Nat.le_of_ble_eq_true rfl, Nat.le_of_ble_eq_true rfl⟩ rfl hl.1 rfl (Nat.le_of_ble_eq_true rfl) dX0_sized_4 hn.cs ?_
  refine lv_if_ne (tgt := 13) hx hb dX0_sized_7 (by decide) (fun c_7 => ?_) (fun c_7 => ?_)
  · replace hf := o_f hf c_7
    refine lv_aload_n hx hb dX0_sized_13 rfl (lv_at hl 0 rfl) ?_
    cases hf
  · replace hf := o_t hf c_7
    refine lv_bipush (v := -2) hx hb dX0_sized_10 (by decide) ?_
    obtain rfl := Option.some.inj hf
    exact x_iret S hR hS hn rfl dX0_sized_12


noncomputable def fX0_lambda_sized_1 (x0 : Int32) : Int32 :=
  (1 : Int32)
theorem wi_X0_lambda_sized_1 : wInfS yX0_lambda_sized_1 cX0_lambda_sized_1 1 (Option.some Jvm.ClassFile.FieldType.boolean) 1 := ⟨q796, q106, q797, (by decide +kernel), (by decide +kernel), (by decide +kernel)⟩
set_option maxHeartbeats 4000000 in
set_option maxRecDepth 100000 in
theorem met_X0_lambda_sized_1 {l : Launch} {x0 : Int32} {res : Int32} (hf : fX0_lambda_sized_1 x0 = res) : sMet l yX0_lambda_sized_1 cX0_lambda_sized_1 1 (Option.some Jvm.ClassFile.FieldType.boolean) (mRm 0 0) [.int x0] (some (.int res)) := by
  replace hf : (1 : Int32) = res := hf
  refine s_start (by decide) (Nat.le_of_ble_eq_true rfl) ?_
  intro p e s m args below meth c S ls hl
  obtain ⟨hx, hb, hml, hown, hts⟩ := S.1
  have hl : lv_has ls 1 [(0, .int x0)] := hl
  refine lv_iconst (v := 1) hx hb dX0_lambda_sized_1_0 (by decide) ?_
  subst hf
  exact s_iret S rfl dX0_lambda_sized_1_1

theorem lk_X14_7 : ∀ q ∈ ([(11, 3)] : List (Nat × Nat)), wLk RX14 7 q.1 q.2 := List.forall_mem_cons.mpr ⟨⟨RX14, TX14, 4, "LinesTouched$Picked", rfl, by decide, in_X14, q808, Or.inl rfl⟩, fun _ h => absurd h List.not_mem_nil⟩
theorem pt_X14_7 : ∀ q ∈ ([(11, 3)] : List (Nat × Nat)), wLk RX14 7 q.1 q.2 ∧ wPt q.1 q.2 (.object "LinesTouched$Meant") true RX14 := List.forall_mem_cons.mpr ⟨⟨⟨RX14, TX14, 4, "LinesTouched$Picked", rfl, by decide, in_X14, q808, Or.inl rfl⟩, ⟨RX14, TX14, 4, tyX14, rfl, by decide, rfl, by decide +kernel, nmX14, tyX14_ok, fun _ => rfl⟩⟩, fun _ h => absurd h List.not_mem_nil⟩
noncomputable def fX14_init (a : Nat) (x1 : Fin 3) (x2 : Option Nat) (σ : xS) : Option (xS) :=
  (fX12_init a x1 σ).bind (fun e1 => (xp e1 [(11, 3)] a (va_rf x2)).bind (fun σ2 => some σ2))
theorem wi_X14_init : wInfI yX14_init cX14_init 3 2 := ⟨q805, q127, q806, rfl, (by decide +kernel), (by decide +kernel), (by decide +kernel)⟩
set_option maxHeartbeats 4000000 in
set_option maxRecDepth 100000 in
theorem r1_X14_init {a : Nat} {x1 : Fin 3} {x2 : Option Nat} {σ : xS} {res : xS} (hf : fX14_init a x1 x2 σ = some res) : rl1 σ res := by
  replace hf : ((fX12_init a x1 σ).bind (fun e1 => (xp e1 [(11, 3)] a (va_rf x2)).bind (fun σ2 => some σ2))) = some res := hf
  refine k_bind hf (fun e1 he1 hf => ?_)
  refine rl1.tr (r1_X12_init he1) ?_
  refine k_bind hf (fun σ2 hσ2 hf => ?_)
  refine rl0.tr1 (r0_p hσ2) ?_
  obtain rfl := Option.some.inj hf
  exact rl1.rf _
set_option maxHeartbeats 4000000 in
set_option maxRecDepth 100000 in
theorem met_X14_init {l : Launch} {E : xG} {a : Nat} {x1 : Fin 3} {x2 : Option Nat} {σ : xS} {res : xS} (hf : fX14_init a x1 x2 σ = some res) : xMet l yX14_init cX14_init 3 (Option.none : Option Jvm.ClassFile.FieldType) 3 66 E [.ref a, .ref (xnt E x1), va_rf x2] σ none res := by
  replace hf : ((fX12_init a x1 σ).bind (fun e1 => (xp e1 [(11, 3)] a (va_rf x2)).bind (fun σ2 => some σ2))) = some res := hf
  refine x_start (by decide) (Nat.le_of_ble_eq_true rfl) ?_
  intro p e s m args below meth c S hnm hR hS ls hl
  obtain ⟨hx, hb, hml, hown, hts⟩ := S.1.1
  have hl : lv_has ls 3 [(0, .ref a), (1, .ref (xnt E x1)), (2, va_rf x2)] := hl
  have hn : XN 0 0 (xnx σ) (xns σ) (xnx res) (xns res) σ := ⟨Nat.zero_add _, Nat.zero_add _, (r1_X14_init (a := a) (x1 := x1) (x2 := x2) (σ := σ) hf).1, (r1_X14_init (a := a) (x1 := x1) (x2 := x2) (σ := σ) hf).2⟩
  have hb9 : XB (xnx res) (xns res) res := ⟨Nat.le_refl _, Nat.le_refl _⟩
  refine lv_aload_n hx hb dX14_init_0 rfl (lv_at hl 0 rfl) ?_
  refine lv_aload_n hx hb dX14_init_1 rfl (lv_at hl 1 rfl) ?_
  refine k_bind hf (fun e1 he1 hf => ?_)
  have hb_2 : XB (xnx res) (xns res) e1 := hb9.back (by
    refine k_bind hf (fun σ2 hσ2 hf => ?_)
    refine rl0.tr1 (r0_p hσ2) ?_
    obtain rfl := Option.some.inj hf
    exact rl1.rf _)
  refine x_callI (As := [.ref (xnt E x1)]) (rest := []) S hR hS hn (met_X12_init he1) (r1_X12_init he1) hb_2 wi_X12_init q807 ⟨Nat.le_of_ble_eq_true rfl, Nat.le_of_ble_eq_true rfl⟩ rfl hl.1 rfl (Nat.le_of_ble_eq_true rfl) dX14_init_2 (fun H locs cells slots hR hS hn => ?_)
  refine lv_aload_n hx hb dX14_init_5 rfl (lv_at hl 0 rfl) ?_
  refine x_aload_n (r := x2) hx hb dX14_init_6 rfl (lv_at hl 2 rfl) ?_
  refine k_bind hf (fun σ2 hσ2 hf => ?_)
  refine x_putF S hnm hR hS pt_X14_7 (rf_nar _ _ (by decide)) (rf_fit _ _ (by decide)) hσ2 dX14_init_7 (fun H locs hR hS => ?_)
  replace hn := hn.to (r0_p hσ2)
  obtain rfl := Option.some.inj hf
  exact x_vret S hR hS hn dX14_init_10


noncomputable def fX0_picked (x1 : Option Nat) (σ : xS) : Option (Option Nat × xS) :=
  (xnw σ (.inr (11, [.null, .int 0, .null, .null])) 4).bind (fun n1 => (fX14_init n1.1 (0 : Fin 3) x1 n1.2).bind (fun e2 => none))
theorem wi_X0_picked : wInfV yX0_picked cX0_picked 3 (Option.some (Jvm.ClassFile.FieldType.object "LinesTouched$Counting")) 1 := ⟨q800, qs16, q106, q801, (by decide +kernel), (by decide +kernel), (by decide +kernel)⟩
set_option maxHeartbeats 4000000 in
set_option maxRecDepth 100000 in
theorem r1_X0_picked {x1 : Option Nat} {σ : xS} {res : Option Nat × xS} (hf : fX0_picked x1 σ = some res) : rl1 σ res.2 := by
  replace hf : ((xnw σ (.inr (11, [.null, .int 0, .null, .null])) 4).bind (fun n1 => (fX14_init n1.1 (0 : Fin 3) x1 n1.2).bind (fun e2 => none))) = some res := hf
  refine k_bind hf (fun n1 hn1 hf => ?_)
  refine rl1.tr (r1_nw hn1) ?_
  refine k_bind hf (fun e2 he2 hf => ?_)
  refine rl1.tr (r1_X14_init he2) ?_
  cases hf
set_option maxHeartbeats 4000000 in
set_option maxRecDepth 100000 in
theorem met_X0_picked {l : Launch} {E : xG} {x1 : Option Nat} {σ : xS} {res : Option Nat × xS} (hf : fX0_picked x1 σ = some res) : xMet l yX0_picked cX0_picked 3 (Option.some (Jvm.ClassFile.FieldType.object "LinesTouched$Counting")) 4 88 E [.ref (xo E), va_rf x1] σ (some (va_rf res.1)) res.2 := by
  replace hf : ((xnw σ (.inr (11, [.null, .int 0, .null, .null])) 4).bind (fun n1 => (fX14_init n1.1 (0 : Fin 3) x1 n1.2).bind (fun e2 => none))) = some res := hf
  refine x_start (by decide) (Nat.le_of_ble_eq_true rfl) ?_
  intro p e s m args below meth c S hnm hR hS ls hl
  obtain ⟨hx, hb, hml, hown, hts⟩ := S.1.1
  have hl : lv_has ls 3 [(0, .ref (xo E)), (1, va_rf x1)] := hl
  have hn : XN 0 0 (xnx σ) (xns σ) (xnx res.2) (xns res.2) σ := ⟨Nat.zero_add _, Nat.zero_add _, (r1_X0_picked (x1 := x1) (σ := σ) hf).1, (r1_X0_picked (x1 := x1) (σ := σ) hf).2⟩
  have hb9 : XB (xnx res.2) (xns res.2) res.2 := ⟨Nat.le_refl _, Nat.le_refl _⟩
  refine k_bind hf (fun n1 hn1 hf => ?_)
  have hbn1 : XB (xnx res.2) (xns res.2) n1.2 := hb9.back (by
    refine k_bind hf (fun e2 he2 hf => ?_)
    refine rl1.tr (r1_X14_init he2) ?_
    cases hf)
  refine x_newQ (T := TX14) (ty := tyX14) S hR hS hn hn1 hbn1 rfl in_X14 tyX14_ok (by decide +kernel) q802 q803 q127 dX0_picked_0 (fun H cells slots hR hS hn => ?_)
  refine lv_dup hx hb dX0_picked_3 rfl ?_
  refine lv_aload_n hx hb dX0_picked_4 rfl (lv_at hl 0 rfl) ?_
  refine x_oget (k := 0) (v := .ref (xnt E (0 : Fin 3))) S hR (lk_X0_10 _ List.mem_cons_self) rfl dX0_picked_5 ?_
  refine x_aload_n (r := x1) hx hb dX0_picked_8 rfl (lv_at hl 1 rfl) ?_
  refine k_bind hf (fun e2 he2 hf => ?_)
  have hb_9 : XB (xnx res.2) (xns res.2) e2 := hb9.back (by
    cases hf)
  refine x_callI (As := [.ref (xnt E (0 : Fin 3)), va_rf x1]) (rest := [.ref n1.1]) S hR hS hn (met_X14_init he2) (r1_X14_init he2) hb_9 wi_X14_init q804 ⟨Nat.le_of_ble_eq_true rfl, Nat.le_of_ble_eq_true rfl⟩ rfl hl.1 rfl (Nat.le_of_ble_eq_true rfl) dX0_picked_9 (fun H locs cells slots hR hS hn => ?_)
  refine x_astore_n (r := (some n1.1)) (lv' := [(2, .ref n1.1), (0, .ref (xo E)), (1, va_rf x1)]) hx hb dX0_picked_12 rfl hl (by decide) rfl (fun ls hl => ?_)
  refine lv_aload_n hx hb dX0_picked_13 rfl (lv_at hl 0 rfl) ?_
  cases hf

theorem lk_X0_263 : ∀ q ∈ ([(0, 4)] : List (Nat × Nat)), wLk RX0 263 q.1 q.2 := List.forall_mem_cons.mpr ⟨⟨RX0, TX0, 32, "LinesTouched", rfl, by decide, in_X0, q382, Or.inl rfl⟩, fun _ h => absurd h List.not_mem_nil⟩
theorem pt_X0_263 : ∀ q ∈ ([(0, 4)] : List (Nat × Nat)), wLk RX0 263 q.1 q.2 ∧ wPt q.1 q.2 .int false RX0 := List.forall_mem_cons.mpr ⟨⟨⟨RX0, TX0, 32, "LinesTouched", rfl, by decide, in_X0, q382, Or.inl rfl⟩, ⟨RX0, TX0, 32, tyX0, rfl, by decide, rfl, by decide +kernel, nmX0, tyX0_ok, fun h => absurd h (by decide)⟩⟩, fun _ h => absurd h List.not_mem_nil⟩
theorem lk_X0_266 : ∀ q ∈ ([(0, 5)] : List (Nat × Nat)), wLk RX0 266 q.1 q.2 := List.forall_mem_cons.mpr ⟨⟨RX0, TX0, 32, "LinesTouched", rfl, by decide, in_X0, q383, Or.inl rfl⟩, fun _ h => absurd h List.not_mem_nil⟩
theorem pt_X0_266 : ∀ q ∈ ([(0, 5)] : List (Nat × Nat)), wLk RX0 266 q.1 q.2 ∧ wPt q.1 q.2 .int false RX0 := List.forall_mem_cons.mpr ⟨⟨⟨RX0, TX0, 32, "LinesTouched", rfl, by decide, in_X0, q383, Or.inl rfl⟩, ⟨RX0, TX0, 32, tyX0, rfl, by decide, rfl, by decide +kernel, nmX0, tyX0_ok, fun h => absurd h (by decide)⟩⟩, fun _ h => absurd h List.not_mem_nil⟩
noncomputable def fX0_bare (x1 : Int32) (σ : xS) : Option (Int32 × xS) :=
  if (fX0_in x1 (0 : Int32) (2 : Int32)) = (0 : Int32) then some ((-2 : Int32), σ) else (xpI σ 4 (0 : Int32)).bind (fun σ1 => (xpI σ1 5 (-1 : Int32)).bind (fun σ2 => (xnw σ2 (.inr (25, [.null])) 1).bind (fun n3 => none)))
theorem wi_X0_bare : wInfV yX0_bare cX0_bare 2 (Option.some Jvm.ClassFile.FieldType.int) 1 := ⟨q819, q820, q106, q821, (by decide +kernel), (by decide +kernel), (by decide +kernel)⟩
set_option maxHeartbeats 4000000 in
set_option maxRecDepth 100000 in
theorem r1_X0_bare {x1 : Int32} {σ : xS} {res : Int32 × xS} (hf : fX0_bare x1 σ = some res) : rl1 σ res.2 := by
  replace hf : (if (fX0_in x1 (0 : Int32) (2 : Int32)) = (0 : Int32) then some ((-2 : Int32), σ) else (xpI σ 4 (0 : Int32)).bind (fun σ1 => (xpI σ1 5 (-1 : Int32)).bind (fun σ2 => (xnw σ2 (.inr (25, [.null])) 1).bind (fun n3 => none)))) = some res := hf
  by_cases c0 : (fX0_in x1 (0 : Int32) (2 : Int32)) = (0 : Int32)
  · replace hf := o_t hf c0
    obtain rfl := Option.some.inj hf
    exact rl1.rf _
  · replace hf := o_f hf c0
    refine k_bind hf (fun σ1 hσ1 hf => ?_)
    refine rl0.tr1 (r0_pI hσ1) ?_
    refine k_bind hf (fun σ2 hσ2 hf => ?_)
    refine rl0.tr1 (r0_pI hσ2) ?_
    refine k_bind hf (fun n3 hn3 hf => ?_)
    refine rl1.tr (r1_nw hn3) ?_
    cases hf
set_option maxHeartbeats 4000000 in
set_option maxRecDepth 100000 in
theorem met_X0_bare {l : Launch} {E : xG} {x1 : Int32} {σ : xS} {res : Int32 × xS} (hf : fX0_bare x1 σ = some res) : xMet l yX0_bare cX0_bare 2 (Option.some Jvm.ClassFile.FieldType.int) 1 24 E [.ref (xo E), .int x1] σ (some (.int res.1)) res.2 := by
  replace hf : (if (fX0_in x1 (0 : Int32) (2 : Int32)) = (0 : Int32) then some ((-2 : Int32), σ) else (xpI σ 4 (0 : Int32)).bind (fun σ1 => (xpI σ1 5 (-1 : Int32)).bind (fun σ2 => (xnw σ2 (.inr (25, [.null])) 1).bind (fun n3 => none)))) = some res := hf
  refine x_start (by decide) (Nat.le_of_ble_eq_true rfl) ?_
  intro p e s m args below meth c S hnm hR hS ls hl
  obtain ⟨hx, hb, hml, hown, hts⟩ := S.1.1
  have hl : lv_has ls 2 [(0, .ref (xo E)), (1, .int x1)] := hl
  have hn : XN 0 0 (xnx σ) (xns σ) (xnx res.2) (xns res.2) σ := ⟨Nat.zero_add _, Nat.zero_add _, (r1_X0_bare (x1 := x1) (σ := σ) hf).1, (r1_X0_bare (x1 := x1) (σ := σ) hf).2⟩
  have hb9 : XB (xnx res.2) (xns res.2) res.2 := ⟨Nat.le_refl _, Nat.le_refl _⟩
  refine lv_iload_n hx hb dX0_bare_0 rfl (lv_at hl 1 rfl) ?_
  refine lv_iconst (v := 0) hx hb dX0_bare_1 (by decide) ?_
  refine lv_iconst (v := 2) hx hb dX0_bare_2 (by decide) ?_
  refine s_call (As := [.int x1, .int (0 : Int32), .int (2 : Int32)]) (rest := []) S.1.1 (met_X0_in rfl) wi_X0_in q479 ⟨rfl, rfl⟩ ⟨Nat.le_of_ble_eq_true rfl, Nat.le_of_ble_eq_true rfl⟩ rfl hl.1 rfl (Nat.le_of_ble_eq_true rfl) dX0_bare_3 hn.cs ?_
  refine lv_if_ne (tgt := 12) hx hb dX0_bare_6 (by decide) (fun c_6 => ?_) (fun c_6 => ?_)
  · replace hf := o_f hf c_6
    refine lv_aload_n hx hb dX0_bare_12 rfl (lv_at hl 0 rfl) ?_
    refine lv_iconst (v := 0) hx hb dX0_bare_13 (by decide) ?_
    refine k_bind hf (fun σ1 hσ1 hf => ?_)
    refine x_oput (k := 4) S hR hS hσ1 rfl (pt_X0_263 _ List.mem_cons_self).1 (pt_X0_263 _ List.mem_cons_self).2 rfl rfl (by decide) dX0_bare_14 (fun H locs hR hS => ?_)
    replace hn := hn.to (r0_pI hσ1)
    refine lv_aload_n hx hb dX0_bare_17 rfl (lv_at hl 0 rfl) ?_
    refine lv_iconst (v := -1) hx hb dX0_bare_18 (by decide) ?_
    refine k_bind hf (fun σ2 hσ2 hf => ?_)
    refine x_oput (k := 5) S hR hS hσ2 rfl (pt_X0_266 _ List.mem_cons_self).1 (pt_X0_266 _ List.mem_cons_self).2 rfl rfl (by decide) dX0_bare_19 (fun H locs hR hS => ?_)
    replace hn := hn.to (r0_pI hσ2)
    refine lv_aload_n hx hb dX0_bare_22 rfl (lv_at hl 0 rfl) ?_
    refine lv_iconst (v := 0) hx hb dX0_bare_23 (by decide) ?_
    refine k_bind hf (fun n3 hn3 hf => ?_)
    have hbn3 : XB (xnx res.2) (xns res.2) n3.2 := hb9.back (by
      cases hf)
    refine x_newQ (T := TJ9) (ty := tyJ9) S hR hS hn hn3 hbn3 rfl in_J9 tyJ9_ok (by decide +kernel) q822 q823 q130 dX0_bare_24 (fun H cells slots hR hS hn => ?_)
    refine lv_dup hx hb dX0_bare_27 rfl ?_
    cases hf
  · replace hf := o_t hf c_6
    refine lv_bipush (v := -2) hx hb dX0_bare_9 (by decide) ?_
    obtain rfl := Option.some.inj hf
    exact x_iret S hR hS hn rfl dX0_bare_11

theorem lk_X15_7 : ∀ q ∈ ([(12, 0)] : List (Nat × Nat)), wLk RX15 7 q.1 q.2 := List.forall_mem_cons.mpr ⟨⟨RX15, TX15, 1, "LinesTouched$Cover", rfl, by decide, in_X15, q860, Or.inl rfl⟩, fun _ h => absurd h List.not_mem_nil⟩
theorem pt_X15_7 : ∀ q ∈ ([(12, 0)] : List (Nat × Nat)), wLk RX15 7 q.1 q.2 ∧ wPt q.1 q.2 .int true RX15 := List.forall_mem_cons.mpr ⟨⟨⟨RX15, TX15, 1, "LinesTouched$Cover", rfl, by decide, in_X15, q860, Or.inl rfl⟩, ⟨RX15, TX15, 1, tyX15, rfl, by decide, rfl, by decide +kernel, nmX15, tyX15_ok, fun _ => rfl⟩⟩, fun _ h => absurd h List.not_mem_nil⟩
noncomputable def fX15_init (a : Nat) (x1 : Int32) (σ : xS) : Option (xS) :=
  (xp σ [(12, 0)] a (.int x1)).bind (fun σ1 => some σ1)
theorem wi_X15_init : wInfI yX15_init cX15_init 2 1 := ⟨q857, q131, q858, rfl, (by decide +kernel), (by decide +kernel), (by decide +kernel)⟩
set_option maxHeartbeats 4000000 in
set_option maxRecDepth 100000 in
theorem r0_X15_init {a : Nat} {x1 : Int32} {σ : xS} {res : xS} (hf : fX15_init a x1 σ = some res) : rl0 σ res := by
  replace hf : ((xp σ [(12, 0)] a (.int x1)).bind (fun σ1 => some σ1)) = some res := hf
  refine k_bind hf (fun σ1 hσ1 hf => ?_)
  refine rl0.tr (r0_p hσ1) ?_
  obtain rfl := Option.some.inj hf
  exact rl0.rf _
set_option maxHeartbeats 4000000 in
set_option maxRecDepth 100000 in
theorem met_X15_init {l : Launch} {E : xG} {a : Nat} {x1 : Int32} {σ : xS} {res : xS} (hf : fX15_init a x1 σ = some res) : xMet l yX15_init cX15_init 2 (Option.none : Option Jvm.ClassFile.FieldType) 1 24 E [.ref a, .int x1] σ none res := by
  replace hf : ((xp σ [(12, 0)] a (.int x1)).bind (fun σ1 => some σ1)) = some res := hf
  refine x_start (by decide) (Nat.le_of_ble_eq_true rfl) ?_
  intro p e s m args below meth c S hnm hR hS ls hl
  obtain ⟨hx, hb, hml, hown, hts⟩ := S.1.1
  have hl : lv_has ls 2 [(0, .ref a), (1, .int x1)] := hl
  have hn : XN 0 0 (xnx σ) (xns σ) (xnx res) (xns res) σ := ⟨Nat.zero_add _, Nat.zero_add _, (r0_X15_init (a := a) (x1 := x1) (σ := σ) hf).le.1, (r0_X15_init (a := a) (x1 := x1) (σ := σ) hf).le.2⟩
  refine lv_aload_n hx hb dX15_init_0 rfl (lv_at hl 0 rfl) ?_
  refine W.objInit hx hb hown (hts _ q859) (hts _ q175) (hts _ q176) rfl (by rw [hml]; exact hl.1) rfl dX15_init_1 (Nat.le_of_ble_eq_true rfl) (Nat.le_of_ble_eq_true rfl) ?_
  refine lv_aload_n hx hb dX15_init_4 rfl (lv_at hl 0 rfl) ?_
  refine lv_iload_n hx hb dX15_init_5 rfl (lv_at hl 1 rfl) ?_
  refine k_bind hf (fun σ1 hσ1 hf => ?_)
  refine x_putF S hnm hR hS pt_X15_7 rfl rfl hσ1 dX15_init_6 (fun H locs hR hS => ?_)
  replace hn := hn.to (r0_p hσ1)
  obtain rfl := Option.some.inj hf
  exact x_vret S hR hS hn dX15_init_9


noncomputable def fX0_findsBare (x1 : Int32) (x2 : Option Nat) (σ : xS) : Option (xS) :=
  (xnw σ (.inr (12, [.int 0])) 1).bind (fun n1 => (fX15_init n1.1 x1 n1.2).bind (fun e2 => none))
theorem wi_X0_findsBare : wInfV yX0_findsBare cX0_findsBare 5 (Option.none : Option Jvm.ClassFile.FieldType) 2 := ⟨q852, qs17, q106, q853, (by decide +kernel), (by decide +kernel), (by decide +kernel)⟩
set_option maxHeartbeats 4000000 in
set_option maxRecDepth 100000 in
theorem r1_X0_findsBare {x1 : Int32} {x2 : Option Nat} {σ : xS} {res : xS} (hf : fX0_findsBare x1 x2 σ = some res) : rl1 σ res := by
  replace hf : ((xnw σ (.inr (12, [.int 0])) 1).bind (fun n1 => (fX15_init n1.1 x1 n1.2).bind (fun e2 => none))) = some res := hf
  refine k_bind hf (fun n1 hn1 hf => ?_)
  refine rl1.tr (r1_nw hn1) ?_
  refine k_bind hf (fun e2 he2 hf => ?_)
  refine rl0.tr1 (r0_X15_init he2) ?_
  cases hf
set_option maxHeartbeats 4000000 in
set_option maxRecDepth 100000 in
theorem met_X0_findsBare {l : Launch} {E : xG} {x1 : Int32} {x2 : Option Nat} {σ : xS} {res : xS} (hf : fX0_findsBare x1 x2 σ = some res) : xMet l yX0_findsBare cX0_findsBare 5 (Option.none : Option Jvm.ClassFile.FieldType) 2 45 E [.ref (xo E), .int x1, va_rf x2] σ none res := by
  replace hf : ((xnw σ (.inr (12, [.int 0])) 1).bind (fun n1 => (fX15_init n1.1 x1 n1.2).bind (fun e2 => none))) = some res := hf
  refine x_start (by decide) (Nat.le_of_ble_eq_true rfl) ?_
  intro p e s m args below meth c S hnm hR hS ls hl
  obtain ⟨hx, hb, hml, hown, hts⟩ := S.1.1
  have hl : lv_has ls 5 [(0, .ref (xo E)), (1, .int x1), (2, va_rf x2)] := hl
  have hn : XN 0 0 (xnx σ) (xns σ) (xnx res) (xns res) σ := ⟨Nat.zero_add _, Nat.zero_add _, (r1_X0_findsBare (x1 := x1) (x2 := x2) (σ := σ) hf).1, (r1_X0_findsBare (x1 := x1) (x2 := x2) (σ := σ) hf).2⟩
  have hb9 : XB (xnx res) (xns res) res := ⟨Nat.le_refl _, Nat.le_refl _⟩
  refine x_aload_n (r := x2) hx hb dX0_findsBare_0 rfl (lv_at hl 2 rfl) ?_
  refine k_bind hf (fun n1 hn1 hf => ?_)
  have hbn1 : XB (xnx res) (xns res) n1.2 := hb9.back (by
    refine k_bind hf (fun e2 he2 hf => ?_)
    refine rl0.tr1 (r0_X15_init he2) ?_
    cases hf)
  refine x_newQ (T := TX15) (ty := tyX15) S hR hS hn hn1 hbn1 rfl in_X15 tyX15_ok (by decide +kernel) q854 q855 q131 dX0_findsBare_1 (fun H cells slots hR hS hn => ?_)
  refine lv_dup hx hb dX0_findsBare_4 rfl ?_
  refine lv_iload_n hx hb dX0_findsBare_5 rfl (lv_at hl 1 rfl) ?_
  refine k_bind hf (fun e2 he2 hf => ?_)
  refine x_callI (As := [.int x1]) (rest := [.ref n1.1, va_rf x2]) S hR hS hn (met_X15_init he2) (r0_X15_init he2).le (hn.b (r0_X15_init he2)) wi_X15_init q856 ⟨Nat.le_of_ble_eq_true rfl, Nat.le_of_ble_eq_true rfl⟩ rfl hl.1 rfl (by simp only [List.map_cons, List.map_nil, rf_cat]; exact Nat.le_of_ble_eq_true rfl) dX0_findsBare_6 (fun H locs cells slots hR hS hn => ?_)
  cases hf


noncomputable def fX0_share (x1 : Int32) (σ : xS) : Option (Int64) :=
  if (fX0_in x1 (0 : Int32) (1 : Int32)) = (0 : Int32) then some (-2 : Int64) else none
theorem wi_X0_share : wInfV yX0_share cX0_share 6 (Option.some Jvm.ClassFile.FieldType.long) 1 := ⟨q1482, q1483, q106, q1484, (by decide +kernel), (by decide +kernel), (by decide +kernel)⟩
set_option maxHeartbeats 4000000 in
set_option maxRecDepth 100000 in
theorem met_X0_share {l : Launch} {E : xG} {x1 : Int32} {σ : xS} {res : Int64} (hf : fX0_share x1 σ = some res) : xMet l yX0_share cX0_share 6 (Option.some Jvm.ClassFile.FieldType.long) 1 22 E [.ref (xo E), .int x1] σ (some (.long res)) σ := by
  replace hf : (if (fX0_in x1 (0 : Int32) (1 : Int32)) = (0 : Int32) then some (-2 : Int64) else none) = some res := hf
  refine x_start (by decide) (Nat.le_of_ble_eq_true rfl) ?_
  intro p e s m args below meth c S hnm hR hS ls hl
  obtain ⟨hx, hb, hml, hown, hts⟩ := S.1.1
  have hl : lv_has ls 6 [(0, .ref (xo E)), (1, .int x1)] := hl
  have hn : XN 0 0 (xnx σ) (xns σ) (xnx σ) (xns σ) σ := ⟨Nat.zero_add _, Nat.zero_add _, (rl1.rf σ).1, (rl1.rf σ).2⟩
  refine lv_iload_n hx hb dX0_share_0 rfl (lv_at hl 1 rfl) ?_
  refine lv_iconst (v := 0) hx hb dX0_share_1 (by decide) ?_
  refine lv_iconst (v := 1) hx hb dX0_share_2 (by decide) ?_
  refine s_call (As := [.int x1, .int (0 : Int32), .int (1 : Int32)]) (rest := []) S.1.1 (met_X0_in rfl) wi_X0_in q479 ⟨rfl, rfl⟩ ⟨Nat.le_of_ble_eq_true rfl, Nat.le_of_ble_eq_true rfl⟩ rfl hl.1 rfl (Nat.le_of_ble_eq_true rfl) dX0_share_3 hn.cs ?_
  refine lv_if_ne (tgt := 13) hx hb dX0_share_6 (by decide) (fun c_6 => ?_) (fun c_6 => ?_)
  · replace hf := o_f hf c_6
    refine lv_aload_n hx hb dX0_share_13 rfl (lv_at hl 0 rfl) ?_
    cases hf
  · replace hf := o_t hf c_6
    refine lv_ldc2 hx hb hown (hts _ q1485) dX0_share_9 ?_
    obtain rfl := Option.some.inj hf
    exact x_lret S hR hS hn dX0_share_12


noncomputable def fX0_lambda_share_2 (x0 : Int32) : Int32 :=
  (1 : Int32)
theorem wi_X0_lambda_share_2 : wInfS yX0_lambda_share_2 cX0_lambda_share_2 1 (Option.some Jvm.ClassFile.FieldType.boolean) 1 := ⟨q1486, q106, q1487, (by decide +kernel), (by decide +kernel), (by decide +kernel)⟩
set_option maxHeartbeats 4000000 in
set_option maxRecDepth 100000 in
theorem met_X0_lambda_share_2 {l : Launch} {x0 : Int32} {res : Int32} (hf : fX0_lambda_share_2 x0 = res) : sMet l yX0_lambda_share_2 cX0_lambda_share_2 1 (Option.some Jvm.ClassFile.FieldType.boolean) (mRm 0 0) [.int x0] (some (.int res)) := by
  replace hf : (1 : Int32) = res := hf
  refine s_start (by decide) (Nat.le_of_ble_eq_true rfl) ?_
  intro p e s m args below meth c S ls hl
  obtain ⟨hx, hb, hml, hown, hts⟩ := S.1
  have hl : lv_has ls 1 [(0, .int x0)] := hl
  refine lv_iconst (v := 1) hx hb dX0_lambda_share_2_0 (by decide) ?_
  subst hf
  exact s_iret S rfl dX0_lambda_share_2_1


noncomputable def fX0_halves (x1 : Int32) (σ : xS) : Option (Int32 × xS) :=
  if (fX0_in x1 (0 : Int32) (3 : Int32)) = (0 : Int32) then some ((-2 : Int32), σ) else (fX1_all (0 : Fin 3) σ).bind (fun v1 => (fX0_findsHalves v1 σ).bind (fun e2 => if x1 = (0 : Int32) then some (e2.1, e2.2) else (fX0_with (x1 - (1 : Int32)) e2.2).bind (fun v3 => some (v3, e2.2))))
theorem wi_X0_halves : wInfV yX0_halves cX0_halves 3 (Option.some Jvm.ClassFile.FieldType.int) 1 := ⟨q1489, q1490, q106, q1491, (by decide +kernel), (by decide +kernel), (by decide +kernel)⟩
set_option maxHeartbeats 4000000 in
set_option maxRecDepth 100000 in
theorem r0_X0_halves {x1 : Int32} {σ : xS} {res : Int32 × xS} (hf : fX0_halves x1 σ = some res) : rl0 σ res.2 := by
  replace hf : (if (fX0_in x1 (0 : Int32) (3 : Int32)) = (0 : Int32) then some ((-2 : Int32), σ) else (fX1_all (0 : Fin 3) σ).bind (fun v1 => (fX0_findsHalves v1 σ).bind (fun e2 => if x1 = (0 : Int32) then some (e2.1, e2.2) else (fX0_with (x1 - (1 : Int32)) e2.2).bind (fun v3 => some (v3, e2.2))))) = some res := hf
  by_cases c0 : (fX0_in x1 (0 : Int32) (3 : Int32)) = (0 : Int32)
  · replace hf := o_t hf c0
    obtain rfl := Option.some.inj hf
    exact rl0.rf _
  · replace hf := o_f hf c0
    refine k_bind hf (fun v1 hv1 hf => ?_)
    refine k_bind hf (fun e2 he2 hf => ?_)
    refine rl0.tr (r0_X0_findsHalves he2) ?_
    by_cases c0 : x1 = (0 : Int32)
    · replace hf := o_t hf c0
      obtain rfl := Option.some.inj hf
      exact rl0.rf _
    · replace hf := o_f hf c0
      refine k_bind hf (fun v3 hv3 hf => ?_)
      obtain rfl := Option.some.inj hf
      exact rl0.rf _
set_option maxHeartbeats 4000000 in
set_option maxRecDepth 100000 in
theorem met_X0_halves {l : Launch} {E : xG} {x1 : Int32} {σ : xS} {res : Int32 × xS} (hf : fX0_halves x1 σ = some res) : xMet l yX0_halves cX0_halves 3 (Option.some Jvm.ClassFile.FieldType.int) 23 536 E [.ref (xo E), .int x1] σ (some (.int res.1)) res.2 := by
  replace hf : (if (fX0_in x1 (0 : Int32) (3 : Int32)) = (0 : Int32) then some ((-2 : Int32), σ) else (fX1_all (0 : Fin 3) σ).bind (fun v1 => (fX0_findsHalves v1 σ).bind (fun e2 => if x1 = (0 : Int32) then some (e2.1, e2.2) else (fX0_with (x1 - (1 : Int32)) e2.2).bind (fun v3 => some (v3, e2.2))))) = some res := hf
  refine x_start (by decide) (Nat.le_of_ble_eq_true rfl) ?_
  intro p e s m args below meth c S hnm hR hS ls hl
  obtain ⟨hx, hb, hml, hown, hts⟩ := S.1.1
  have hl : lv_has ls 3 [(0, .ref (xo E)), (1, .int x1)] := hl
  have hn : XN 0 0 (xnx σ) (xns σ) (xnx res.2) (xns res.2) σ := ⟨Nat.zero_add _, Nat.zero_add _, (r0_X0_halves (x1 := x1) (σ := σ) hf).le.1, (r0_X0_halves (x1 := x1) (σ := σ) hf).le.2⟩
  refine lv_iload_n hx hb dX0_halves_0 rfl (lv_at hl 1 rfl) ?_
  refine lv_iconst (v := 0) hx hb dX0_halves_1 (by decide) ?_
  refine lv_iconst (v := 3) hx hb dX0_halves_2 (by decide) ?_
  refine s_call (As := [.int x1, .int (0 : Int32), .int (3 : Int32)]) (rest := []) S.1.1 (met_X0_in rfl) wi_X0_in q479 ⟨rfl, rfl⟩ ⟨Nat.le_of_ble_eq_true rfl, Nat.le_of_ble_eq_true rfl⟩ rfl hl.1 rfl (Nat.le_of_ble_eq_true rfl) dX0_halves_3 hn.cs ?_
  refine lv_if_ne (tgt := 12) hx hb dX0_halves_6 (by decide) (fun c_6 => ?_) (fun c_6 => ?_)
  · replace hf := o_f hf c_6
    refine lv_aload_n hx hb dX0_halves_12 rfl (lv_at hl 0 rfl) ?_
    refine lv_aload_n hx hb dX0_halves_13 rfl (lv_at hl 0 rfl) ?_
    refine x_oget (k := 0) (v := .ref (xnt E (0 : Fin 3))) S hR (lk_X0_10 _ List.mem_cons_self) rfl dX0_halves_14 ?_
    refine k_bind hf (fun v1 hv1 hf => ?_)
    refine x_call (C := RX1) (As := []) (rest := [.ref (xo E)]) S hR hS hn (met_X1_all hv1) (rl1.rf _) (hn.b (rl0.rf _)) wi_X1_all (xrc S.2 hR (ci := 1) rfl (Or.inr (Or.inl ⟨_, rfl, rfl⟩))) rfl q663 ⟨Nat.le_of_ble_eq_true rfl, Nat.le_of_ble_eq_true rfl⟩ rfl hl.1 rfl (Nat.le_of_ble_eq_true rfl) dX0_halves_17 (fun H locs cells slots hR hS hn => ?_)
    refine k_bind hf (fun e2 he2 hf => ?_)
    refine x_call (C := RX0) (As := [.int v1]) (rest := []) S hR hS hn (met_X0_findsHalves he2) (r0_X0_findsHalves he2).le (hn.b (r0_X0_findsHalves he2)) wi_X0_findsHalves (xrc S.2 hR (ci := 0) rfl (Or.inl ⟨rfl, rfl⟩)) rfl q255 ⟨Nat.le_of_ble_eq_true rfl, Nat.le_of_ble_eq_true rfl⟩ rfl hl.1 rfl (Nat.le_of_ble_eq_true rfl) dX0_halves_20 (fun H locs cells slots hR hS hn => ?_)
    refine lv_istore_n (lv' := [(2, .int e2.1), (0, .ref (xo E)), (1, .int x1)]) hx hb dX0_halves_23 rfl hl (by decide) rfl (fun ls hl => ?_)
    refine lv_iload_n hx hb dX0_halves_24 rfl (lv_at hl 2 rfl) ?_
    refine lv_if_ne (tgt := 32) hx hb dX0_halves_25 (by decide) (fun c_25 => ?_) (fun c_25 => ?_)
    · replace hf := o_f hf c_25
      refine lv_aload_n hx hb dX0_halves_32 rfl (lv_at hl 1 rfl) ?_
      refine lv_iload_n hx hb dX0_halves_33 rfl (lv_at hl 2 rfl) ?_
      refine lv_iconst (v := 1) hx hb dX0_halves_34 (by decide) ?_
      refine lv_isub hx hb dX0_halves_35 ?_
      refine k_bind hf (fun v3 hv3 hf => ?_)
      refine x_call (C := RX0) (As := [.int (x1 - (1 : Int32))]) (rest := []) S hR hS hn (met_X0_with hv3) (rl1.rf _) (hn.b (rl0.rf _)) wi_X0_with (xrc S.2 hR (ci := 0) rfl (Or.inl ⟨rfl, rfl⟩)) rfl q298 ⟨Nat.le_of_ble_eq_true rfl, Nat.le_of_ble_eq_true rfl⟩ rfl hl.1 rfl (Nat.le_of_ble_eq_true rfl) dX0_halves_36 (fun H locs cells slots hR hS hn => ?_)
      obtain rfl := Option.some.inj hf
      exact x_iret S hR hS hn rfl dX0_halves_39
    · replace hf := o_t hf c_25
      refine lv_iload_n hx hb dX0_halves_28 rfl (lv_at hl 0 rfl) ?_
      refine lv_goto (tgt := 39) hx hb dX0_halves_29 (by decide) ?_
      obtain rfl := Option.some.inj hf
      exact x_iret S hR hS hn rfl dX0_halves_39
  · replace hf := o_t hf c_6
    refine lv_bipush (v := -2) hx hb dX0_halves_9 (by decide) ?_
    obtain rfl := Option.some.inj hf
    exact x_iret S hR hS hn rfl dX0_halves_11


noncomputable def fX0_half (x1 : Int32) (σ : xS) : Option (Int32 × xS) :=
  (fX1_isPoint (0 : Fin 3) x1 σ).bind (fun v1 => if v1 = (0 : Int32) then some ((-2 : Int32), σ) else (fX1_all (0 : Fin 3) σ).bind (fun v2 => (fX0_findsHalves v2 σ).bind (fun e3 => (xla 2 e3.2 1 x1).bind (fun v4 => some (v4, e3.2)))))
theorem wi_X0_half : wInfV yX0_half cX0_half 2 (Option.some Jvm.ClassFile.FieldType.int) 1 := ⟨q1493, q1494, q106, q1495, (by decide +kernel), (by decide +kernel), (by decide +kernel)⟩
set_option maxHeartbeats 4000000 in
set_option maxRecDepth 100000 in
theorem r0_X0_half {x1 : Int32} {σ : xS} {res : Int32 × xS} (hf : fX0_half x1 σ = some res) : rl0 σ res.2 := by
  replace hf : ((fX1_isPoint (0 : Fin 3) x1 σ).bind (fun v1 => if v1 = (0 : Int32) then some ((-2 : Int32), σ) else (fX1_all (0 : Fin 3) σ).bind (fun v2 => (fX0_findsHalves v2 σ).bind (fun e3 => (xla 2 e3.2 1 x1).bind (fun v4 => some (v4, e3.2)))))) = some res := hf
  refine k_bind hf (fun v1 hv1 hf => ?_)
  by_cases c0 : v1 = (0 : Int32)
  · replace hf := o_t hf c0
    obtain rfl := Option.some.inj hf
    exact rl0.rf _
  · replace hf := o_f hf c0
    refine k_bind hf (fun v2 hv2 hf => ?_)
    refine k_bind hf (fun e3 he3 hf => ?_)
    refine rl0.tr (r0_X0_findsHalves he3) ?_
    refine k_bind hf (fun v4 hv4 hf => ?_)
    obtain rfl := Option.some.inj hf
    exact rl0.rf _
set_option maxHeartbeats 4000000 in
set_option maxRecDepth 100000 in
theorem met_X0_half {l : Launch} {E : xG} {x1 : Int32} {σ : xS} {res : Int32 × xS} (hf : fX0_half x1 σ = some res) : xMet l yX0_half cX0_half 2 (Option.some Jvm.ClassFile.FieldType.int) 23 536 E [.ref (xo E), .int x1] σ (some (.int res.1)) res.2 := by
  replace hf : ((fX1_isPoint (0 : Fin 3) x1 σ).bind (fun v1 => if v1 = (0 : Int32) then some ((-2 : Int32), σ) else (fX1_all (0 : Fin 3) σ).bind (fun v2 => (fX0_findsHalves v2 σ).bind (fun e3 => (xla 2 e3.2 1 x1).bind (fun v4 => some (v4, e3.2)))))) = some res := hf
  refine x_start (by decide) (Nat.le_of_ble_eq_true rfl) ?_
  intro p e s m args below meth c S hnm hR hS ls hl
  obtain ⟨hx, hb, hml, hown, hts⟩ := S.1.1
  have hl : lv_has ls 2 [(0, .ref (xo E)), (1, .int x1)] := hl
  have hn : XN 0 0 (xnx σ) (xns σ) (xnx res.2) (xns res.2) σ := ⟨Nat.zero_add _, Nat.zero_add _, (r0_X0_half (x1 := x1) (σ := σ) hf).le.1, (r0_X0_half (x1 := x1) (σ := σ) hf).le.2⟩
  refine lv_aload_n hx hb dX0_half_0 rfl (lv_at hl 0 rfl) ?_
  refine x_oget (k := 0) (v := .ref (xnt E (0 : Fin 3))) S hR (lk_X0_10 _ List.mem_cons_self) rfl dX0_half_1 ?_
  refine lv_iload_n hx hb dX0_half_4 rfl (lv_at hl 1 rfl) ?_
  refine k_bind hf (fun v1 hv1 hf => ?_)
  refine x_call (C := RX1) (As := [.int x1]) (rest := []) S hR hS hn (met_X1_isPoint hv1) (rl1.rf _) (hn.b (rl0.rf _)) wi_X1_isPoint (xrc S.2 hR (ci := 1) rfl (Or.inr (Or.inl ⟨_, rfl, rfl⟩))) rfl q559 ⟨Nat.le_of_ble_eq_true rfl, Nat.le_of_ble_eq_true rfl⟩ rfl hl.1 rfl (Nat.le_of_ble_eq_true rfl) dX0_half_5 (fun H locs cells slots hR hS hn => ?_)
  refine lv_if_ne (tgt := 14) hx hb dX0_half_8 (by decide) (fun c_8 => ?_) (fun c_8 => ?_)
  · replace hf := o_f hf c_8
    refine lv_aload_n hx hb dX0_half_14 rfl (lv_at hl 0 rfl) ?_
    refine lv_aload_n hx hb dX0_half_15 rfl (lv_at hl 0 rfl) ?_
    refine x_oget (k := 0) (v := .ref (xnt E (0 : Fin 3))) S hR (lk_X0_10 _ List.mem_cons_self) rfl dX0_half_16 ?_
    refine k_bind hf (fun v2 hv2 hf => ?_)
    refine x_call (C := RX1) (As := []) (rest := [.ref (xo E)]) S hR hS hn (met_X1_all hv2) (rl1.rf _) (hn.b (rl0.rf _)) wi_X1_all (xrc S.2 hR (ci := 1) rfl (Or.inr (Or.inl ⟨_, rfl, rfl⟩))) rfl q663 ⟨Nat.le_of_ble_eq_true rfl, Nat.le_of_ble_eq_true rfl⟩ rfl hl.1 rfl (Nat.le_of_ble_eq_true rfl) dX0_half_19 (fun H locs cells slots hR hS hn => ?_)
    refine k_bind hf (fun e3 he3 hf => ?_)
    refine x_call (C := RX0) (As := [.int v2]) (rest := []) S hR hS hn (met_X0_findsHalves he3) (r0_X0_findsHalves he3).le (hn.b (r0_X0_findsHalves he3)) wi_X0_findsHalves (xrc S.2 hR (ci := 0) rfl (Or.inl ⟨rfl, rfl⟩)) rfl q255 ⟨Nat.le_of_ble_eq_true rfl, Nat.le_of_ble_eq_true rfl⟩ rfl hl.1 rfl (Nat.le_of_ble_eq_true rfl) dX0_half_22 (fun H locs cells slots hR hS hn => ?_)
    refine lv_pop hx hb dX0_half_25 rfl ?_
    refine lv_aload_n hx hb dX0_half_26 rfl (lv_at hl 0 rfl) ?_
    refine x_oget (k := 9) (v := .ref (xar E 1)) S hR (lk_X0_26 _ List.mem_cons_self) rfl dX0_half_27 ?_
    refine lv_iload_n hx hb dX0_half_30 rfl (lv_at hl 1 rfl) ?_
    refine k_bind hf (fun v4 hv4 hf => ?_)
    refine x_sl2 S hR hv4 dX0_half_31 ?_
    obtain rfl := Option.some.inj hf
    exact x_iret S hR hS hn rfl dX0_half_32
  · replace hf := o_t hf c_8
    refine lv_bipush (v := -2) hx hb dX0_half_11 (by decide) ?_
    obtain rfl := Option.some.inj hf
    exact x_iret S hR hS hn rfl dX0_half_13


noncomputable def LX0_mayHave_31 (y1 : Int32) (y2 : Int32) (q : Int32 × Int32 × xS) : Option ((Int32 × Int32 × xS) ⊕ (Int32 × xS)) :=
  if (3 : Int32) ≤ q.2.1 then some (Sum.inr (q.1, q.2.2)) else (fX1_all (0 : Fin 3) q.2.2).bind (fun v4 => (fX0_halvesBy v4 (fX0_inBy y1 q.2.1) (fX0_outBy y1 q.2.1) q.2.2).bind (fun e5 => if e5.1 = y2 then (some (q.1 ||| (ish (1 : Int32) q.2.1))).bind (fun v7 => some (Sum.inl (v7, q.2.1 + (1 : Int32), e5.2))) else (some (q.1 ||| (0 : Int32))).bind (fun v6 => some (Sum.inl (v6, q.2.1 + (1 : Int32), e5.2)))))
noncomputable def fX0_mayHave (x1 : Int32) (σ : xS) : Option (Int32 × xS) :=
  (fX1_isPoint (0 : Fin 3) x1 σ).bind (fun v1 => if v1 = (0 : Int32) then some ((-2 : Int32), σ) else (fX1_all (0 : Fin 3) σ).bind (fun v2 => (fX0_halvesOf v2 σ).bind (fun e3 => (lpw (LX0_mayHave_31 x1 e3.1) ((0 : Int32), (0 : Int32), e3.2)).bind (fun b8 => some (b8.1, b8.2)))))
theorem wi_X0_mayHave : wInfV yX0_mayHave cX0_mayHave 5 (Option.some Jvm.ClassFile.FieldType.int) 1 := ⟨q1497, q1498, q106, q1499, (by decide +kernel), (by decide +kernel), (by decide +kernel)⟩
set_option maxHeartbeats 4000000 in
set_option maxRecDepth 100000 in
theorem rsLX0_mayHave_31 {y1 : Int32} {y2 : Int32} {q : Int32 × Int32 × xS} {res : (Int32 × Int32 × xS) ⊕ (Int32 × xS)} (hf : LX0_mayHave_31 y1 y2 q = some res) : rl0 q.2.2 (Sum.elim (fun q => q.2.2) (fun b => b.2) res) := by
  replace hf : (if (3 : Int32) ≤ q.2.1 then some (Sum.inr (q.1, q.2.2)) else (fX1_all (0 : Fin 3) q.2.2).bind (fun v4 => (fX0_halvesBy v4 (fX0_inBy y1 q.2.1) (fX0_outBy y1 q.2.1) q.2.2).bind (fun e5 => if e5.1 = y2 then (some (q.1 ||| (ish (1 : Int32) q.2.1))).bind (fun v7 => some (Sum.inl (v7, q.2.1 + (1 : Int32), e5.2))) else (some (q.1 ||| (0 : Int32))).bind (fun v6 => some (Sum.inl (v6, q.2.1 + (1 : Int32), e5.2)))))) = some res := hf
  by_cases c0 : (3 : Int32) ≤ q.2.1
  · replace hf := o_t hf c0
    obtain rfl := Option.some.inj hf
    exact rl0.rf _
  · replace hf := o_f hf c0
    refine k_bind hf (fun v4 hv4 hf => ?_)
    refine k_bind hf (fun e5 he5 hf => ?_)
    refine rl0.tr (r0_X0_halvesBy he5) ?_
    by_cases c0 : e5.1 = y2
    · replace hf := o_t hf c0
      refine k_bind hf (fun v7 hv7 hf => ?_)
      obtain rfl := Option.some.inj hf
      exact rl0.rf _
    · replace hf := o_f hf c0
      refine k_bind hf (fun v6 hv6 hf => ?_)
      obtain rfl := Option.some.inj hf
      exact rl0.rf _
set_option maxHeartbeats 4000000 in
set_option maxRecDepth 100000 in
theorem rLX0_mayHave_31 {y1 : Int32} {y2 : Int32} {q : Int32 × Int32 × xS} {b : Int32 × xS} (h : lpw (LX0_mayHave_31 y1 y2) q = some b) : rl0 q.2.2 ((fun b => b.2) b) :=
  lpw_rel _ (fun q => q.2.2) (fun b => b.2) rl0 rl0.tr (fun _ _ hf => rsLX0_mayHave_31 hf) h
set_option maxHeartbeats 4000000 in
set_option maxRecDepth 100000 in
theorem r0_X0_mayHave {x1 : Int32} {σ : xS} {res : Int32 × xS} (hf : fX0_mayHave x1 σ = some res) : rl0 σ res.2 := by
  replace hf : ((fX1_isPoint (0 : Fin 3) x1 σ).bind (fun v1 => if v1 = (0 : Int32) then some ((-2 : Int32), σ) else (fX1_all (0 : Fin 3) σ).bind (fun v2 => (fX0_halvesOf v2 σ).bind (fun e3 => (lpw (LX0_mayHave_31 x1 e3.1) ((0 : Int32), (0 : Int32), e3.2)).bind (fun b8 => some (b8.1, b8.2)))))) = some res := hf
  refine k_bind hf (fun v1 hv1 hf => ?_)
  by_cases c0 : v1 = (0 : Int32)
  · replace hf := o_t hf c0
    obtain rfl := Option.some.inj hf
    exact rl0.rf _
  · replace hf := o_f hf c0
    refine k_bind hf (fun v2 hv2 hf => ?_)
    refine k_bind hf (fun e3 he3 hf => ?_)
    refine rl0.tr (r0_X0_halvesOf he3) ?_
    refine k_bind hf (fun b8 hb8 hf => ?_)
    refine rl0.tr (rLX0_mayHave_31 hb8) ?_
    obtain rfl := Option.some.inj hf
    exact rl0.rf _
set_option maxHeartbeats 4000000 in
set_option maxRecDepth 100000 in
theorem wbLX0_mayHave_31 {l : Launch} {E : xG} {p : Program} {e : Env} {s : State} {m : MethodId} {args : Array Value} {below : List Frame} {meth : Method} {c : Code} {Q : State → Prop} {n0 s0 nf sf : Nat} {y1 : Int32} {y2 : Int32} {q : Int32 × Int32 × xS} {res : (Int32 × Int32 × xS) ⊕ (Int32 × xS)} (S : xSt E RX0 p m c cX0_mayHave 5 s args meth (Option.some Jvm.ClassFile.FieldType.int)) (hf : LX0_mayHave_31 y1 y2 q = some res) (hK : ∀ q, res = Sum.inl q → (∀ (H : Heap) (locs : List Loc) (cells slots : Nat) (ls : Array Slot), xR E q.2.2 H → va_S (xAA E) s.heap H locs → XN cells slots n0 s0 nf sf q.2.2 → lv_has ls 5 [(0, .ref (xo E)), (1, .int y1), (2, .int y2), (3, .int q.1), (4, .int q.2.1)] → W p l e (xRm 22 507 (nf - n0) (sf - s0)) s m args below meth c H locs cells slots Q (F0 m 31 ls []))) (hE81 : ∀ b, res = Sum.inr b → (∀ (H : Heap) (locs : List Loc) (cells slots : Nat) (ls : Array Slot), xR E b.2 H → va_S (xAA E) s.heap H locs → XN cells slots n0 s0 nf sf b.2 → lv_has ls 5 [(3, .int b.1)] → W p l e (xRm 22 507 (nf - n0) (sf - s0)) s m args below meth c H locs cells slots Q (F0 m 81 ls []))) : (∀ (H : Heap) (locs : List Loc) (cells slots : Nat) (ls : Array Slot), xR E q.2.2 H → va_S (xAA E) s.heap H locs → XN cells slots n0 s0 nf sf q.2.2 → lv_has ls 5 [(0, .ref (xo E)), (1, .int y1), (2, .int y2), (3, .int q.1), (4, .int q.2.1)] → W p l e (xRm 22 507 (nf - n0) (sf - s0)) s m args below meth c H locs cells slots Q (F0 m 31 ls [])) := by
  replace hf : (if (3 : Int32) ≤ q.2.1 then some (Sum.inr (q.1, q.2.2)) else (fX1_all (0 : Fin 3) q.2.2).bind (fun v4 => (fX0_halvesBy v4 (fX0_inBy y1 q.2.1) (fX0_outBy y1 q.2.1) q.2.2).bind (fun e5 => if e5.1 = y2 then (some (q.1 ||| (ish (1 : Int32) q.2.1))).bind (fun v7 => some (Sum.inl (v7, q.2.1 + (1 : Int32), e5.2))) else (some (q.1 ||| (0 : Int32))).bind (fun v6 => some (Sum.inl (v6, q.2.1 + (1 : Int32), e5.2)))))) = some res := hf
  obtain ⟨hx, hb, hml, hown, hts⟩ := S.1.1
  intro H locs cells slots ls hR hS hn hl
  refine lv_iload hx hb dX0_mayHave_31 (lv_at hl 4 rfl) ?_
  refine lv_iconst (v := 3) hx hb dX0_mayHave_33 (by decide) ?_
  refine lv_icmp_ge (tgt := 81) hx hb dX0_mayHave_34 (by decide) (fun c_34 => ?_) (fun c_34 => ?_)
  · replace hf := o_t hf c_34
    exact hE81 _ (Option.some.inj hf).symm _ _ _ _ _ hR hS hn (lv_sub (l' := [(3, .int q.1)]) hl [3] rfl)
  · replace hf := o_f hf c_34
    refine lv_iload_n hx hb dX0_mayHave_37 rfl (lv_at hl 3 rfl) ?_
    refine lv_aload_n hx hb dX0_mayHave_38 rfl (lv_at hl 0 rfl) ?_
    refine lv_aload_n hx hb dX0_mayHave_39 rfl (lv_at hl 0 rfl) ?_
    refine x_oget (k := 0) (v := .ref (xnt E (0 : Fin 3))) S hR (lk_X0_10 _ List.mem_cons_self) rfl dX0_mayHave_40 ?_
    refine k_bind hf (fun v4 hv4 hf => ?_)
    refine x_call (C := RX1) (As := []) (rest := [.ref (xo E), .int q.1]) S hR hS hn (met_X1_all hv4) (rl1.rf _) (hn.b (rl0.rf _)) wi_X1_all (xrc S.2 hR (ci := 1) rfl (Or.inr (Or.inl ⟨_, rfl, rfl⟩))) rfl q663 ⟨Nat.le_of_ble_eq_true rfl, Nat.le_of_ble_eq_true rfl⟩ rfl hl.1 rfl (Nat.le_of_ble_eq_true rfl) dX0_mayHave_43 (fun H locs cells slots hR hS hn => ?_)
    refine lv_iload_n hx hb dX0_mayHave_46 rfl (lv_at hl 1 rfl) ?_
    refine lv_iload hx hb dX0_mayHave_47 (lv_at hl 4 rfl) ?_
    refine s_call (As := [.int y1, .int q.2.1]) (rest := [.int v4, .ref (xo E), .int q.1]) S.1.1 (met_X0_inBy rfl) wi_X0_inBy q292 ⟨rfl, rfl⟩ ⟨Nat.le_of_ble_eq_true rfl, Nat.le_of_ble_eq_true rfl⟩ rfl hl.1 rfl (Nat.le_of_ble_eq_true rfl) dX0_mayHave_49 hn.cs ?_
    refine lv_iload_n hx hb dX0_mayHave_52 rfl (lv_at hl 1 rfl) ?_
    refine lv_iload hx hb dX0_mayHave_53 (lv_at hl 4 rfl) ?_
    refine s_call (As := [.int y1, .int q.2.1]) (rest := [.long (fX0_inBy y1 q.2.1), .int v4, .ref (xo E), .int q.1]) S.1.1 (met_X0_outBy rfl) wi_X0_outBy q295 ⟨rfl, rfl⟩ ⟨Nat.le_of_ble_eq_true rfl, Nat.le_of_ble_eq_true rfl⟩ rfl hl.1 rfl (Nat.le_of_ble_eq_true rfl) dX0_mayHave_55 hn.cs ?_
    refine k_bind hf (fun e5 he5 hf => ?_)
    refine x_call (C := RX0) (As := [.int v4, .long (fX0_inBy y1 q.2.1), .long (fX0_outBy y1 q.2.1)]) (rest := [.int q.1]) S hR hS hn (met_X0_halvesBy he5) (r0_X0_halvesBy he5).le (hn.b (r0_X0_halvesBy he5)) wi_X0_halvesBy (xrc S.2 hR (ci := 0) rfl (Or.inl ⟨rfl, rfl⟩)) rfl q263 ⟨Nat.le_of_ble_eq_true rfl, Nat.le_of_ble_eq_true rfl⟩ rfl hl.1 rfl (Nat.le_of_ble_eq_true rfl) dX0_mayHave_58 (fun H locs cells slots hR hS hn => ?_)
    refine lv_iload_n hx hb dX0_mayHave_61 rfl (lv_at hl 2 rfl) ?_
    refine lv_icmp_ne (tgt := 72) hx hb dX0_mayHave_62 (by decide) (fun c_62 => ?_) (fun c_62 => ?_)
    · replace hf := o_f hf c_62
      refine lv_iconst (v := 0) hx hb dX0_mayHave_72 (by decide) ?_
      refine lv_ior hx hb dX0_mayHave_73 ?_
      refine k_bind hf (fun v6 hv6 hf => ?_)
      refine m_nmi hv6 ?_
      refine lv_istore_n (lv' := [(3, .int v6), (0, .ref (xo E)), (1, .int y1), (2, .int y2), (4, .int q.2.1)]) hx hb dX0_mayHave_74 rfl hl (by decide) rfl (fun ls hl => ?_)
      refine lv_iinc (lv' := [(4, .int (q.2.1 + (1 : Int32))), (3, .int v6), (0, .ref (xo E)), (1, .int y1), (2, .int y2)]) hx hb dX0_mayHave_75 hl (k := 4) rfl (m_inc (by decide)) (by decide) rfl (fun ls hl => ?_)
      refine lv_goto (tgt := 31) hx hb dX0_mayHave_78 (by decide) ?_
      exact hK _ (Option.some.inj hf).symm _ _ _ _ _ hR hS hn (lv_sub (l' := [(0, .ref (xo E)), (1, .int y1), (2, .int y2), (3, .int v6), (4, .int (q.2.1 + (1 : Int32)))]) hl [2, 3, 4, 1, 0] rfl)
    · replace hf := o_t hf c_62
      refine lv_iconst (v := 1) hx hb dX0_mayHave_65 (by decide) ?_
      refine lv_iload hx hb dX0_mayHave_66 (lv_at hl 4 rfl) ?_
      refine lv_ishl hx hb dX0_mayHave_68 ?_
      refine lv_goto (tgt := 73) hx hb dX0_mayHave_69 (by decide) ?_
      refine lv_ior hx hb dX0_mayHave_73 ?_
      refine k_bind hf (fun v7 hv7 hf => ?_)
      refine m_nmi hv7 ?_
      refine lv_istore_n (lv' := [(3, .int v7), (0, .ref (xo E)), (1, .int y1), (2, .int y2), (4, .int q.2.1)]) hx hb dX0_mayHave_74 rfl hl (by decide) rfl (fun ls hl => ?_)
      refine lv_iinc (lv' := [(4, .int (q.2.1 + (1 : Int32))), (3, .int v7), (0, .ref (xo E)), (1, .int y1), (2, .int y2)]) hx hb dX0_mayHave_75 hl (k := 4) rfl (m_inc (by decide)) (by decide) rfl (fun ls hl => ?_)
      refine lv_goto (tgt := 31) hx hb dX0_mayHave_78 (by decide) ?_
      exact hK _ (Option.some.inj hf).symm _ _ _ _ _ hR hS hn (lv_sub (l' := [(0, .ref (xo E)), (1, .int y1), (2, .int y2), (3, .int v7), (4, .int (q.2.1 + (1 : Int32)))]) hl [2, 3, 4, 1, 0] rfl)
set_option maxHeartbeats 4000000 in
set_option maxRecDepth 100000 in
theorem wLX0_mayHave_31 {l : Launch} {E : xG} {p : Program} {e : Env} {s : State} {m : MethodId} {args : Array Value} {below : List Frame} {meth : Method} {c : Code} {Q : State → Prop} {n0 s0 nf sf : Nat} {y1 : Int32} {y2 : Int32} {q : Int32 × Int32 × xS} {res : Int32 × xS} (S : xSt E RX0 p m c cX0_mayHave 5 s args meth (Option.some Jvm.ClassFile.FieldType.int)) (h : lpw (LX0_mayHave_31 y1 y2) q = some res) (hE81 : ∀ b, res = b → (∀ (H : Heap) (locs : List Loc) (cells slots : Nat) (ls : Array Slot), xR E b.2 H → va_S (xAA E) s.heap H locs → XN cells slots n0 s0 nf sf b.2 → lv_has ls 5 [(3, .int b.1)] → W p l e (xRm 22 507 (nf - n0) (sf - s0)) s m args below meth c H locs cells slots Q (F0 m 81 ls []))) : (∀ (H : Heap) (locs : List Loc) (cells slots : Nat) (ls : Array Slot), xR E q.2.2 H → va_S (xAA E) s.heap H locs → XN cells slots n0 s0 nf sf q.2.2 → lv_has ls 5 [(0, .ref (xo E)), (1, .int y1), (2, .int y2), (3, .int q.1), (4, .int q.2.1)] → W p l e (xRm 22 507 (nf - n0) (sf - s0)) s m args below meth c H locs cells slots Q (F0 m 31 ls [])) :=
  lpw_go _ (fun q => (∀ (H : Heap) (locs : List Loc) (cells slots : Nat) (ls : Array Slot), xR E q.2.2 H → va_S (xAA E) s.heap H locs → XN cells slots n0 s0 nf sf q.2.2 → lv_has ls 5 [(0, .ref (xo E)), (1, .int y1), (2, .int y2), (3, .int q.1), (4, .int q.2.1)] → W p l e (xRm 22 507 (nf - n0) (sf - s0)) s m args below meth c H locs cells slots Q (F0 m 31 ls []))) (fun b0 => (∀ b, b0 = b → (∀ (H : Heap) (locs : List Loc) (cells slots : Nat) (ls : Array Slot), xR E b.2 H → va_S (xAA E) s.heap H locs → XN cells slots n0 s0 nf sf b.2 → lv_has ls 5 [(3, .int b.1)] → W p l e (xRm 22 507 (nf - n0) (sf - s0)) s m args below meth c H locs cells slots Q (F0 m 81 ls [])))) (fun q x hf hK hX => wbLX0_mayHave_31 S hf hK (fun b eb => (hX _ eb) b rfl)) q res h hE81
set_option maxHeartbeats 4000000 in
set_option maxRecDepth 100000 in
theorem met_X0_mayHave {l : Launch} {E : xG} {x1 : Int32} {σ : xS} {res : Int32 × xS} (hf : fX0_mayHave x1 σ = some res) : xMet l yX0_mayHave cX0_mayHave 5 (Option.some Jvm.ClassFile.FieldType.int) 22 507 E [.ref (xo E), .int x1] σ (some (.int res.1)) res.2 := by
  replace hf : ((fX1_isPoint (0 : Fin 3) x1 σ).bind (fun v1 => if v1 = (0 : Int32) then some ((-2 : Int32), σ) else (fX1_all (0 : Fin 3) σ).bind (fun v2 => (fX0_halvesOf v2 σ).bind (fun e3 => (lpw (LX0_mayHave_31 x1 e3.1) ((0 : Int32), (0 : Int32), e3.2)).bind (fun b8 => some (b8.1, b8.2)))))) = some res := hf
  refine x_start (by decide) (Nat.le_of_ble_eq_true rfl) ?_
  intro p e s m args below meth c S hnm hR hS ls hl
  obtain ⟨hx, hb, hml, hown, hts⟩ := S.1.1
  have hl : lv_has ls 5 [(0, .ref (xo E)), (1, .int x1)] := hl
  have hn : XN 0 0 (xnx σ) (xns σ) (xnx res.2) (xns res.2) σ := ⟨Nat.zero_add _, Nat.zero_add _, (r0_X0_mayHave (x1 := x1) (σ := σ) hf).le.1, (r0_X0_mayHave (x1 := x1) (σ := σ) hf).le.2⟩
  refine lv_aload_n hx hb dX0_mayHave_0 rfl (lv_at hl 0 rfl) ?_
  refine x_oget (k := 0) (v := .ref (xnt E (0 : Fin 3))) S hR (lk_X0_10 _ List.mem_cons_self) rfl dX0_mayHave_1 ?_
  refine lv_iload_n hx hb dX0_mayHave_4 rfl (lv_at hl 1 rfl) ?_
  refine k_bind hf (fun v1 hv1 hf => ?_)
  refine x_call (C := RX1) (As := [.int x1]) (rest := []) S hR hS hn (met_X1_isPoint hv1) (rl1.rf _) (hn.b (rl0.rf _)) wi_X1_isPoint (xrc S.2 hR (ci := 1) rfl (Or.inr (Or.inl ⟨_, rfl, rfl⟩))) rfl q559 ⟨Nat.le_of_ble_eq_true rfl, Nat.le_of_ble_eq_true rfl⟩ rfl hl.1 rfl (Nat.le_of_ble_eq_true rfl) dX0_mayHave_5 (fun H locs cells slots hR hS hn => ?_)
  refine lv_if_ne (tgt := 14) hx hb dX0_mayHave_8 (by decide) (fun c_8 => ?_) (fun c_8 => ?_)
  · replace hf := o_f hf c_8
    refine lv_aload_n hx hb dX0_mayHave_14 rfl (lv_at hl 0 rfl) ?_
    refine lv_aload_n hx hb dX0_mayHave_15 rfl (lv_at hl 0 rfl) ?_
    refine x_oget (k := 0) (v := .ref (xnt E (0 : Fin 3))) S hR (lk_X0_10 _ List.mem_cons_self) rfl dX0_mayHave_16 ?_
    refine k_bind hf (fun v2 hv2 hf => ?_)
    refine x_call (C := RX1) (As := []) (rest := [.ref (xo E)]) S hR hS hn (met_X1_all hv2) (rl1.rf _) (hn.b (rl0.rf _)) wi_X1_all (xrc S.2 hR (ci := 1) rfl (Or.inr (Or.inl ⟨_, rfl, rfl⟩))) rfl q663 ⟨Nat.le_of_ble_eq_true rfl, Nat.le_of_ble_eq_true rfl⟩ rfl hl.1 rfl (Nat.le_of_ble_eq_true rfl) dX0_mayHave_19 (fun H locs cells slots hR hS hn => ?_)
    refine k_bind hf (fun e3 he3 hf => ?_)
    refine x_call (C := RX0) (As := [.int v2]) (rest := []) S hR hS hn (met_X0_halvesOf he3) (r0_X0_halvesOf he3).le (hn.b (r0_X0_halvesOf he3)) wi_X0_halvesOf (xrc S.2 hR (ci := 0) rfl (Or.inl ⟨rfl, rfl⟩)) rfl q259 ⟨Nat.le_of_ble_eq_true rfl, Nat.le_of_ble_eq_true rfl⟩ rfl hl.1 rfl (Nat.le_of_ble_eq_true rfl) dX0_mayHave_22 (fun H locs cells slots hR hS hn => ?_)
    refine lv_istore_n (lv' := [(2, .int e3.1), (0, .ref (xo E)), (1, .int x1)]) hx hb dX0_mayHave_25 rfl hl (by decide) rfl (fun ls hl => ?_)
    refine lv_iconst (v := 0) hx hb dX0_mayHave_26 (by decide) ?_
    refine lv_istore_n (lv' := [(3, .int (0 : Int32)), (2, .int e3.1), (0, .ref (xo E)), (1, .int x1)]) hx hb dX0_mayHave_27 rfl hl (by decide) rfl (fun ls hl => ?_)
    refine lv_iconst (v := 0) hx hb dX0_mayHave_28 (by decide) ?_
    refine lv_istore (lv' := [(4, .int (0 : Int32)), (3, .int (0 : Int32)), (2, .int e3.1), (0, .ref (xo E)), (1, .int x1)]) hx hb dX0_mayHave_29 hl (by decide) rfl (fun ls hl => ?_)
    refine k_bind hf (fun b8 hb8 hf => ?_)
    refine wLX0_mayHave_31 S hb8 ?_ _ _ _ _ _ hR hS hn (lv_sub (l' := [(0, .ref (xo E)), (1, .int x1), (2, .int e3.1), (3, .int (0 : Int32)), (4, .int (0 : Int32))]) hl [3, 4, 2, 1, 0] rfl)
    · intro b eb; subst eb; intro H locs cells slots ls hR hS hn hl
      refine lv_iload_n hx hb dX0_mayHave_81 rfl (lv_at hl 0 rfl) ?_
      obtain rfl := Option.some.inj hf
      exact x_iret S hR hS hn rfl dX0_mayHave_82
  · replace hf := o_t hf c_8
    refine lv_bipush (v := -2) hx hb dX0_mayHave_11 (by decide) ?_
    obtain rfl := Option.some.inj hf
    exact x_iret S hR hS hn rfl dX0_mayHave_13


noncomputable def fX0_canPair (x1 : Int32) (x2 : Int32) (σ : xS) : Option (Int32 × xS) :=
  (fX0_paired x1 x2 σ).bind (fun e1 => (fX0_ones x1).bind (fun v2 => if e1.1 = v2 then some ((1 : Int32), e1.2) else some ((0 : Int32), e1.2)))
theorem wi_X0_canPair : wInfV yX0_canPair cX0_canPair 3 (Option.some Jvm.ClassFile.FieldType.boolean) 2 := ⟨q1510, qs21, q106, q1511, (by decide +kernel), (by decide +kernel), (by decide +kernel)⟩
set_option maxHeartbeats 4000000 in
set_option maxRecDepth 100000 in
theorem r0_X0_canPair {x1 : Int32} {x2 : Int32} {σ : xS} {res : Int32 × xS} (hf : fX0_canPair x1 x2 σ = some res) : rl0 σ res.2 := by
  replace hf : ((fX0_paired x1 x2 σ).bind (fun e1 => (fX0_ones x1).bind (fun v2 => if e1.1 = v2 then some ((1 : Int32), e1.2) else some ((0 : Int32), e1.2)))) = some res := hf
  refine k_bind hf (fun e1 he1 hf => ?_)
  refine rl0.tr (r0_X0_paired he1) ?_
  refine k_bind hf (fun v2 hv2 hf => ?_)
  by_cases c0 : e1.1 = v2
  · replace hf := o_t hf c0
    obtain rfl := Option.some.inj hf
    exact rl0.rf _
  · replace hf := o_f hf c0
    obtain rfl := Option.some.inj hf
    exact rl0.rf _
set_option maxHeartbeats 4000000 in
set_option maxRecDepth 100000 in
theorem met_X0_canPair {l : Launch} {E : xG} {x1 : Int32} {x2 : Int32} {σ : xS} {res : Int32 × xS} (hf : fX0_canPair x1 x2 σ = some res) : xMet l yX0_canPair cX0_canPair 3 (Option.some Jvm.ClassFile.FieldType.boolean) 20 456 E [.ref (xo E), .int x1, .int x2] σ (some (.int res.1)) res.2 := by
  replace hf : ((fX0_paired x1 x2 σ).bind (fun e1 => (fX0_ones x1).bind (fun v2 => if e1.1 = v2 then some ((1 : Int32), e1.2) else some ((0 : Int32), e1.2)))) = some res := hf
  refine x_start (by decide) (Nat.le_of_ble_eq_true rfl) ?_
  intro p e s m args below meth c S hnm hR hS ls hl
  obtain ⟨hx, hb, hml, hown, hts⟩ := S.1.1
  have hl : lv_has ls 3 [(0, .ref (xo E)), (1, .int x1), (2, .int x2)] := hl
  have hn : XN 0 0 (xnx σ) (xns σ) (xnx res.2) (xns res.2) σ := ⟨Nat.zero_add _, Nat.zero_add _, (r0_X0_canPair (x1 := x1) (x2 := x2) (σ := σ) hf).le.1, (r0_X0_canPair (x1 := x1) (x2 := x2) (σ := σ) hf).le.2⟩
  refine lv_aload_n hx hb dX0_canPair_0 rfl (lv_at hl 0 rfl) ?_
  refine lv_iload_n hx hb dX0_canPair_1 rfl (lv_at hl 1 rfl) ?_
  refine lv_iload_n hx hb dX0_canPair_2 rfl (lv_at hl 2 rfl) ?_
  refine k_bind hf (fun e1 he1 hf => ?_)
  refine x_call (C := RX0) (As := [.int x1, .int x2]) (rest := []) S hR hS hn (met_X0_paired he1) (r0_X0_paired he1).le (hn.b (r0_X0_paired he1)) wi_X0_paired (xrc S.2 hR (ci := 0) rfl (Or.inl ⟨rfl, rfl⟩)) rfl q274 ⟨Nat.le_of_ble_eq_true rfl, Nat.le_of_ble_eq_true rfl⟩ rfl hl.1 rfl (Nat.le_of_ble_eq_true rfl) dX0_canPair_3 (fun H locs cells slots hR hS hn => ?_)
  refine lv_iload_n hx hb dX0_canPair_6 rfl (lv_at hl 1 rfl) ?_
  refine k_bind hf (fun v2 hv2 hf => ?_)
  refine s_call (As := [.int x1]) (rest := [.int e1.1]) S.1.1 (met_X0_ones hv2) wi_X0_ones q637 ⟨rfl, rfl⟩ ⟨Nat.le_of_ble_eq_true rfl, Nat.le_of_ble_eq_true rfl⟩ rfl hl.1 rfl (Nat.le_of_ble_eq_true rfl) dX0_canPair_7 hn.cs ?_
  refine lv_icmp_ne (tgt := 17) hx hb dX0_canPair_10 (by decide) (fun c_10 => ?_) (fun c_10 => ?_)
  · replace hf := o_f hf c_10
    refine lv_iconst (v := 0) hx hb dX0_canPair_17 (by decide) ?_
    obtain rfl := Option.some.inj hf
    exact x_iret S hR hS hn rfl dX0_canPair_18
  · replace hf := o_t hf c_10
    refine lv_iconst (v := 1) hx hb dX0_canPair_13 (by decide) ?_
    refine lv_goto (tgt := 18) hx hb dX0_canPair_14 (by decide) ?_
    obtain rfl := Option.some.inj hf
    exact x_iret S hR hS hn rfl dX0_canPair_18


noncomputable def LX0_mateIn_42 (y1 : Int32) (y4 : Int32) (y5 : Int32) (y6 : Int32) (q : Int32 × xS) : Option ((Int32 × xS) ⊕ (Int32 × xS)) :=
  (fX0_canPair y4 (y5 &&& ((ish (1 : Int32) q.1) ^^^ (-1 : Int32))) q.2).bind (fun e5 => if e5.1 = (0 : Int32) then (xla 1 e5.2 11 y6).bind (fun v6 => (fX0_leastOf ((v6 &&& y5) &&& (ish (-1 : Int32) (q.1 + (1 : Int32))))).bind (fun v7 => some (Sum.inl (v7, e5.2)))) else some (Sum.inr (q.1, e5.2)))
noncomputable def LX0_mateIn_6 (y1 : Int32) (q : Int32 × Int32 × xS) : Option ((Int32 × Int32 × xS) ⊕ ((Int32 × Int32 × xS) ⊕ (xS))) :=
  (fX0_leastOf q.1).bind (fun v1 => (some (q.1 &&& ((ish (1 : Int32) v1) ^^^ (-1 : Int32)))).bind (fun v2 => (xla 1 q.2.2 11 v1).bind (fun v3 => (fX0_leastOf (v3 &&& q.2.1)).bind (fun v4 => (lpw (LX0_mateIn_42 y1 v2 q.2.1 v1) (v4, q.2.2)).bind (fun b8 => (some (q.2.1 &&& ((ish (1 : Int32) b8.1) ^^^ (-1 : Int32)))).bind (fun v9 => if v1 = y1 then some (Sum.inr (Sum.inl (v1, b8.1, b8.2))) else if b8.1 = y1 then some (Sum.inr (Sum.inl (v1, b8.1, b8.2))) else if v2 = (0 : Int32) then some (Sum.inr (Sum.inr b8.2)) else some (Sum.inl (v2, v9, b8.2))))))))
noncomputable def JX0_mateIn_111 (y1 : Int32) (y6 : Int32) (y7 : Int32) (σ : xS) : Option (Int32 × xS) :=
  if y6 = y1 then some (y7, σ) else some (y6, σ)
noncomputable def fX0_mateIn (x1 : Int32) (x2 : Int32) (x3 : Int32) (σ : xS) : Option (Int32 × xS) :=
  (lpw (LX0_mateIn_6 x1) (x2, x3, σ)).bind ((fun e => Sum.elim (fun b11 => JX0_mateIn_111 x1 b11.1 b11.2.1 b11.2.2) (fun b12 => some ((-1 : Int32), b12)) e))
theorem wi_X0_mateIn : wInfV yX0_mateIn cX0_mateIn 8 (Option.some Jvm.ClassFile.FieldType.int) 3 := ⟨q1506, qs20, q106, q1507, (by decide +kernel), (by decide +kernel), (by decide +kernel)⟩
set_option maxHeartbeats 4000000 in
set_option maxRecDepth 100000 in
theorem rsLX0_mateIn_42 {y1 : Int32} {y4 : Int32} {y5 : Int32} {y6 : Int32} {q : Int32 × xS} {res : (Int32 × xS) ⊕ (Int32 × xS)} (hf : LX0_mateIn_42 y1 y4 y5 y6 q = some res) : rl0 q.2 (Sum.elim (fun q => q.2) (fun b => b.2) res) := by
  replace hf : ((fX0_canPair y4 (y5 &&& ((ish (1 : Int32) q.1) ^^^ (-1 : Int32))) q.2).bind (fun e5 => if e5.1 = (0 : Int32) then (xla 1 e5.2 11 y6).bind (fun v6 => (fX0_leastOf ((v6 &&& y5) &&& (ish (-1 : Int32) (q.1 + (1 : Int32))))).bind (fun v7 => some (Sum.inl (v7, e5.2)))) else some (Sum.inr (q.1, e5.2)))) = some res := hf
  refine k_bind hf (fun e5 he5 hf => ?_)
  refine rl0.tr (r0_X0_canPair he5) ?_
  by_cases c0 : e5.1 = (0 : Int32)
  · replace hf := o_t hf c0
    refine k_bind hf (fun v6 hv6 hf => ?_)
    refine k_bind hf (fun v7 hv7 hf => ?_)
    obtain rfl := Option.some.inj hf
    exact rl0.rf _
  · replace hf := o_f hf c0
    obtain rfl := Option.some.inj hf
    exact rl0.rf _
set_option maxHeartbeats 4000000 in
set_option maxRecDepth 100000 in
theorem rLX0_mateIn_42 {y1 : Int32} {y4 : Int32} {y5 : Int32} {y6 : Int32} {q : Int32 × xS} {b : Int32 × xS} (h : lpw (LX0_mateIn_42 y1 y4 y5 y6) q = some b) : rl0 q.2 ((fun b => b.2) b) :=
  lpw_rel _ (fun q => q.2) (fun b => b.2) rl0 rl0.tr (fun _ _ hf => rsLX0_mateIn_42 hf) h
set_option maxHeartbeats 4000000 in
set_option maxRecDepth 100000 in
theorem rsLX0_mateIn_6 {y1 : Int32} {q : Int32 × Int32 × xS} {res : (Int32 × Int32 × xS) ⊕ ((Int32 × Int32 × xS) ⊕ (xS))} (hf : LX0_mateIn_6 y1 q = some res) : rl0 q.2.2 (Sum.elim (fun q => q.2.2) (fun z => Sum.elim (fun b => b.2.2) (fun b => b) z) res) := by
  replace hf : ((fX0_leastOf q.1).bind (fun v1 => (some (q.1 &&& ((ish (1 : Int32) v1) ^^^ (-1 : Int32)))).bind (fun v2 => (xla 1 q.2.2 11 v1).bind (fun v3 => (fX0_leastOf (v3 &&& q.2.1)).bind (fun v4 => (lpw (LX0_mateIn_42 y1 v2 q.2.1 v1) (v4, q.2.2)).bind (fun b8 => (some (q.2.1 &&& ((ish (1 : Int32) b8.1) ^^^ (-1 : Int32)))).bind (fun v9 => if v1 = y1 then some (Sum.inr (Sum.inl (v1, b8.1, b8.2))) else if b8.1 = y1 then some (Sum.inr (Sum.inl (v1, b8.1, b8.2))) else if v2 = (0 : Int32) then some (Sum.inr (Sum.inr b8.2)) else some (Sum.inl (v2, v9, b8.2))))))))) = some res := hf
  refine k_bind hf (fun v1 hv1 hf => ?_)
  refine k_bind hf (fun v2 hv2 hf => ?_)
  refine k_bind hf (fun v3 hv3 hf => ?_)
  refine k_bind hf (fun v4 hv4 hf => ?_)
  refine k_bind hf (fun b8 hb8 hf => ?_)
  refine rl0.tr (rLX0_mateIn_42 hb8) ?_
  refine k_bind hf (fun v9 hv9 hf => ?_)
  by_cases c0 : v1 = y1
  · replace hf := o_t hf c0
    obtain rfl := Option.some.inj hf
    exact rl0.rf _
  · replace hf := o_f hf c0
    by_cases c0 : b8.1 = y1
    · replace hf := o_t hf c0
      obtain rfl := Option.some.inj hf
      exact rl0.rf _
    · replace hf := o_f hf c0
      by_cases c0 : v2 = (0 : Int32)
      · replace hf := o_t hf c0
        obtain rfl := Option.some.inj hf
        exact rl0.rf _
      · replace hf := o_f hf c0
        obtain rfl := Option.some.inj hf
        exact rl0.rf _
set_option maxHeartbeats 4000000 in
set_option maxRecDepth 100000 in
theorem rLX0_mateIn_6 {y1 : Int32} {q : Int32 × Int32 × xS} {b : (Int32 × Int32 × xS) ⊕ (xS)} (h : lpw (LX0_mateIn_6 y1) q = some b) : rl0 q.2.2 ((fun z => Sum.elim (fun b => b.2.2) (fun b => b) z) b) :=
  lpw_rel _ (fun q => q.2.2) (fun z => Sum.elim (fun b => b.2.2) (fun b => b) z) rl0 rl0.tr (fun _ _ hf => rsLX0_mateIn_6 hf) h
set_option maxHeartbeats 4000000 in
set_option maxRecDepth 100000 in
theorem rJX0_mateIn_111 {y1 : Int32} {y6 : Int32} {y7 : Int32} {σ : xS} {res : Int32 × xS} (hf : JX0_mateIn_111 y1 y6 y7 σ = some res) : rl0 σ res.2 := by
  replace hf : (if y6 = y1 then some (y7, σ) else some (y6, σ)) = some res := hf
  by_cases c0 : y6 = y1
  · replace hf := o_t hf c0
    obtain rfl := Option.some.inj hf
    exact rl0.rf _
  · replace hf := o_f hf c0
    obtain rfl := Option.some.inj hf
    exact rl0.rf _
set_option maxHeartbeats 4000000 in
set_option maxRecDepth 100000 in
theorem r0_X0_mateIn {x1 : Int32} {x2 : Int32} {x3 : Int32} {σ : xS} {res : Int32 × xS} (hf : fX0_mateIn x1 x2 x3 σ = some res) : rl0 σ res.2 := by
  replace hf : ((lpw (LX0_mateIn_6 x1) (x2, x3, σ)).bind ((fun e => Sum.elim (fun b11 => JX0_mateIn_111 x1 b11.1 b11.2.1 b11.2.2) (fun b12 => some ((-1 : Int32), b12)) e))) = some res := hf
  refine k_bind hf (fun b10 hb10 hf => ?_)
  refine rl0.tr (rLX0_mateIn_6 hb10) ?_
  rcases b10 with b11 | b12
  · replace hf := o_l hf
    exact rJX0_mateIn_111 hf
  · replace hf := o_r hf
    obtain rfl := Option.some.inj hf
    exact rl0.rf _
set_option maxHeartbeats 4000000 in
set_option maxRecDepth 100000 in
theorem wbLX0_mateIn_42 {l : Launch} {E : xG} {p : Program} {e : Env} {s : State} {m : MethodId} {args : Array Value} {below : List Frame} {meth : Method} {c : Code} {Q : State → Prop} {n0 s0 nf sf : Nat} {y1 : Int32} {y4 : Int32} {y5 : Int32} {y6 : Int32} {q : Int32 × xS} {res : (Int32 × xS) ⊕ (Int32 × xS)} (S : xSt E RX0 p m c cX0_mateIn 8 s args meth (Option.some Jvm.ClassFile.FieldType.int)) (hf : LX0_mateIn_42 y1 y4 y5 y6 q = some res) (hK : ∀ q, res = Sum.inl q → (∀ (H : Heap) (locs : List Loc) (cells slots : Nat) (ls : Array Slot), xR E q.2 H → va_S (xAA E) s.heap H locs → XN cells slots n0 s0 nf sf q.2 → lv_has ls 8 [(0, .ref (xo E)), (1, .int y1), (4, .int y4), (5, .int y5), (6, .int y6), (7, .int q.1)] → W p l e (xRm 21 478 (nf - n0) (sf - s0)) s m args below meth c H locs cells slots Q (F0 m 42 ls []))) (hE88 : ∀ b, res = Sum.inr b → (∀ (H : Heap) (locs : List Loc) (cells slots : Nat) (ls : Array Slot), xR E b.2 H → va_S (xAA E) s.heap H locs → XN cells slots n0 s0 nf sf b.2 → lv_has ls 8 [(0, .ref (xo E)), (1, .int y1), (4, .int y4), (5, .int y5), (6, .int y6), (7, .int b.1)] → W p l e (xRm 21 478 (nf - n0) (sf - s0)) s m args below meth c H locs cells slots Q (F0 m 88 ls []))) : (∀ (H : Heap) (locs : List Loc) (cells slots : Nat) (ls : Array Slot), xR E q.2 H → va_S (xAA E) s.heap H locs → XN cells slots n0 s0 nf sf q.2 → lv_has ls 8 [(0, .ref (xo E)), (1, .int y1), (4, .int y4), (5, .int y5), (6, .int y6), (7, .int q.1)] → W p l e (xRm 21 478 (nf - n0) (sf - s0)) s m args below meth c H locs cells slots Q (F0 m 42 ls [])) := by
  replace hf : ((fX0_canPair y4 (y5 &&& ((ish (1 : Int32) q.1) ^^^ (-1 : Int32))) q.2).bind (fun e5 => if e5.1 = (0 : Int32) then (xla 1 e5.2 11 y6).bind (fun v6 => (fX0_leastOf ((v6 &&& y5) &&& (ish (-1 : Int32) (q.1 + (1 : Int32))))).bind (fun v7 => some (Sum.inl (v7, e5.2)))) else some (Sum.inr (q.1, e5.2)))) = some res := hf
  obtain ⟨hx, hb, hml, hown, hts⟩ := S.1.1
  intro H locs cells slots ls hR hS hn hl
  refine lv_aload_n hx hb dX0_mateIn_42 rfl (lv_at hl 0 rfl) ?_
  refine lv_iload hx hb dX0_mateIn_43 (lv_at hl 2 rfl) ?_
  refine lv_iload hx hb dX0_mateIn_45 (lv_at hl 3 rfl) ?_
  refine lv_iconst (v := 1) hx hb dX0_mateIn_47 (by decide) ?_
  refine lv_iload hx hb dX0_mateIn_48 (lv_at hl 5 rfl) ?_
  refine lv_ishl hx hb dX0_mateIn_50 ?_
  refine lv_iconst (v := -1) hx hb dX0_mateIn_51 (by decide) ?_
  refine lv_ixor hx hb dX0_mateIn_52 ?_
  refine lv_iand hx hb dX0_mateIn_53 ?_
  refine k_bind hf (fun e5 he5 hf => ?_)
  refine x_call (C := RX0) (As := [.int y4, .int (y5 &&& ((ish (1 : Int32) q.1) ^^^ (-1 : Int32)))]) (rest := []) S hR hS hn (met_X0_canPair he5) (r0_X0_canPair he5).le (hn.b (r0_X0_canPair he5)) wi_X0_canPair (xrc S.2 hR (ci := 0) rfl (Or.inl ⟨rfl, rfl⟩)) rfl q1508 ⟨Nat.le_of_ble_eq_true rfl, Nat.le_of_ble_eq_true rfl⟩ rfl hl.1 rfl (Nat.le_of_ble_eq_true rfl) dX0_mateIn_54 (fun H locs cells slots hR hS hn => ?_)
  refine lv_if_ne (tgt := 88) hx hb dX0_mateIn_57 (by decide) (fun c_57 => ?_) (fun c_57 => ?_)
  · replace hf := o_f hf c_57
    exact hE88 _ (Option.some.inj hf).symm _ _ _ _ _ hR hS hn hl
  · replace hf := o_t hf c_57
    refine lv_aload_n hx hb dX0_mateIn_60 rfl (lv_at hl 0 rfl) ?_
    refine x_oget (k := 0) (v := .ref (xnt E (0 : Fin 3))) S hR (lk_X0_10 _ List.mem_cons_self) rfl dX0_mateIn_61 ?_
    refine x_ngetN (j := (0 : Fin 3)) (k := 1) (v := .ref (xar E 11)) S hR (lk_X0_152 _ List.mem_cons_self) rfl dX0_mateIn_64 ?_
    refine lv_iload hx hb dX0_mateIn_67 (lv_at hl 4 rfl) ?_
    refine k_bind hf (fun v6 hv6 hf => ?_)
    refine x_sl1 S hR hv6 dX0_mateIn_69 ?_
    refine lv_iload hx hb dX0_mateIn_70 (lv_at hl 3 rfl) ?_
    refine lv_iand hx hb dX0_mateIn_72 ?_
    refine lv_iconst (v := -1) hx hb dX0_mateIn_73 (by decide) ?_
    refine lv_iload hx hb dX0_mateIn_74 (lv_at hl 5 rfl) ?_
    refine lv_iconst (v := 1) hx hb dX0_mateIn_76 (by decide) ?_
    refine lv_iadd hx hb dX0_mateIn_77 ?_
    refine lv_ishl hx hb dX0_mateIn_78 ?_
    refine lv_iand hx hb dX0_mateIn_79 ?_
    refine k_bind hf (fun v7 hv7 hf => ?_)
    refine s_call (As := [.int ((v6 &&& y5) &&& (ish (-1 : Int32) (q.1 + (1 : Int32))))]) (rest := []) S.1.1 (met_X0_leastOf hv7) wi_X0_leastOf q282 ⟨rfl, rfl⟩ ⟨Nat.le_of_ble_eq_true rfl, Nat.le_of_ble_eq_true rfl⟩ rfl hl.1 rfl (Nat.le_of_ble_eq_true rfl) dX0_mateIn_80 hn.cs ?_
    refine lv_istore (lv' := [(7, .int v7), (0, .ref (xo E)), (1, .int y1), (4, .int y4), (5, .int y5), (6, .int y6)]) hx hb dX0_mateIn_83 hl (by decide) rfl (fun ls hl => ?_)
    refine lv_goto (tgt := 42) hx hb dX0_mateIn_85 (by decide) ?_
    exact hK _ (Option.some.inj hf).symm _ _ _ _ _ hR hS hn (lv_sub (l' := [(0, .ref (xo E)), (1, .int y1), (4, .int y4), (5, .int y5), (6, .int y6), (7, .int v7)]) hl [1, 2, 3, 4, 5, 0] rfl)
set_option maxHeartbeats 4000000 in
set_option maxRecDepth 100000 in
theorem wLX0_mateIn_42 {l : Launch} {E : xG} {p : Program} {e : Env} {s : State} {m : MethodId} {args : Array Value} {below : List Frame} {meth : Method} {c : Code} {Q : State → Prop} {n0 s0 nf sf : Nat} {y1 : Int32} {y4 : Int32} {y5 : Int32} {y6 : Int32} {q : Int32 × xS} {res : Int32 × xS} (S : xSt E RX0 p m c cX0_mateIn 8 s args meth (Option.some Jvm.ClassFile.FieldType.int)) (h : lpw (LX0_mateIn_42 y1 y4 y5 y6) q = some res) (hE88 : ∀ b, res = b → (∀ (H : Heap) (locs : List Loc) (cells slots : Nat) (ls : Array Slot), xR E b.2 H → va_S (xAA E) s.heap H locs → XN cells slots n0 s0 nf sf b.2 → lv_has ls 8 [(0, .ref (xo E)), (1, .int y1), (4, .int y4), (5, .int y5), (6, .int y6), (7, .int b.1)] → W p l e (xRm 21 478 (nf - n0) (sf - s0)) s m args below meth c H locs cells slots Q (F0 m 88 ls []))) : (∀ (H : Heap) (locs : List Loc) (cells slots : Nat) (ls : Array Slot), xR E q.2 H → va_S (xAA E) s.heap H locs → XN cells slots n0 s0 nf sf q.2 → lv_has ls 8 [(0, .ref (xo E)), (1, .int y1), (4, .int y4), (5, .int y5), (6, .int y6), (7, .int q.1)] → W p l e (xRm 21 478 (nf - n0) (sf - s0)) s m args below meth c H locs cells slots Q (F0 m 42 ls [])) :=
  lpw_go _ (fun q => (∀ (H : Heap) (locs : List Loc) (cells slots : Nat) (ls : Array Slot), xR E q.2 H → va_S (xAA E) s.heap H locs → XN cells slots n0 s0 nf sf q.2 → lv_has ls 8 [(0, .ref (xo E)), (1, .int y1), (4, .int y4), (5, .int y5), (6, .int y6), (7, .int q.1)] → W p l e (xRm 21 478 (nf - n0) (sf - s0)) s m args below meth c H locs cells slots Q (F0 m 42 ls []))) (fun b0 => (∀ b, b0 = b → (∀ (H : Heap) (locs : List Loc) (cells slots : Nat) (ls : Array Slot), xR E b.2 H → va_S (xAA E) s.heap H locs → XN cells slots n0 s0 nf sf b.2 → lv_has ls 8 [(0, .ref (xo E)), (1, .int y1), (4, .int y4), (5, .int y5), (6, .int y6), (7, .int b.1)] → W p l e (xRm 21 478 (nf - n0) (sf - s0)) s m args below meth c H locs cells slots Q (F0 m 88 ls [])))) (fun q x hf hK hX => wbLX0_mateIn_42 S hf hK (fun b eb => (hX _ eb) b rfl)) q res h hE88
set_option maxHeartbeats 4000000 in
set_option maxRecDepth 100000 in
theorem wbLX0_mateIn_6 {l : Launch} {E : xG} {p : Program} {e : Env} {s : State} {m : MethodId} {args : Array Value} {below : List Frame} {meth : Method} {c : Code} {Q : State → Prop} {n0 s0 nf sf : Nat} {y1 : Int32} {q : Int32 × Int32 × xS} {res : (Int32 × Int32 × xS) ⊕ ((Int32 × Int32 × xS) ⊕ (xS))} (S : xSt E RX0 p m c cX0_mateIn 8 s args meth (Option.some Jvm.ClassFile.FieldType.int)) (hf : LX0_mateIn_6 y1 q = some res) (hK : ∀ q, res = Sum.inl q → (∀ (H : Heap) (locs : List Loc) (cells slots : Nat) (ls : Array Slot), xR E q.2.2 H → va_S (xAA E) s.heap H locs → XN cells slots n0 s0 nf sf q.2.2 → lv_has ls 8 [(0, .ref (xo E)), (1, .int y1), (4, .int q.1), (5, .int q.2.1)] → W p l e (xRm 21 478 (nf - n0) (sf - s0)) s m args below meth c H locs cells slots Q (F0 m 6 ls []))) (hE111 : ∀ b, res = Sum.inr (Sum.inl b) → (∀ (H : Heap) (locs : List Loc) (cells slots : Nat) (ls : Array Slot), xR E b.2.2 H → va_S (xAA E) s.heap H locs → XN cells slots n0 s0 nf sf b.2.2 → lv_has ls 8 [(1, .int y1), (6, .int b.1), (7, .int b.2.1)] → W p l e (xRm 21 478 (nf - n0) (sf - s0)) s m args below meth c H locs cells slots Q (F0 m 111 ls []))) (hE130 : ∀ b, res = Sum.inr (Sum.inr b) → (∀ (H : Heap) (locs : List Loc) (cells slots : Nat) (ls : Array Slot), xR E b H → va_S (xAA E) s.heap H locs → XN cells slots n0 s0 nf sf b → lv_has ls 8 [] → W p l e (xRm 21 478 (nf - n0) (sf - s0)) s m args below meth c H locs cells slots Q (F0 m 130 ls []))) : (∀ (H : Heap) (locs : List Loc) (cells slots : Nat) (ls : Array Slot), xR E q.2.2 H → va_S (xAA E) s.heap H locs → XN cells slots n0 s0 nf sf q.2.2 → lv_has ls 8 [(0, .ref (xo E)), (1, .int y1), (4, .int q.1), (5, .int q.2.1)] → W p l e (xRm 21 478 (nf - n0) (sf - s0)) s m args below meth c H locs cells slots Q (F0 m 6 ls [])) := by
  replace hf : ((fX0_leastOf q.1).bind (fun v1 => (some (q.1 &&& ((ish (1 : Int32) v1) ^^^ (-1 : Int32)))).bind (fun v2 => (xla 1 q.2.2 11 v1).bind (fun v3 => (fX0_leastOf (v3 &&& q.2.1)).bind (fun v4 => (lpw (LX0_mateIn_42 y1 v2 q.2.1 v1) (v4, q.2.2)).bind (fun b8 => (some (q.2.1 &&& ((ish (1 : Int32) b8.1) ^^^ (-1 : Int32)))).bind (fun v9 => if v1 = y1 then some (Sum.inr (Sum.inl (v1, b8.1, b8.2))) else if b8.1 = y1 then some (Sum.inr (Sum.inl (v1, b8.1, b8.2))) else if v2 = (0 : Int32) then some (Sum.inr (Sum.inr b8.2)) else some (Sum.inl (v2, v9, b8.2))))))))) = some res := hf
  obtain ⟨hx, hb, hml, hown, hts⟩ := S.1.1
  intro H locs cells slots ls hR hS hn hl
  refine lv_iload hx hb dX0_mateIn_6 (lv_at hl 2 rfl) ?_
  refine k_bind hf (fun v1 hv1 hf => ?_)
  refine s_call (As := [.int q.1]) (rest := []) S.1.1 (met_X0_leastOf hv1) wi_X0_leastOf q282 ⟨rfl, rfl⟩ ⟨Nat.le_of_ble_eq_true rfl, Nat.le_of_ble_eq_true rfl⟩ rfl hl.1 rfl (Nat.le_of_ble_eq_true rfl) dX0_mateIn_8 hn.cs ?_
  refine lv_istore (lv' := [(6, .int v1), (0, .ref (xo E)), (1, .int y1), (4, .int q.1), (5, .int q.2.1)]) hx hb dX0_mateIn_11 hl (by decide) rfl (fun ls hl => ?_)
  refine lv_iload hx hb dX0_mateIn_13 (lv_at hl 3 rfl) ?_
  refine lv_iconst (v := 1) hx hb dX0_mateIn_15 (by decide) ?_
  refine lv_iload hx hb dX0_mateIn_16 (lv_at hl 0 rfl) ?_
  refine lv_ishl hx hb dX0_mateIn_18 ?_
  refine lv_iconst (v := -1) hx hb dX0_mateIn_19 (by decide) ?_
  refine lv_ixor hx hb dX0_mateIn_20 ?_
  refine lv_iand hx hb dX0_mateIn_21 ?_
  refine k_bind hf (fun v2 hv2 hf => ?_)
  refine m_nmi hv2 ?_
  refine lv_istore (lv' := [(4, .int v2), (6, .int v1), (0, .ref (xo E)), (1, .int y1), (5, .int q.2.1)]) hx hb dX0_mateIn_22 hl (by decide) rfl (fun ls hl => ?_)
  refine lv_aload_n hx hb dX0_mateIn_24 rfl (lv_at hl 2 rfl) ?_
  refine x_oget (k := 0) (v := .ref (xnt E (0 : Fin 3))) S hR (lk_X0_10 _ List.mem_cons_self) rfl dX0_mateIn_25 ?_
  refine x_ngetN (j := (0 : Fin 3)) (k := 1) (v := .ref (xar E 11)) S hR (lk_X0_152 _ List.mem_cons_self) rfl dX0_mateIn_28 ?_
  refine lv_iload hx hb dX0_mateIn_31 (lv_at hl 1 rfl) ?_
  refine k_bind hf (fun v3 hv3 hf => ?_)
  refine x_sl1 S hR hv3 dX0_mateIn_33 ?_
  refine lv_iload hx hb dX0_mateIn_34 (lv_at hl 4 rfl) ?_
  refine lv_iand hx hb dX0_mateIn_36 ?_
  refine k_bind hf (fun v4 hv4 hf => ?_)
  refine s_call (As := [.int (v3 &&& q.2.1)]) (rest := []) S.1.1 (met_X0_leastOf hv4) wi_X0_leastOf q282 ⟨rfl, rfl⟩ ⟨Nat.le_of_ble_eq_true rfl, Nat.le_of_ble_eq_true rfl⟩ rfl hl.1 rfl (Nat.le_of_ble_eq_true rfl) dX0_mateIn_37 hn.cs ?_
  refine lv_istore (lv' := [(7, .int v4), (4, .int v2), (6, .int v1), (0, .ref (xo E)), (1, .int y1), (5, .int q.2.1)]) hx hb dX0_mateIn_40 hl (by decide) rfl (fun ls hl => ?_)
  refine k_bind hf (fun b8 hb8 hf => ?_)
  refine wLX0_mateIn_42 S hb8 ?_ _ _ _ _ _ hR hS hn (lv_sub (l' := [(0, .ref (xo E)), (1, .int y1), (4, .int v2), (5, .int q.2.1), (6, .int v1), (7, .int v4)]) hl [3, 4, 1, 5, 2, 0] rfl)
  · intro b eb; subst eb; intro H locs cells slots ls hR hS hn hl
    refine lv_iload hx hb dX0_mateIn_88 (lv_at hl 3 rfl) ?_
    refine lv_iconst (v := 1) hx hb dX0_mateIn_90 (by decide) ?_
    refine lv_iload hx hb dX0_mateIn_91 (lv_at hl 5 rfl) ?_
    refine lv_ishl hx hb dX0_mateIn_93 ?_
    refine lv_iconst (v := -1) hx hb dX0_mateIn_94 (by decide) ?_
    refine lv_ixor hx hb dX0_mateIn_95 ?_
    refine lv_iand hx hb dX0_mateIn_96 ?_
    refine k_bind hf (fun v9 hv9 hf => ?_)
    refine m_nmi hv9 ?_
    refine lv_istore (lv' := [(5, .int v9), (0, .ref (xo E)), (1, .int y1), (4, .int v2), (6, .int v1), (7, .int b8.1)]) hx hb dX0_mateIn_97 hl (by decide) rfl (fun ls hl => ?_)
    refine lv_iload hx hb dX0_mateIn_99 (lv_at hl 4 rfl) ?_
    refine lv_iload_n hx hb dX0_mateIn_101 rfl (lv_at hl 2 rfl) ?_
    refine lv_icmp_eq (tgt := 111) hx hb dX0_mateIn_102 (by decide) (fun c_102 => ?_) (fun c_102 => ?_)
    · replace hf := o_t hf c_102
      exact hE111 _ (Option.some.inj hf).symm _ _ _ _ _ hR hS hn (lv_sub (l' := [(1, .int y1), (6, .int v1), (7, .int b8.1)]) hl [2, 4, 5] rfl)
    · replace hf := o_f hf c_102
      refine lv_iload hx hb dX0_mateIn_105 (lv_at hl 5 rfl) ?_
      refine lv_iload_n hx hb dX0_mateIn_107 rfl (lv_at hl 2 rfl) ?_
      refine lv_icmp_ne (tgt := 125) hx hb dX0_mateIn_108 (by decide) (fun c_108 => ?_) (fun c_108 => ?_)
      · replace hf := o_f hf c_108
        refine lv_iload hx hb dX0_mateIn_125 (lv_at hl 3 rfl) ?_
        refine lv_if_ne (tgt := 132) hx hb dX0_mateIn_127 (by decide) (fun c_127 => ?_) (fun c_127 => ?_)
        · replace hf := o_f hf c_127
          refine lv_goto (tgt := 6) hx hb dX0_mateIn_132 (by decide) ?_
          exact hK _ (Option.some.inj hf).symm _ _ _ _ _ hR hS hn (lv_sub (l' := [(0, .ref (xo E)), (1, .int y1), (4, .int v2), (5, .int v9)]) hl [1, 2, 3, 0] rfl)
        · replace hf := o_t hf c_127
          exact hE130 _ (Option.some.inj hf).symm _ _ _ _ _ hR hS hn (lv_sub (l' := []) hl [] rfl)
      · replace hf := o_t hf c_108
        exact hE111 _ (Option.some.inj hf).symm _ _ _ _ _ hR hS hn (lv_sub (l' := [(1, .int y1), (6, .int v1), (7, .int b8.1)]) hl [2, 4, 5] rfl)
set_option maxHeartbeats 4000000 in
set_option maxRecDepth 100000 in
theorem wLX0_mateIn_6 {l : Launch} {E : xG} {p : Program} {e : Env} {s : State} {m : MethodId} {args : Array Value} {below : List Frame} {meth : Method} {c : Code} {Q : State → Prop} {n0 s0 nf sf : Nat} {y1 : Int32} {q : Int32 × Int32 × xS} {res : (Int32 × Int32 × xS) ⊕ (xS)} (S : xSt E RX0 p m c cX0_mateIn 8 s args meth (Option.some Jvm.ClassFile.FieldType.int)) (h : lpw (LX0_mateIn_6 y1) q = some res) (hE111 : ∀ b, res = (Sum.inl b) → (∀ (H : Heap) (locs : List Loc) (cells slots : Nat) (ls : Array Slot), xR E b.2.2 H → va_S (xAA E) s.heap H locs → XN cells slots n0 s0 nf sf b.2.2 → lv_has ls 8 [(1, .int y1), (6, .int b.1), (7, .int b.2.1)] → W p l e (xRm 21 478 (nf - n0) (sf - s0)) s m args below meth c H locs cells slots Q (F0 m 111 ls []))) (hE130 : ∀ b, res = (Sum.inr b) → (∀ (H : Heap) (locs : List Loc) (cells slots : Nat) (ls : Array Slot), xR E b H → va_S (xAA E) s.heap H locs → XN cells slots n0 s0 nf sf b → lv_has ls 8 [] → W p l e (xRm 21 478 (nf - n0) (sf - s0)) s m args below meth c H locs cells slots Q (F0 m 130 ls []))) : (∀ (H : Heap) (locs : List Loc) (cells slots : Nat) (ls : Array Slot), xR E q.2.2 H → va_S (xAA E) s.heap H locs → XN cells slots n0 s0 nf sf q.2.2 → lv_has ls 8 [(0, .ref (xo E)), (1, .int y1), (4, .int q.1), (5, .int q.2.1)] → W p l e (xRm 21 478 (nf - n0) (sf - s0)) s m args below meth c H locs cells slots Q (F0 m 6 ls [])) :=
  lpw_go _ (fun q => (∀ (H : Heap) (locs : List Loc) (cells slots : Nat) (ls : Array Slot), xR E q.2.2 H → va_S (xAA E) s.heap H locs → XN cells slots n0 s0 nf sf q.2.2 → lv_has ls 8 [(0, .ref (xo E)), (1, .int y1), (4, .int q.1), (5, .int q.2.1)] → W p l e (xRm 21 478 (nf - n0) (sf - s0)) s m args below meth c H locs cells slots Q (F0 m 6 ls []))) (fun b0 => (∀ b, b0 = (Sum.inl b) → (∀ (H : Heap) (locs : List Loc) (cells slots : Nat) (ls : Array Slot), xR E b.2.2 H → va_S (xAA E) s.heap H locs → XN cells slots n0 s0 nf sf b.2.2 → lv_has ls 8 [(1, .int y1), (6, .int b.1), (7, .int b.2.1)] → W p l e (xRm 21 478 (nf - n0) (sf - s0)) s m args below meth c H locs cells slots Q (F0 m 111 ls []))) ∧ (∀ b, b0 = (Sum.inr b) → (∀ (H : Heap) (locs : List Loc) (cells slots : Nat) (ls : Array Slot), xR E b H → va_S (xAA E) s.heap H locs → XN cells slots n0 s0 nf sf b → lv_has ls 8 [] → W p l e (xRm 21 478 (nf - n0) (sf - s0)) s m args below meth c H locs cells slots Q (F0 m 130 ls [])))) (fun q x hf hK hX => wbLX0_mateIn_6 S hf hK (fun b eb => (hX _ eb).1 b rfl) (fun b eb => (hX _ eb).2 b rfl)) q res h ⟨hE111, hE130⟩
set_option maxHeartbeats 4000000 in
set_option maxRecDepth 100000 in
theorem wJX0_mateIn_111 {l : Launch} {E : xG} {p : Program} {e : Env} {s : State} {m : MethodId} {args : Array Value} {below : List Frame} {meth : Method} {c : Code} {σ0 : xS} {y1 : Int32} {y6 : Int32} {y7 : Int32} {σ : xS} {res : Int32 × xS} (S : xSt E RX0 p m c cX0_mateIn 8 s args meth (Option.some Jvm.ClassFile.FieldType.int)) (hf : JX0_mateIn_111 y1 y6 y7 σ = some res) : ∀ (H : Heap) (locs : List Loc) (cells slots : Nat) (ls : Array Slot), xR E σ H → va_S (xAA E) s.heap H locs → XN cells slots (xnx σ0) (xns σ0) (xnx res.2) (xns res.2) σ → lv_has ls 8 [(1, .int y1), (6, .int y6), (7, .int y7)] → W p l e (xRm 21 478 ((xnx res.2) - (xnx σ0)) ((xns res.2) - (xns σ0))) s m args below meth c H locs cells slots (MQ below (xQ E (some (.int res.1)) res.2) args s (xnx res.2 - xnx σ0) (xns res.2 - xns σ0) (xAA E)) (F0 m 111 ls []) := by
  replace hf : (if y6 = y1 then some (y7, σ) else some (y6, σ)) = some res := hf
  obtain ⟨hx, hb, hml, hown, hts⟩ := S.1.1
  intro H locs cells slots ls hR hS hn hl
  refine lv_iload hx hb dX0_mateIn_111 (lv_at hl 1 rfl) ?_
  refine lv_iload_n hx hb dX0_mateIn_113 rfl (lv_at hl 0 rfl) ?_
  refine lv_icmp_ne (tgt := 122) hx hb dX0_mateIn_114 (by decide) (fun c_114 => ?_) (fun c_114 => ?_)
  · replace hf := o_f hf c_114
    refine lv_iload hx hb dX0_mateIn_122 (lv_at hl 1 rfl) ?_
    obtain rfl := Option.some.inj hf
    exact x_iret S hR hS hn rfl dX0_mateIn_124
  · replace hf := o_t hf c_114
    refine lv_iload hx hb dX0_mateIn_117 (lv_at hl 2 rfl) ?_
    refine lv_goto (tgt := 124) hx hb dX0_mateIn_119 (by decide) ?_
    obtain rfl := Option.some.inj hf
    exact x_iret S hR hS hn rfl dX0_mateIn_124
set_option maxHeartbeats 4000000 in
set_option maxRecDepth 100000 in
theorem met_X0_mateIn {l : Launch} {E : xG} {x1 : Int32} {x2 : Int32} {x3 : Int32} {σ : xS} {res : Int32 × xS} (hf : fX0_mateIn x1 x2 x3 σ = some res) : xMet l yX0_mateIn cX0_mateIn 8 (Option.some Jvm.ClassFile.FieldType.int) 21 478 E [.ref (xo E), .int x1, .int x2, .int x3] σ (some (.int res.1)) res.2 := by
  replace hf : ((lpw (LX0_mateIn_6 x1) (x2, x3, σ)).bind ((fun e => Sum.elim (fun b11 => JX0_mateIn_111 x1 b11.1 b11.2.1 b11.2.2) (fun b12 => some ((-1 : Int32), b12)) e))) = some res := hf
  refine x_start (by decide) (Nat.le_of_ble_eq_true rfl) ?_
  intro p e s m args below meth c S hnm hR hS ls hl
  obtain ⟨hx, hb, hml, hown, hts⟩ := S.1.1
  have hl : lv_has ls 8 [(0, .ref (xo E)), (1, .int x1), (2, .int x2), (3, .int x3)] := hl
  have hn : XN 0 0 (xnx σ) (xns σ) (xnx res.2) (xns res.2) σ := ⟨Nat.zero_add _, Nat.zero_add _, (r0_X0_mateIn (x1 := x1) (x2 := x2) (x3 := x3) (σ := σ) hf).le.1, (r0_X0_mateIn (x1 := x1) (x2 := x2) (x3 := x3) (σ := σ) hf).le.2⟩
  refine lv_iload_n hx hb dX0_mateIn_0 rfl (lv_at hl 2 rfl) ?_
  refine lv_istore (lv' := [(4, .int x2), (0, .ref (xo E)), (1, .int x1), (2, .int x2), (3, .int x3)]) hx hb dX0_mateIn_1 hl (by decide) rfl (fun ls hl => ?_)
  refine lv_iload_n hx hb dX0_mateIn_3 rfl (lv_at hl 4 rfl) ?_
  refine lv_istore (lv' := [(5, .int x3), (4, .int x2), (0, .ref (xo E)), (1, .int x1), (2, .int x2), (3, .int x3)]) hx hb dX0_mateIn_4 hl (by decide) rfl (fun ls hl => ?_)
  refine k_bind hf (fun b10 hb10 hf => ?_)
  refine wLX0_mateIn_6 S hb10 ?_ ?_ _ _ _ _ _ hR hS hn (lv_sub (l' := [(0, .ref (xo E)), (1, .int x1), (4, .int x2), (5, .int x3)]) hl [2, 3, 1, 0] rfl)
  · intro b11 eb; subst eb; intro H locs cells slots ls hR hS hn hl
    replace hf := o_l hf
    exact wJX0_mateIn_111 S hf _ _ _ _ _ hR hS hn hl
  · intro b12 eb; subst eb; intro H locs cells slots ls hR hS hn hl
    replace hf := o_r hf
    refine lv_iconst (v := -1) hx hb dX0_mateIn_130 (by decide) ?_
    obtain rfl := Option.some.inj hf
    exact x_iret S hR hS hn rfl dX0_mateIn_131
