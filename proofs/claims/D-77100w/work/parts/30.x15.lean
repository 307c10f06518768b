/-! the component, walked: X7_cost X8_kind X8_cost X9_kind X9_cost X10_kind X10_cost X16_init X19_told X19_equals X15_hashCode X15_equals X22_gets X23_and X11_starts X11_goes X12_meets X13_meets X14_meets X20_init X20_isIn X20_here -/

noncomputable def fX7_cost (a : Nat) (x1 : Int32) (σ : xS) : Option (Int32) :=
  none

set_option maxHeartbeats 4000000 in
set_option maxRecDepth 100000 in
theorem met_X7_cost {l : Launch} {E : xG} {a : Nat} {x1 : Int32} {σ : xS} {res : Int32} (hf : fX7_cost a x1 σ = some res) : xMet l yX7_cost cX7_cost 2 (Option.some Jvm.ClassFile.FieldType.int) 1 24 E [.ref a, .int x1] σ (some (.int res)) σ := by
  replace hf : none = some res := hf
  refine x_start (by decide) (Nat.le_of_ble_eq_true rfl) ?_
  intro p e s m args below meth c S hnm hR hS ls hl
  obtain ⟨hx, hb, hml, hown, hts⟩ := S.1.1
  have hl : lv_has ls 2 [(0, .ref a), (1, .int x1)] := hl
  have hn : XN 0 0 (xnx σ) (xns σ) (xnx σ) (xns σ) σ := ⟨Nat.zero_add _, Nat.zero_add _, (rl1.rf σ).1, (rl1.rf σ).2⟩
  refine lv_iconst (v := 2) hx hb dX7_cost_0 (by decide) ?_
  refine lv_aload_n hx hb dX7_cost_1 rfl (lv_at hl 0 rfl) ?_
  refine lv_iload_n hx hb dX7_cost_2 rfl (lv_at hl 1 rfl) ?_
  cases hf


noncomputable def fX8_kind (a : Nat) (σ : xS) : Option (Int32) :=
  none

set_option maxHeartbeats 4000000 in
set_option maxRecDepth 100000 in
theorem met_X8_kind {l : Launch} {E : xG} {a : Nat} {σ : xS} {res : Int32} (hf : fX8_kind a σ = some res) : xMet l yX8_kind cX8_kind 1 (Option.some Jvm.ClassFile.FieldType.int) 1 24 E [.ref a] σ (some (.int res)) σ := by
  replace hf : none = some res := hf
  refine x_start (by decide) (Nat.le_of_ble_eq_true rfl) ?_
  intro p e s m args below meth c S hnm hR hS ls hl
  obtain ⟨hx, hb, hml, hown, hts⟩ := S.1.1
  have hl : lv_has ls 1 [(0, .ref a)] := hl
  have hn : XN 0 0 (xnx σ) (xns σ) (xnx σ) (xns σ) σ := ⟨Nat.zero_add _, Nat.zero_add _, (rl1.rf σ).1, (rl1.rf σ).2⟩
  refine lv_iconst (v := 2) hx hb dX8_kind_0 (by decide) ?_
  refine lv_aload_n hx hb dX8_kind_1 rfl (lv_at hl 0 rfl) ?_
  cases hf


noncomputable def fX8_cost (a : Nat) (x1 : Int32) (σ : xS) : Option (Int32) :=
  none

set_option maxHeartbeats 4000000 in
set_option maxRecDepth 100000 in
theorem met_X8_cost {l : Launch} {E : xG} {a : Nat} {x1 : Int32} {σ : xS} {res : Int32} (hf : fX8_cost a x1 σ = some res) : xMet l yX8_cost cX8_cost 2 (Option.some Jvm.ClassFile.FieldType.int) 1 24 E [.ref a, .int x1] σ (some (.int res)) σ := by
  replace hf : none = some res := hf
  refine x_start (by decide) (Nat.le_of_ble_eq_true rfl) ?_
  intro p e s m args below meth c S hnm hR hS ls hl
  obtain ⟨hx, hb, hml, hown, hts⟩ := S.1.1
  have hl : lv_has ls 2 [(0, .ref a), (1, .int x1)] := hl
  have hn : XN 0 0 (xnx σ) (xns σ) (xnx σ) (xns σ) σ := ⟨Nat.zero_add _, Nat.zero_add _, (rl1.rf σ).1, (rl1.rf σ).2⟩
  refine lv_iconst (v := 1) hx hb dX8_cost_0 (by decide) ?_
  refine lv_aload_n hx hb dX8_cost_1 rfl (lv_at hl 0 rfl) ?_
  refine lv_iload_n hx hb dX8_cost_2 rfl (lv_at hl 1 rfl) ?_
  cases hf


noncomputable def fX9_kind (a : Nat) (σ : xS) : Option (Int32) :=
  none

set_option maxHeartbeats 4000000 in
set_option maxRecDepth 100000 in
theorem met_X9_kind {l : Launch} {E : xG} {a : Nat} {σ : xS} {res : Int32} (hf : fX9_kind a σ = some res) : xMet l yX9_kind cX9_kind 1 (Option.some Jvm.ClassFile.FieldType.int) 1 24 E [.ref a] σ (some (.int res)) σ := by
  replace hf : none = some res := hf
  refine x_start (by decide) (Nat.le_of_ble_eq_true rfl) ?_
  intro p e s m args below meth c S hnm hR hS ls hl
  obtain ⟨hx, hb, hml, hown, hts⟩ := S.1.1
  have hl : lv_has ls 1 [(0, .ref a)] := hl
  have hn : XN 0 0 (xnx σ) (xns σ) (xnx σ) (xns σ) σ := ⟨Nat.zero_add _, Nat.zero_add _, (rl1.rf σ).1, (rl1.rf σ).2⟩
  refine lv_iconst (v := 2) hx hb dX9_kind_0 (by decide) ?_
  refine lv_aload_n hx hb dX9_kind_1 rfl (lv_at hl 0 rfl) ?_
  cases hf


noncomputable def fX9_cost (a : Nat) (x1 : Int32) (σ : xS) : Option (Int32) :=
  none

set_option maxHeartbeats 4000000 in
set_option maxRecDepth 100000 in
theorem met_X9_cost {l : Launch} {E : xG} {a : Nat} {x1 : Int32} {σ : xS} {res : Int32} (hf : fX9_cost a x1 σ = some res) : xMet l yX9_cost cX9_cost 2 (Option.some Jvm.ClassFile.FieldType.int) 1 24 E [.ref a, .int x1] σ (some (.int res)) σ := by
  replace hf : none = some res := hf
  refine x_start (by decide) (Nat.le_of_ble_eq_true rfl) ?_
  intro p e s m args below meth c S hnm hR hS ls hl
  obtain ⟨hx, hb, hml, hown, hts⟩ := S.1.1
  have hl : lv_has ls 2 [(0, .ref a), (1, .int x1)] := hl
  have hn : XN 0 0 (xnx σ) (xns σ) (xnx σ) (xns σ) σ := ⟨Nat.zero_add _, Nat.zero_add _, (rl1.rf σ).1, (rl1.rf σ).2⟩
  refine lv_aload_n hx hb dX9_cost_0 rfl (lv_at hl 0 rfl) ?_
  refine lv_iload_n hx hb dX9_cost_1 rfl (lv_at hl 1 rfl) ?_
  cases hf


noncomputable def fX10_kind (a : Nat) (σ : xS) : Option (Int32) :=
  none

set_option maxHeartbeats 4000000 in
set_option maxRecDepth 100000 in
theorem met_X10_kind {l : Launch} {E : xG} {a : Nat} {σ : xS} {res : Int32} (hf : fX10_kind a σ = some res) : xMet l yX10_kind cX10_kind 1 (Option.some Jvm.ClassFile.FieldType.int) 1 24 E [.ref a] σ (some (.int res)) σ := by
  replace hf : none = some res := hf
  refine x_start (by decide) (Nat.le_of_ble_eq_true rfl) ?_
  intro p e s m args below meth c S hnm hR hS ls hl
  obtain ⟨hx, hb, hml, hown, hts⟩ := S.1.1
  have hl : lv_has ls 1 [(0, .ref a)] := hl
  have hn : XN 0 0 (xnx σ) (xns σ) (xnx σ) (xns σ) σ := ⟨Nat.zero_add _, Nat.zero_add _, (rl1.rf σ).1, (rl1.rf σ).2⟩
  refine lv_iconst (v := 2) hx hb dX10_kind_0 (by decide) ?_
  refine lv_aload_n hx hb dX10_kind_1 rfl (lv_at hl 0 rfl) ?_
  cases hf


noncomputable def fX10_cost (a : Nat) (x1 : Int32) (σ : xS) : Option (Int32) :=
  none

set_option maxHeartbeats 4000000 in
set_option maxRecDepth 100000 in
theorem met_X10_cost {l : Launch} {E : xG} {a : Nat} {x1 : Int32} {σ : xS} {res : Int32} (hf : fX10_cost a x1 σ = some res) : xMet l yX10_cost cX10_cost 2 (Option.some Jvm.ClassFile.FieldType.int) 1 24 E [.ref a, .int x1] σ (some (.int res)) σ := by
  replace hf : none = some res := hf
  refine x_start (by decide) (Nat.le_of_ble_eq_true rfl) ?_
  intro p e s m args below meth c S hnm hR hS ls hl
  obtain ⟨hx, hb, hml, hown, hts⟩ := S.1.1
  have hl : lv_has ls 2 [(0, .ref a), (1, .int x1)] := hl
  have hn : XN 0 0 (xnx σ) (xns σ) (xnx σ) (xns σ) σ := ⟨Nat.zero_add _, Nat.zero_add _, (rl1.rf σ).1, (rl1.rf σ).2⟩
  refine lv_aload_n hx hb dX10_cost_0 rfl (lv_at hl 0 rfl) ?_
  refine lv_aload_n hx hb dX10_cost_1 rfl (lv_at hl 0 rfl) ?_
  refine lv_iload_n hx hb dX10_cost_2 rfl (lv_at hl 1 rfl) ?_
  cases hf

theorem lk_X16_9 : ∀ q ∈ ([(13, 4)] : List (Nat × Nat)), wLk RX16 9 q.1 q.2 := List.forall_mem_cons.mpr ⟨⟨RX16, TX16, 5, "LinesTouched$Node", rfl, by decide, in_X16, q1614, Or.inl rfl⟩, fun _ h => absurd h List.not_mem_nil⟩
theorem pt_X16_9 : ∀ q ∈ ([(13, 4)] : List (Nat × Nat)), wLk RX16 9 q.1 q.2 ∧ wPt q.1 q.2 .int false RX16 := List.forall_mem_cons.mpr ⟨⟨⟨RX16, TX16, 5, "LinesTouched$Node", rfl, by decide, in_X16, q1614, Or.inl rfl⟩, ⟨RX16, TX16, 5, tyX16, rfl, by decide, rfl, by decide +kernel, nmX16, tyX16_ok, fun h => absurd h (by decide)⟩⟩, fun _ h => absurd h List.not_mem_nil⟩
theorem lk_X16_15 : ∀ q ∈ ([(13, 0)] : List (Nat × Nat)), wLk RX16 15 q.1 q.2 := List.forall_mem_cons.mpr ⟨⟨RX16, TX16, 5, "LinesTouched$Node", rfl, by decide, in_X16, q1606, Or.inl rfl⟩, fun _ h => absurd h List.not_mem_nil⟩
theorem pt_X16_15 : ∀ q ∈ ([(13, 0)] : List (Nat × Nat)), wLk RX16 15 q.1 q.2 ∧ wPt q.1 q.2 .int true RX16 := List.forall_mem_cons.mpr ⟨⟨⟨RX16, TX16, 5, "LinesTouched$Node", rfl, by decide, in_X16, q1606, Or.inl rfl⟩, ⟨RX16, TX16, 5, tyX16, rfl, by decide, rfl, by decide +kernel, nmX16, tyX16_ok, fun _ => rfl⟩⟩, fun _ h => absurd h List.not_mem_nil⟩
theorem lk_X16_18 : ∀ q ∈ ([(13, 1)] : List (Nat × Nat)), wLk RX16 18 q.1 q.2 := List.forall_mem_cons.mpr ⟨⟨RX16, TX16, 5, "LinesTouched$Node", rfl, by decide, in_X16, q1608, Or.inl rfl⟩, fun _ h => absurd h List.not_mem_nil⟩
theorem pt_X16_18 : ∀ q ∈ ([(13, 1)] : List (Nat × Nat)), wLk RX16 18 q.1 q.2 ∧ wPt q.1 q.2 .int true RX16 := List.forall_mem_cons.mpr ⟨⟨⟨RX16, TX16, 5, "LinesTouched$Node", rfl, by decide, in_X16, q1608, Or.inl rfl⟩, ⟨RX16, TX16, 5, tyX16, rfl, by decide, rfl, by decide +kernel, nmX16, tyX16_ok, fun _ => rfl⟩⟩, fun _ h => absurd h List.not_mem_nil⟩
theorem lk_X16_21 : ∀ q ∈ ([(13, 2)] : List (Nat × Nat)), wLk RX16 21 q.1 q.2 := List.forall_mem_cons.mpr ⟨⟨RX16, TX16, 5, "LinesTouched$Node", rfl, by decide, in_X16, q1610, Or.inl rfl⟩, fun _ h => absurd h List.not_mem_nil⟩
theorem pt_X16_21 : ∀ q ∈ ([(13, 2)] : List (Nat × Nat)), wLk RX16 21 q.1 q.2 ∧ wPt q.1 q.2 .int true RX16 := List.forall_mem_cons.mpr ⟨⟨⟨RX16, TX16, 5, "LinesTouched$Node", rfl, by decide, in_X16, q1610, Or.inl rfl⟩, ⟨RX16, TX16, 5, tyX16, rfl, by decide, rfl, by decide +kernel, nmX16, tyX16_ok, fun _ => rfl⟩⟩, fun _ h => absurd h List.not_mem_nil⟩
theorem lk_X16_24 : ∀ q ∈ ([(13, 3)] : List (Nat × Nat)), wLk RX16 24 q.1 q.2 := List.forall_mem_cons.mpr ⟨⟨RX16, TX16, 5, "LinesTouched$Node", rfl, by decide, in_X16, q1612, Or.inl rfl⟩, fun _ h => absurd h List.not_mem_nil⟩
theorem pt_X16_24 : ∀ q ∈ ([(13, 3)] : List (Nat × Nat)), wLk RX16 24 q.1 q.2 ∧ wPt q.1 q.2 .int true RX16 := List.forall_mem_cons.mpr ⟨⟨⟨RX16, TX16, 5, "LinesTouched$Node", rfl, by decide, in_X16, q1612, Or.inl rfl⟩, ⟨RX16, TX16, 5, tyX16, rfl, by decide, rfl, by decide +kernel, nmX16, tyX16_ok, fun _ => rfl⟩⟩, fun _ h => absurd h List.not_mem_nil⟩
noncomputable def fX16_init (a : Nat) (x1 : Int32) (x2 : Int32) (x3 : Int32) (x4 : Int32) (σ : xS) : Option (xS) :=
  (xp σ [(13, 4)] a (.int (-1 : Int32))).bind (fun σ1 => (xp σ1 [(13, 0)] a (.int x1)).bind (fun σ2 => (xp σ2 [(13, 1)] a (.int x2)).bind (fun σ3 => (xp σ3 [(13, 2)] a (.int x3)).bind (fun σ4 => (xp σ4 [(13, 3)] a (.int x4)).bind (fun σ5 => some σ5)))))
theorem wi_X16_init : wInfI yX16_init cX16_init 5 4 := ⟨q1603, q141, q1604, rfl, (by decide +kernel), (by decide +kernel), (by decide +kernel)⟩
set_option maxHeartbeats 4000000 in
set_option maxRecDepth 100000 in
theorem r0_X16_init {a : Nat} {x1 : Int32} {x2 : Int32} {x3 : Int32} {x4 : Int32} {σ : xS} {res : xS} (hf : fX16_init a x1 x2 x3 x4 σ = some res) : rl0 σ res := by
  replace hf : ((xp σ [(13, 4)] a (.int (-1 : Int32))).bind (fun σ1 => (xp σ1 [(13, 0)] a (.int x1)).bind (fun σ2 => (xp σ2 [(13, 1)] a (.int x2)).bind (fun σ3 => (xp σ3 [(13, 2)] a (.int x3)).bind (fun σ4 => (xp σ4 [(13, 3)] a (.int x4)).bind (fun σ5 => some σ5)))))) = some res := hf
  refine k_bind hf (fun σ1 hσ1 hf => ?_)
  refine rl0.tr (r0_p hσ1) ?_
  refine k_bind hf (fun σ2 hσ2 hf => ?_)
  refine rl0.tr (r0_p hσ2) ?_
  refine k_bind hf (fun σ3 hσ3 hf => ?_)
  refine rl0.tr (r0_p hσ3) ?_
  refine k_bind hf (fun σ4 hσ4 hf => ?_)
  refine rl0.tr (r0_p hσ4) ?_
  refine k_bind hf (fun σ5 hσ5 hf => ?_)
  refine rl0.tr (r0_p hσ5) ?_
  obtain rfl := Option.some.inj hf
  exact rl0.rf _
set_option maxHeartbeats 4000000 in
set_option maxRecDepth 100000 in
theorem met_X16_init {l : Launch} {E : xG} {a : Nat} {x1 : Int32} {x2 : Int32} {x3 : Int32} {x4 : Int32} {σ : xS} {res : xS} (hf : fX16_init a x1 x2 x3 x4 σ = some res) : xMet l yX16_init cX16_init 5 (Option.none : Option Jvm.ClassFile.FieldType) 1 24 E [.ref a, .int x1, .int x2, .int x3, .int x4] σ none res := by
  replace hf : ((xp σ [(13, 4)] a (.int (-1 : Int32))).bind (fun σ1 => (xp σ1 [(13, 0)] a (.int x1)).bind (fun σ2 => (xp σ2 [(13, 1)] a (.int x2)).bind (fun σ3 => (xp σ3 [(13, 2)] a (.int x3)).bind (fun σ4 => (xp σ4 [(13, 3)] a (.int x4)).bind (fun σ5 => some σ5)))))) = some res := hf
  refine x_start (by decide) (Nat.le_of_ble_eq_true rfl) ?_
  intro p e s m args below meth c S hnm hR hS ls hl
  obtain ⟨hx, hb, hml, hown, hts⟩ := S.1.1
  have hl : lv_has ls 5 [(0, .ref a), (1, .int x1), (2, .int x2), (3, .int x3), (4, .int x4)] := hl
  have hn : XN 0 0 (xnx σ) (xns σ) (xnx res) (xns res) σ := ⟨Nat.zero_add _, Nat.zero_add _, (r0_X16_init (a := a) (x1 := x1) (x2 := x2) (x3 := x3) (x4 := x4) (σ := σ) hf).le.1, (r0_X16_init (a := a) (x1 := x1) (x2 := x2) (x3 := x3) (x4 := x4) (σ := σ) hf).le.2⟩
  refine lv_aload_n hx hb dX16_init_0 rfl (lv_at hl 0 rfl) ?_
  refine W.objInit hx hb hown (hts _ q1605) (hts _ q175) (hts _ q176) rfl (by rw [hml]; exact hl.1) rfl dX16_init_1 (Nat.le_of_ble_eq_true rfl) (Nat.le_of_ble_eq_true rfl) ?_
  refine lv_aload_n hx hb dX16_init_4 rfl (lv_at hl 0 rfl) ?_
  refine lv_iconst (v := -1) hx hb dX16_init_5 (by decide) ?_
  refine k_bind hf (fun σ1 hσ1 hf => ?_)
  refine x_put S hR hS pt_X16_9 rfl rfl hσ1 dX16_init_6 (fun H locs hR hS => ?_)
  replace hn := hn.to (r0_p hσ1)
  refine lv_aload_n hx hb dX16_init_9 rfl (lv_at hl 0 rfl) ?_
  refine lv_iload_n hx hb dX16_init_10 rfl (lv_at hl 1 rfl) ?_
  refine k_bind hf (fun σ2 hσ2 hf => ?_)
  refine x_putF S hnm hR hS pt_X16_15 rfl rfl hσ2 dX16_init_11 (fun H locs hR hS => ?_)
  replace hn := hn.to (r0_p hσ2)
  refine lv_aload_n hx hb dX16_init_14 rfl (lv_at hl 0 rfl) ?_
  refine lv_iload_n hx hb dX16_init_15 rfl (lv_at hl 2 rfl) ?_
  refine k_bind hf (fun σ3 hσ3 hf => ?_)
  refine x_putF S hnm hR hS pt_X16_18 rfl rfl hσ3 dX16_init_16 (fun H locs hR hS => ?_)
  replace hn := hn.to (r0_p hσ3)
  refine lv_aload_n hx hb dX16_init_19 rfl (lv_at hl 0 rfl) ?_
  refine lv_iload_n hx hb dX16_init_20 rfl (lv_at hl 3 rfl) ?_
  refine k_bind hf (fun σ4 hσ4 hf => ?_)
  refine x_putF S hnm hR hS pt_X16_21 rfl rfl hσ4 dX16_init_21 (fun H locs hR hS => ?_)
  replace hn := hn.to (r0_p hσ4)
  refine lv_aload_n hx hb dX16_init_24 rfl (lv_at hl 0 rfl) ?_
  refine lv_iload hx hb dX16_init_25 (lv_at hl 4 rfl) ?_
  refine k_bind hf (fun σ5 hσ5 hf => ?_)
  refine x_putF S hnm hR hS pt_X16_24 rfl rfl hσ5 dX16_init_27 (fun H locs hR hS => ?_)
  replace hn := hn.to (r0_p hσ5)
  obtain rfl := Option.some.inj hf
  exact x_vret S hR hS hn dX16_init_30


noncomputable def fX19_told (a : Nat) (σ : xS) : Option (Int32) :=
  (xgI σ [(16, 0)] a).bind (fun v1 => (xgI σ [(16, 1)] a).bind (fun v2 => some (((12 : Int32) * v1) + v2)))
theorem wi_X19_told : wInfV yX19_told cX19_told 1 (Option.some Jvm.ClassFile.FieldType.int) 0 := ⟨q897, q898, q149, q899, (by decide +kernel), (by decide +kernel), (by decide +kernel)⟩
set_option maxHeartbeats 4000000 in
set_option maxRecDepth 100000 in
theorem met_X19_told {l : Launch} {E : xG} {a : Nat} {σ : xS} {res : Int32} (hf : fX19_told a σ = some res) : xMet l yX19_told cX19_told 1 (Option.some Jvm.ClassFile.FieldType.int) 0 0 E [.ref a] σ (some (.int res)) σ := by
  replace hf : ((xgI σ [(16, 0)] a).bind (fun v1 => (xgI σ [(16, 1)] a).bind (fun v2 => some (((12 : Int32) * v1) + v2)))) = some res := hf
  refine x_start (by decide) (Nat.le_of_ble_eq_true rfl) ?_
  intro p e s m args below meth c S hnm hR hS ls hl
  obtain ⟨hx, hb, hml, hown, hts⟩ := S.1.1
  have hl : lv_has ls 1 [(0, .ref a)] := hl
  have hn : XN 0 0 (xnx σ) (xns σ) (xnx σ) (xns σ) σ := ⟨Nat.zero_add _, Nat.zero_add _, (rl1.rf σ).1, (rl1.rf σ).2⟩
  refine lv_bipush (v := 12) hx hb dX19_told_0 (by decide) ?_
  refine lv_aload_n hx hb dX19_told_2 rfl (lv_at hl 0 rfl) ?_
  refine k_bind hf (fun v1 hv1 hf => ?_)
  refine x_get S hR lk_X19_15 (xgI_g hv1) dX19_told_3 ?_
  refine lv_imul hx hb dX19_told_6 ?_
  refine lv_aload_n hx hb dX19_told_7 rfl (lv_at hl 0 rfl) ?_
  refine k_bind hf (fun v2 hv2 hf => ?_)
  refine x_get S hR lk_X19_24 (xgI_g hv2) dX19_told_8 ?_
  refine lv_iadd hx hb dX19_told_11 ?_
  obtain rfl := Option.some.inj hf
  exact x_iret S hR hS hn rfl dX19_told_12


noncomputable def fX19_equals (a : Nat) (x1 : Option Nat) (σ : xS) : Option (Int32) :=
  none

set_option maxHeartbeats 4000000 in
set_option maxRecDepth 100000 in
theorem met_X19_equals {l : Launch} {E : xG} {a : Nat} {x1 : Option Nat} {σ : xS} {res : Int32} (hf : fX19_equals a x1 σ = some res) : xMet l yX19_equals cX19_equals 2 (Option.some Jvm.ClassFile.FieldType.boolean) 0 0 E [.ref a, va_rf x1] σ (some (.int res)) σ := by
  replace hf : none = some res := hf
  refine x_start (by decide) (Nat.le_of_ble_eq_true rfl) ?_
  intro p e s m args below meth c S hnm hR hS ls hl
  obtain ⟨hx, hb, hml, hown, hts⟩ := S.1.1
  have hl : lv_has ls 2 [(0, .ref a), (1, va_rf x1)] := hl
  have hn : XN 0 0 (xnx σ) (xns σ) (xnx σ) (xns σ) σ := ⟨Nat.zero_add _, Nat.zero_add _, (rl1.rf σ).1, (rl1.rf σ).2⟩
  refine x_aload_n (r := x1) hx hb dX19_equals_0 rfl (lv_at hl 1 rfl) ?_
  cases hf


noncomputable def fX15_hashCode (a : Nat) (σ : xS) : Option (Int32) :=
  (xgI σ [(12, 0)] a).bind (fun v1 => (xgI σ [(12, 0)] a).bind (fun v2 => some (v1 ^^^ (iur v2 (6 : Int32)))))

set_option maxHeartbeats 4000000 in
set_option maxRecDepth 100000 in
theorem met_X15_hashCode {l : Launch} {E : xG} {a : Nat} {σ : xS} {res : Int32} (hf : fX15_hashCode a σ = some res) : xMet l yX15_hashCode cX15_hashCode 1 (Option.some Jvm.ClassFile.FieldType.int) 0 0 E [.ref a] σ (some (.int res)) σ := by
  replace hf : ((xgI σ [(12, 0)] a).bind (fun v1 => (xgI σ [(12, 0)] a).bind (fun v2 => some (v1 ^^^ (iur v2 (6 : Int32)))))) = some res := hf
  refine x_start (by decide) (Nat.le_of_ble_eq_true rfl) ?_
  intro p e s m args below meth c S hnm hR hS ls hl
  obtain ⟨hx, hb, hml, hown, hts⟩ := S.1.1
  have hl : lv_has ls 1 [(0, .ref a)] := hl
  have hn : XN 0 0 (xnx σ) (xns σ) (xnx σ) (xns σ) σ := ⟨Nat.zero_add _, Nat.zero_add _, (rl1.rf σ).1, (rl1.rf σ).2⟩
  refine lv_aload_n hx hb dX15_hashCode_0 rfl (lv_at hl 0 rfl) ?_
  refine k_bind hf (fun v1 hv1 hf => ?_)
  refine x_get S hR lk_X15_7 (xgI_g hv1) dX15_hashCode_1 ?_
  refine lv_aload_n hx hb dX15_hashCode_4 rfl (lv_at hl 0 rfl) ?_
  refine k_bind hf (fun v2 hv2 hf => ?_)
  refine x_get S hR lk_X15_7 (xgI_g hv2) dX15_hashCode_5 ?_
  refine lv_bipush (v := 6) hx hb dX15_hashCode_8 (by decide) ?_
  refine lv_iushr (v := (iur v2 (6 : Int32))) hx hb dX15_hashCode_10 rfl ?_
  refine lv_ixor hx hb dX15_hashCode_11 ?_
  obtain rfl := Option.some.inj hf
  exact x_iret S hR hS hn rfl dX15_hashCode_12


noncomputable def fX15_equals (a : Nat) (x1 : Option Nat) (σ : xS) : Option (Int32) :=
  none

set_option maxHeartbeats 4000000 in
set_option maxRecDepth 100000 in
theorem met_X15_equals {l : Launch} {E : xG} {a : Nat} {x1 : Option Nat} {σ : xS} {res : Int32} (hf : fX15_equals a x1 σ = some res) : xMet l yX15_equals cX15_equals 2 (Option.some Jvm.ClassFile.FieldType.boolean) 0 0 E [.ref a, va_rf x1] σ (some (.int res)) σ := by
  replace hf : none = some res := hf
  refine x_start (by decide) (Nat.le_of_ble_eq_true rfl) ?_
  intro p e s m args below meth c S hnm hR hS ls hl
  obtain ⟨hx, hb, hml, hown, hts⟩ := S.1.1
  have hl : lv_has ls 2 [(0, .ref a), (1, va_rf x1)] := hl
  have hn : XN 0 0 (xnx σ) (xns σ) (xnx σ) (xns σ) σ := ⟨Nat.zero_add _, Nat.zero_add _, (rl1.rf σ).1, (rl1.rf σ).2⟩
  refine x_aload_n (r := x1) hx hb dX15_equals_0 rfl (lv_at hl 1 rfl) ?_
  cases hf

theorem pt_X22_21 : ∀ q ∈ ([(19, 6)] : List (Nat × Nat)), wLk RX22 21 q.1 q.2 ∧ wPt q.1 q.2 .int false RX22 := List.forall_mem_cons.mpr ⟨⟨⟨RX22, TX22, 7, "LinesTouched$Twig", rfl, by decide, in_X22, q2271, Or.inl rfl⟩, ⟨RX22, TX22, 7, tyX22, rfl, by decide, rfl, by decide +kernel, nmX22, tyX22_ok, fun h => absurd h (by decide)⟩⟩, fun _ h => absurd h List.not_mem_nil⟩
theorem lk_X22_25 : ∀ q ∈ ([(19, 3)] : List (Nat × Nat)), wLk RX22 25 q.1 q.2 := List.forall_mem_cons.mpr ⟨⟨RX22, TX22, 7, "LinesTouched$Twig", rfl, by decide, in_X22, q2266, Or.inl rfl⟩, fun _ h => absurd h List.not_mem_nil⟩
theorem lk_X22_31 : ∀ q ∈ ([(19, 4)] : List (Nat × Nat)), wLk RX22 31 q.1 q.2 := List.forall_mem_cons.mpr ⟨⟨RX22, TX22, 7, "LinesTouched$Twig", rfl, by decide, in_X22, q2267, Or.inl rfl⟩, fun _ h => absurd h List.not_mem_nil⟩
theorem pt_X22_31 : ∀ q ∈ ([(19, 4)] : List (Nat × Nat)), wLk RX22 31 q.1 q.2 ∧ wPt q.1 q.2 (.object "LinesTouched$Twig") false RX22 := List.forall_mem_cons.mpr ⟨⟨⟨RX22, TX22, 7, "LinesTouched$Twig", rfl, by decide, in_X22, q2267, Or.inl rfl⟩, ⟨RX22, TX22, 7, tyX22, rfl, by decide, rfl, by decide +kernel, nmX22, tyX22_ok, fun h => absurd h (by decide)⟩⟩, fun _ h => absurd h List.not_mem_nil⟩
theorem pt_X22_25 : ∀ q ∈ ([(19, 3)] : List (Nat × Nat)), wLk RX22 25 q.1 q.2 ∧ wPt q.1 q.2 (.object "LinesTouched$Twig") false RX22 := List.forall_mem_cons.mpr ⟨⟨⟨RX22, TX22, 7, "LinesTouched$Twig", rfl, by decide, in_X22, q2266, Or.inl rfl⟩, ⟨RX22, TX22, 7, tyX22, rfl, by decide, rfl, by decide +kernel, nmX22, tyX22_ok, fun h => absurd h (by decide)⟩⟩, fun _ h => absurd h List.not_mem_nil⟩
theorem lk_X22_34 : ∀ q ∈ ([(19, 5)] : List (Nat × Nat)), wLk RX22 34 q.1 q.2 := List.forall_mem_cons.mpr ⟨⟨RX22, TX22, 7, "LinesTouched$Twig", rfl, by decide, in_X22, q2269, Or.inl rfl⟩, fun _ h => absurd h List.not_mem_nil⟩
theorem pt_X22_34 : ∀ q ∈ ([(19, 5)] : List (Nat × Nat)), wLk RX22 34 q.1 q.2 ∧ wPt q.1 q.2 .int false RX22 := List.forall_mem_cons.mpr ⟨⟨⟨RX22, TX22, 7, "LinesTouched$Twig", rfl, by decide, in_X22, q2269, Or.inl rfl⟩, ⟨RX22, TX22, 7, tyX22, rfl, by decide, rfl, by decide +kernel, nmX22, tyX22_ok, fun h => absurd h (by decide)⟩⟩, fun _ h => absurd h List.not_mem_nil⟩
theorem lk_X22_7 : ∀ q ∈ ([(19, 0)] : List (Nat × Nat)), wLk RX22 7 q.1 q.2 := List.forall_mem_cons.mpr ⟨⟨RX22, TX22, 7, "LinesTouched$Twig", rfl, by decide, in_X22, q2260, Or.inl rfl⟩, fun _ h => absurd h List.not_mem_nil⟩
theorem lk_X22_28 : ∀ q ∈ ([(19, 2)] : List (Nat × Nat)), wLk RX22 28 q.1 q.2 := List.forall_mem_cons.mpr ⟨⟨RX22, TX22, 7, "LinesTouched$Twig", rfl, by decide, in_X22, q2264, Or.inl rfl⟩, fun _ h => absurd h List.not_mem_nil⟩
theorem pt_X22_28 : ∀ q ∈ ([(19, 2)] : List (Nat × Nat)), wLk RX22 28 q.1 q.2 ∧ wPt q.1 q.2 (.object "LinesTouched$Twig") false RX22 := List.forall_mem_cons.mpr ⟨⟨⟨RX22, TX22, 7, "LinesTouched$Twig", rfl, by decide, in_X22, q2264, Or.inl rfl⟩, ⟨RX22, TX22, 7, tyX22, rfl, by decide, rfl, by decide +kernel, nmX22, tyX22_ok, fun h => absurd h (by decide)⟩⟩, fun _ h => absurd h List.not_mem_nil⟩
noncomputable def LX22_gets_40 (q : (Option Nat) × xS) : Option (((Option Nat) × xS) ⊕ (xS)) :=
  if q.1 = none then some (Sum.inr q.2) else (q.1).bind (fun a8 => (xgI q.2 [(19, 5)] a8).bind (fun v9 => (xp q.2 [(19, 5)] a8 (.int (v9 + (1 : Int32)))).bind (fun σ10 => (q.1).bind (fun a11 => (xgR σ10 [(19, 0)] a11).bind (fun v12 => some (Sum.inl (v12, σ10)))))))
noncomputable def JX22_gets_33 (y0 : Nat) (y1 : Option Nat) (σ : xS) : Option (xS) :=
  (xp σ [(19, 3)] y0 (va_rf y1)).bind (fun σ7 => (lpw (LX22_gets_40) ((some y0), σ7)).bind (fun b13 => some b13))
noncomputable def fX22_gets (a : Nat) (x1 : Option Nat) (σ : xS) : Option (xS) :=
  (xgI σ [(19, 6)] a).bind (fun v1 => (xp σ [(19, 6)] a (.int (v1 + (1 : Int32)))).bind (fun σ2 => (xgR σ2 [(19, 3)] a).bind (fun v3 => if v3 = none then (xp σ2 [(19, 2)] a (va_rf x1)).bind (fun σ14 => JX22_gets_33 a x1 σ14) else (xgR σ2 [(19, 3)] a).bind (fun v4 => (v4).bind (fun a5 => (xp σ2 [(19, 4)] a5 (va_rf x1)).bind (fun σ6 => JX22_gets_33 a x1 σ6))))))
theorem wi_X22_gets : wInfV yX22_gets cX22_gets 3 (Option.none : Option Jvm.ClassFile.FieldType) 1 := ⟨q2258, qs50, q162, q2259, (by decide +kernel), (by decide +kernel), (by decide +kernel)⟩
set_option maxHeartbeats 4000000 in
set_option maxRecDepth 100000 in
theorem rsLX22_gets_40 {q : (Option Nat) × xS} {res : ((Option Nat) × xS) ⊕ (xS)} (hf : LX22_gets_40 q = some res) : rl0 q.2 (Sum.elim (fun q => q.2) (fun b => b) res) := by
  replace hf : (if q.1 = none then some (Sum.inr q.2) else (q.1).bind (fun a8 => (xgI q.2 [(19, 5)] a8).bind (fun v9 => (xp q.2 [(19, 5)] a8 (.int (v9 + (1 : Int32)))).bind (fun σ10 => (q.1).bind (fun a11 => (xgR σ10 [(19, 0)] a11).bind (fun v12 => some (Sum.inl (v12, σ10)))))))) = some res := hf
  by_cases c0 : q.1 = none
  · replace hf := o_t hf c0
    obtain rfl := Option.some.inj hf
    exact rl0.rf _
  · replace hf := o_f hf c0
    refine k_bind hf (fun a8 ha8 hf => ?_)
    refine k_bind hf (fun v9 hv9 hf => ?_)
    refine k_bind hf (fun σ10 hσ10 hf => ?_)
    refine rl0.tr (r0_p hσ10) ?_
    refine k_bind hf (fun a11 ha11 hf => ?_)
    refine k_bind hf (fun v12 hv12 hf => ?_)
    obtain rfl := Option.some.inj hf
    exact rl0.rf _
set_option maxHeartbeats 4000000 in
set_option maxRecDepth 100000 in
theorem rLX22_gets_40 {q : (Option Nat) × xS} {b : xS} (h : lpw (LX22_gets_40) q = some b) : rl0 q.2 ((fun b => b) b) :=
  lpw_rel _ (fun q => q.2) (fun b => b) rl0 rl0.tr (fun _ _ hf => rsLX22_gets_40 hf) h
set_option maxHeartbeats 4000000 in
set_option maxRecDepth 100000 in
theorem rJX22_gets_33 {y0 : Nat} {y1 : Option Nat} {σ : xS} {res : xS} (hf : JX22_gets_33 y0 y1 σ = some res) : rl0 σ res := by
  replace hf : ((xp σ [(19, 3)] y0 (va_rf y1)).bind (fun σ7 => (lpw (LX22_gets_40) ((some y0), σ7)).bind (fun b13 => some b13))) = some res := hf
  refine k_bind hf (fun σ7 hσ7 hf => ?_)
  refine rl0.tr (r0_p hσ7) ?_
  refine k_bind hf (fun b13 hb13 hf => ?_)
  refine rl0.tr (rLX22_gets_40 hb13) ?_
  obtain rfl := Option.some.inj hf
  exact rl0.rf _
set_option maxHeartbeats 4000000 in
set_option maxRecDepth 100000 in
theorem r0_X22_gets {a : Nat} {x1 : Option Nat} {σ : xS} {res : xS} (hf : fX22_gets a x1 σ = some res) : rl0 σ res := by
  replace hf : ((xgI σ [(19, 6)] a).bind (fun v1 => (xp σ [(19, 6)] a (.int (v1 + (1 : Int32)))).bind (fun σ2 => (xgR σ2 [(19, 3)] a).bind (fun v3 => if v3 = none then (xp σ2 [(19, 2)] a (va_rf x1)).bind (fun σ14 => JX22_gets_33 a x1 σ14) else (xgR σ2 [(19, 3)] a).bind (fun v4 => (v4).bind (fun a5 => (xp σ2 [(19, 4)] a5 (va_rf x1)).bind (fun σ6 => JX22_gets_33 a x1 σ6))))))) = some res := hf
  refine k_bind hf (fun v1 hv1 hf => ?_)
  refine k_bind hf (fun σ2 hσ2 hf => ?_)
  refine rl0.tr (r0_p hσ2) ?_
  refine k_bind hf (fun v3 hv3 hf => ?_)
  by_cases c0 : v3 = none
  · replace hf := o_t hf c0
    refine k_bind hf (fun σ14 hσ14 hf => ?_)
    refine rl0.tr (r0_p hσ14) ?_
    exact rJX22_gets_33 hf
  · replace hf := o_f hf c0
    refine k_bind hf (fun v4 hv4 hf => ?_)
    refine k_bind hf (fun a5 ha5 hf => ?_)
    refine k_bind hf (fun σ6 hσ6 hf => ?_)
    refine rl0.tr (r0_p hσ6) ?_
    exact rJX22_gets_33 hf
set_option maxHeartbeats 4000000 in
set_option maxRecDepth 100000 in
theorem wbLX22_gets_40 {l : Launch} {E : xG} {p : Program} {e : Env} {s : State} {m : MethodId} {args : Array Value} {below : List Frame} {meth : Method} {c : Code} {Q : State → Prop} {n0 s0 nf sf : Nat} {q : (Option Nat) × xS} {res : ((Option Nat) × xS) ⊕ (xS)} (S : xSt E RX22 p m c cX22_gets 3 s args meth (Option.none : Option Jvm.ClassFile.FieldType)) (hf : LX22_gets_40 q = some res) (hK : ∀ q, res = Sum.inl q → (∀ (H : Heap) (locs : List Loc) (cells slots : Nat) (ls : Array Slot), xR E q.2 H → va_S (xAA E) s.heap H locs → XN cells slots n0 s0 nf sf q.2 → lv_has ls 3 [(2, va_rf q.1)] → W p l e (xRm 0 0 (nf - n0) (sf - s0)) s m args below meth c H locs cells slots Q (F0 m 40 ls []))) (hE62 : ∀ b, res = Sum.inr b → (∀ (H : Heap) (locs : List Loc) (cells slots : Nat) (ls : Array Slot), xR E b H → va_S (xAA E) s.heap H locs → XN cells slots n0 s0 nf sf b → lv_has ls 3 [] → W p l e (xRm 0 0 (nf - n0) (sf - s0)) s m args below meth c H locs cells slots Q (F0 m 62 ls []))) : (∀ (H : Heap) (locs : List Loc) (cells slots : Nat) (ls : Array Slot), xR E q.2 H → va_S (xAA E) s.heap H locs → XN cells slots n0 s0 nf sf q.2 → lv_has ls 3 [(2, va_rf q.1)] → W p l e (xRm 0 0 (nf - n0) (sf - s0)) s m args below meth c H locs cells slots Q (F0 m 40 ls [])) := by
  replace hf : (if q.1 = none then some (Sum.inr q.2) else (q.1).bind (fun a8 => (xgI q.2 [(19, 5)] a8).bind (fun v9 => (xp q.2 [(19, 5)] a8 (.int (v9 + (1 : Int32)))).bind (fun σ10 => (q.1).bind (fun a11 => (xgR σ10 [(19, 0)] a11).bind (fun v12 => some (Sum.inl (v12, σ10)))))))) = some res := hf
  obtain ⟨hx, hb, hml, hown, hts⟩ := S.1.1
  intro H locs cells slots ls hR hS hn hl
  refine x_aload_n (r := q.1) hx hb dX22_gets_40 rfl (lv_at hl 0 rfl) ?_
  refine x_ifnull (r := q.1) (tgt := 62) hx hb dX22_gets_41 (by decide) (fun c_41 => ?_) (fun c_41 => ?_)
  · replace hf := o_t hf c_41
    exact hE62 _ (Option.some.inj hf).symm _ _ _ _ _ hR hS hn (lv_sub (l' := []) hl [] rfl)
  · replace hf := o_f hf c_41
    refine x_aload_n (r := q.1) hx hb dX22_gets_44 rfl (lv_at hl 0 rfl) ?_
    refine lv_dup hx hb dX22_gets_45 (rf_cat _) ?_
    refine k_bind hf (fun a8 ha8 hf => ?_)
    rw [rf_some ha8]
    refine k_bind hf (fun v9 hv9 hf => ?_)
    refine x_get S hR lk_X22_34 (xgI_g hv9) dX22_gets_46 ?_
    refine lv_iconst (v := 1) hx hb dX22_gets_49 (by decide) ?_
    refine lv_iadd hx hb dX22_gets_50 ?_
    refine k_bind hf (fun σ10 hσ10 hf => ?_)
    refine x_put S hR hS pt_X22_34 rfl rfl hσ10 dX22_gets_51 (fun H locs hR hS => ?_)
    replace hn := hn.to (r0_p hσ10)
    refine x_aload_n (r := q.1) hx hb dX22_gets_54 rfl (lv_at hl 0 rfl) ?_
    refine k_bind hf (fun a11 ha11 hf => ?_)
    rw [rf_some ha11]
    refine k_bind hf (fun v12 hv12 hf => ?_)
    refine x_get S hR lk_X22_7 (xgR_g hv12) dX22_gets_55 ?_
    refine x_astore_n (r := v12) (lv' := [(2, va_rf v12)]) hx hb dX22_gets_58 rfl hl (by decide) rfl (fun ls hl => ?_)
    refine lv_goto (tgt := 40) hx hb dX22_gets_59 (by decide) ?_
    exact hK _ (Option.some.inj hf).symm _ _ _ _ _ hR hS hn hl
set_option maxHeartbeats 4000000 in
set_option maxRecDepth 100000 in
theorem wLX22_gets_40 {l : Launch} {E : xG} {p : Program} {e : Env} {s : State} {m : MethodId} {args : Array Value} {below : List Frame} {meth : Method} {c : Code} {Q : State → Prop} {n0 s0 nf sf : Nat} {q : (Option Nat) × xS} {res : xS} (S : xSt E RX22 p m c cX22_gets 3 s args meth (Option.none : Option Jvm.ClassFile.FieldType)) (h : lpw (LX22_gets_40) q = some res) (hE62 : ∀ b, res = b → (∀ (H : Heap) (locs : List Loc) (cells slots : Nat) (ls : Array Slot), xR E b H → va_S (xAA E) s.heap H locs → XN cells slots n0 s0 nf sf b → lv_has ls 3 [] → W p l e (xRm 0 0 (nf - n0) (sf - s0)) s m args below meth c H locs cells slots Q (F0 m 62 ls []))) : (∀ (H : Heap) (locs : List Loc) (cells slots : Nat) (ls : Array Slot), xR E q.2 H → va_S (xAA E) s.heap H locs → XN cells slots n0 s0 nf sf q.2 → lv_has ls 3 [(2, va_rf q.1)] → W p l e (xRm 0 0 (nf - n0) (sf - s0)) s m args below meth c H locs cells slots Q (F0 m 40 ls [])) :=
  lpw_go _ (fun q => (∀ (H : Heap) (locs : List Loc) (cells slots : Nat) (ls : Array Slot), xR E q.2 H → va_S (xAA E) s.heap H locs → XN cells slots n0 s0 nf sf q.2 → lv_has ls 3 [(2, va_rf q.1)] → W p l e (xRm 0 0 (nf - n0) (sf - s0)) s m args below meth c H locs cells slots Q (F0 m 40 ls []))) (fun b0 => (∀ b, b0 = b → (∀ (H : Heap) (locs : List Loc) (cells slots : Nat) (ls : Array Slot), xR E b H → va_S (xAA E) s.heap H locs → XN cells slots n0 s0 nf sf b → lv_has ls 3 [] → W p l e (xRm 0 0 (nf - n0) (sf - s0)) s m args below meth c H locs cells slots Q (F0 m 62 ls [])))) (fun q x hf hK hX => wbLX22_gets_40 S hf hK (fun b eb => (hX _ eb) b rfl)) q res h hE62
set_option maxHeartbeats 4000000 in
set_option maxRecDepth 100000 in
theorem wJX22_gets_33 {l : Launch} {E : xG} {p : Program} {e : Env} {s : State} {m : MethodId} {args : Array Value} {below : List Frame} {meth : Method} {c : Code} {σ0 : xS} {y0 : Nat} {y1 : Option Nat} {σ : xS} {res : xS} (S : xSt E RX22 p m c cX22_gets 3 s args meth (Option.none : Option Jvm.ClassFile.FieldType)) (hf : JX22_gets_33 y0 y1 σ = some res) : ∀ (H : Heap) (locs : List Loc) (cells slots : Nat) (ls : Array Slot), xR E σ H → va_S (xAA E) s.heap H locs → XN cells slots (xnx σ0) (xns σ0) (xnx res) (xns res) σ → lv_has ls 3 [(0, .ref y0), (1, va_rf y1)] → W p l e (xRm 0 0 ((xnx res) - (xnx σ0)) ((xns res) - (xns σ0))) s m args below meth c H locs cells slots (MQ below (xQ E none res) args s (xnx res - xnx σ0) (xns res - xns σ0) (xAA E)) (F0 m 33 ls []) := by
  replace hf : ((xp σ [(19, 3)] y0 (va_rf y1)).bind (fun σ7 => (lpw (LX22_gets_40) ((some y0), σ7)).bind (fun b13 => some b13))) = some res := hf
  obtain ⟨hx, hb, hml, hown, hts⟩ := S.1.1
  intro H locs cells slots ls hR hS hn hl
  refine lv_aload_n hx hb dX22_gets_33 rfl (lv_at hl 0 rfl) ?_
  refine x_aload_n (r := y1) hx hb dX22_gets_34 rfl (lv_at hl 1 rfl) ?_
  refine k_bind hf (fun σ7 hσ7 hf => ?_)
  refine x_put S hR hS pt_X22_25 (rf_nar _ _ (by decide)) (rf_fit _ _ (by decide)) hσ7 dX22_gets_35 (fun H locs hR hS => ?_)
  replace hn := hn.to (r0_p hσ7)
  refine lv_aload_n hx hb dX22_gets_38 rfl (lv_at hl 0 rfl) ?_
  refine x_astore_n (r := (some y0)) (lv' := [(2, .ref y0), (0, .ref y0), (1, va_rf y1)]) hx hb dX22_gets_39 rfl hl (by decide) rfl (fun ls hl => ?_)
  refine k_bind hf (fun b13 hb13 hf => ?_)
  refine wLX22_gets_40 S hb13 ?_ _ _ _ _ _ hR hS hn (lv_sub (l' := [(2, .ref y0)]) hl [0] rfl)
  · intro b eb; subst eb; intro H locs cells slots ls hR hS hn hl
    obtain rfl := Option.some.inj hf
    exact x_vret S hR hS hn dX22_gets_62
set_option maxHeartbeats 4000000 in
set_option maxRecDepth 100000 in
theorem met_X22_gets {l : Launch} {E : xG} {a : Nat} {x1 : Option Nat} {σ : xS} {res : xS} (hf : fX22_gets a x1 σ = some res) : xMet l yX22_gets cX22_gets 3 (Option.none : Option Jvm.ClassFile.FieldType) 0 0 E [.ref a, va_rf x1] σ none res := by
  replace hf : ((xgI σ [(19, 6)] a).bind (fun v1 => (xp σ [(19, 6)] a (.int (v1 + (1 : Int32)))).bind (fun σ2 => (xgR σ2 [(19, 3)] a).bind (fun v3 => if v3 = none then (xp σ2 [(19, 2)] a (va_rf x1)).bind (fun σ14 => JX22_gets_33 a x1 σ14) else (xgR σ2 [(19, 3)] a).bind (fun v4 => (v4).bind (fun a5 => (xp σ2 [(19, 4)] a5 (va_rf x1)).bind (fun σ6 => JX22_gets_33 a x1 σ6))))))) = some res := hf
  refine x_start (by decide) (Nat.le_of_ble_eq_true rfl) ?_
  intro p e s m args below meth c S hnm hR hS ls hl
  obtain ⟨hx, hb, hml, hown, hts⟩ := S.1.1
  have hl : lv_has ls 3 [(0, .ref a), (1, va_rf x1)] := hl
  have hn : XN 0 0 (xnx σ) (xns σ) (xnx res) (xns res) σ := ⟨Nat.zero_add _, Nat.zero_add _, (r0_X22_gets (a := a) (x1 := x1) (σ := σ) hf).le.1, (r0_X22_gets (a := a) (x1 := x1) (σ := σ) hf).le.2⟩
  refine lv_aload_n hx hb dX22_gets_0 rfl (lv_at hl 0 rfl) ?_
  refine lv_dup hx hb dX22_gets_1 rfl ?_
  refine k_bind hf (fun v1 hv1 hf => ?_)
  refine x_get S hR lk_X22_21 (xgI_g hv1) dX22_gets_2 ?_
  refine lv_iconst (v := 1) hx hb dX22_gets_5 (by decide) ?_
  refine lv_iadd hx hb dX22_gets_6 ?_
  refine k_bind hf (fun σ2 hσ2 hf => ?_)
  refine x_put S hR hS pt_X22_21 rfl rfl hσ2 dX22_gets_7 (fun H locs hR hS => ?_)
  replace hn := hn.to (r0_p hσ2)
  refine lv_aload_n hx hb dX22_gets_10 rfl (lv_at hl 0 rfl) ?_
  refine k_bind hf (fun v3 hv3 hf => ?_)
  refine x_get S hR lk_X22_25 (xgR_g hv3) dX22_gets_11 ?_
  refine x_ifnonnull (r := v3) (tgt := 25) hx hb dX22_gets_14 (by decide) (fun c_14 => ?_) (fun c_14 => ?_)
  · replace hf := o_f hf c_14
    refine lv_aload_n hx hb dX22_gets_25 rfl (lv_at hl 0 rfl) ?_
    refine k_bind hf (fun v4 hv4 hf => ?_)
    refine x_get S hR lk_X22_25 (xgR_g hv4) dX22_gets_26 ?_
    refine x_aload_n (r := x1) hx hb dX22_gets_29 rfl (lv_at hl 1 rfl) ?_
    refine k_bind hf (fun a5 ha5 hf => ?_)
    rw [rf_some ha5]
    refine k_bind hf (fun σ6 hσ6 hf => ?_)
    refine x_put S hR hS pt_X22_31 (rf_nar _ _ (by decide)) (rf_fit _ _ (by decide)) hσ6 dX22_gets_30 (fun H locs hR hS => ?_)
    replace hn := hn.to (r0_p hσ6)
    exact wJX22_gets_33 S hf _ _ _ _ _ hR hS hn hl
  · replace hf := o_t hf c_14
    refine lv_aload_n hx hb dX22_gets_17 rfl (lv_at hl 0 rfl) ?_
    refine x_aload_n (r := x1) hx hb dX22_gets_18 rfl (lv_at hl 1 rfl) ?_
    refine k_bind hf (fun σ14 hσ14 hf => ?_)
    refine x_put S hR hS pt_X22_28 (rf_nar _ _ (by decide)) (rf_fit _ _ (by decide)) hσ14 dX22_gets_19 (fun H locs hR hS => ?_)
    replace hn := hn.to (r0_p hσ14)
    refine lv_goto (tgt := 33) hx hb dX22_gets_22 (by decide) ?_
    exact wJX22_gets_33 S hf _ _ _ _ _ hR hS hn hl


noncomputable def fX23_and (a : Nat) (x1 : Option Nat) (σ : xS) : Option (Option Nat × xS) :=
  (xnw σ (.inr (20, [.int 0, .long 0])) 2).bind (fun n1 => (xgI n1.2 [(20, 0)] a).bind (fun v2 => (x1).bind (fun a3 => (xgI n1.2 [(20, 0)] a3).bind (fun v4 => (xgJ n1.2 [(20, 1)] a).bind (fun v5 => (x1).bind (fun a6 => (xgJ n1.2 [(20, 1)] a6).bind (fun v7 => (fX23_init n1.1 (v2 + v4) (v5 * v7) n1.2).bind (fun e8 => some ((some n1.1), e8)))))))))
theorem wi_X23_and : wInfV yX23_and cX23_and 2 (Option.some (Jvm.ClassFile.FieldType.object "LinesTouched$Tally")) 1 := ⟨q2320, q2321, q163, q2322, (by decide +kernel), (by decide +kernel), (by decide +kernel)⟩
set_option maxHeartbeats 4000000 in
set_option maxRecDepth 100000 in
theorem r1_X23_and {a : Nat} {x1 : Option Nat} {σ : xS} {res : Option Nat × xS} (hf : fX23_and a x1 σ = some res) : rl1 σ res.2 := by
  replace hf : ((xnw σ (.inr (20, [.int 0, .long 0])) 2).bind (fun n1 => (xgI n1.2 [(20, 0)] a).bind (fun v2 => (x1).bind (fun a3 => (xgI n1.2 [(20, 0)] a3).bind (fun v4 => (xgJ n1.2 [(20, 1)] a).bind (fun v5 => (x1).bind (fun a6 => (xgJ n1.2 [(20, 1)] a6).bind (fun v7 => (fX23_init n1.1 (v2 + v4) (v5 * v7) n1.2).bind (fun e8 => some ((some n1.1), e8)))))))))) = some res := hf
  refine k_bind hf (fun n1 hn1 hf => ?_)
  refine rl1.tr (r1_nw hn1) ?_
  refine k_bind hf (fun v2 hv2 hf => ?_)
  refine k_bind hf (fun a3 ha3 hf => ?_)
  refine k_bind hf (fun v4 hv4 hf => ?_)
  refine k_bind hf (fun v5 hv5 hf => ?_)
  refine k_bind hf (fun a6 ha6 hf => ?_)
  refine k_bind hf (fun v7 hv7 hf => ?_)
  refine k_bind hf (fun e8 he8 hf => ?_)
  refine rl0.tr1 (r0_X23_init he8) ?_
  obtain rfl := Option.some.inj hf
  exact rl1.rf _
set_option maxHeartbeats 4000000 in
set_option maxRecDepth 100000 in
theorem met_X23_and {l : Launch} {E : xG} {a : Nat} {x1 : Option Nat} {σ : xS} {res : Option Nat × xS} (hf : fX23_and a x1 σ = some res) : xMet l yX23_and cX23_and 2 (Option.some (Jvm.ClassFile.FieldType.object "LinesTouched$Tally")) 2 47 E [.ref a, va_rf x1] σ (some (va_rf res.1)) res.2 := by
  replace hf : ((xnw σ (.inr (20, [.int 0, .long 0])) 2).bind (fun n1 => (xgI n1.2 [(20, 0)] a).bind (fun v2 => (x1).bind (fun a3 => (xgI n1.2 [(20, 0)] a3).bind (fun v4 => (xgJ n1.2 [(20, 1)] a).bind (fun v5 => (x1).bind (fun a6 => (xgJ n1.2 [(20, 1)] a6).bind (fun v7 => (fX23_init n1.1 (v2 + v4) (v5 * v7) n1.2).bind (fun e8 => some ((some n1.1), e8)))))))))) = some res := hf
  refine x_start (by decide) (Nat.le_of_ble_eq_true rfl) ?_
  intro p e s m args below meth c S hnm hR hS ls hl
  obtain ⟨hx, hb, hml, hown, hts⟩ := S.1.1
  have hl : lv_has ls 2 [(0, .ref a), (1, va_rf x1)] := hl
  have hn : XN 0 0 (xnx σ) (xns σ) (xnx res.2) (xns res.2) σ := ⟨Nat.zero_add _, Nat.zero_add _, (r1_X23_and (a := a) (x1 := x1) (σ := σ) hf).1, (r1_X23_and (a := a) (x1 := x1) (σ := σ) hf).2⟩
  have hb9 : XB (xnx res.2) (xns res.2) res.2 := ⟨Nat.le_refl _, Nat.le_refl _⟩
  refine k_bind hf (fun n1 hn1 hf => ?_)
  have hbn1 : XB (xnx res.2) (xns res.2) n1.2 := hb9.back (by
    refine k_bind hf (fun v2 hv2 hf => ?_)
    refine k_bind hf (fun a3 ha3 hf => ?_)
    refine k_bind hf (fun v4 hv4 hf => ?_)
    refine k_bind hf (fun v5 hv5 hf => ?_)
    refine k_bind hf (fun a6 ha6 hf => ?_)
    refine k_bind hf (fun v7 hv7 hf => ?_)
    refine k_bind hf (fun e8 he8 hf => ?_)
    refine rl0.tr1 (r0_X23_init he8) ?_
    obtain rfl := Option.some.inj hf
    exact rl1.rf _)
  refine x_newQ (T := TX23) (ty := tyX23) S hR hS hn hn1 hbn1 rfl in_X23 tyX23_ok (by decide +kernel) q2323 q2301 q163 dX23_and_0 (fun H cells slots hR hS hn => ?_)
  refine lv_dup hx hb dX23_and_3 rfl ?_
  refine lv_aload_n hx hb dX23_and_4 rfl (lv_at hl 0 rfl) ?_
  refine k_bind hf (fun v2 hv2 hf => ?_)
  refine x_get S hR lk_X23_7 (xgI_g hv2) dX23_and_5 ?_
  refine x_aload_n (r := x1) hx hb dX23_and_8 rfl (lv_at hl 1 rfl) ?_
  refine k_bind hf (fun a3 ha3 hf => ?_)
  rw [rf_some ha3]
  refine k_bind hf (fun v4 hv4 hf => ?_)
  refine x_get S hR lk_X23_7 (xgI_g hv4) dX23_and_9 ?_
  refine lv_iadd hx hb dX23_and_12 ?_
  refine lv_aload_n hx hb dX23_and_13 rfl (lv_at hl 0 rfl) ?_
  refine k_bind hf (fun v5 hv5 hf => ?_)
  refine x_get S hR lk_X23_13 (xgJ_g hv5) dX23_and_14 ?_
  refine x_aload_n (r := x1) hx hb dX23_and_17 rfl (lv_at hl 1 rfl) ?_
  refine k_bind hf (fun a6 ha6 hf => ?_)
  rw [rf_some ha6]
  refine k_bind hf (fun v7 hv7 hf => ?_)
  refine x_get S hR lk_X23_13 (xgJ_g hv7) dX23_and_18 ?_
  refine lv_lmul hx hb dX23_and_21 ?_
  refine k_bind hf (fun e8 he8 hf => ?_)
  refine x_callI (As := [.int (v2 + v4), .long (v5 * v7)]) (rest := [.ref n1.1]) S hR hS hn (met_X23_init he8) (r0_X23_init he8).le (hn.b (r0_X23_init he8)) wi_X23_init q2324 ⟨Nat.le_of_ble_eq_true rfl, Nat.le_of_ble_eq_true rfl⟩ rfl hl.1 rfl (Nat.le_of_ble_eq_true rfl) dX23_and_22 (fun H locs cells slots hR hS hn => ?_)
  obtain rfl := Option.some.inj hf
  exact x_aret (r := (some n1.1)) S (Or.inl ⟨_, rfl⟩) hR hS hn dX23_and_25


noncomputable def fX11_starts (a : Nat) (σ : xS) : Option (Unit) :=
  none

set_option maxHeartbeats 4000000 in
set_option maxRecDepth 100000 in
theorem met_X11_starts {l : Launch} {E : xG} {a : Nat} {σ : xS} {res : Unit} (hf : fX11_starts a σ = some res) : xMet l yX11_starts cX11_starts 1 (Option.none : Option Jvm.ClassFile.FieldType) 0 0 E [.ref a] σ none σ := by
  replace hf : none = some res := hf
  refine x_start (by decide) (Nat.le_of_ble_eq_true rfl) ?_
  intro p e s m args below meth c S hnm hR hS ls hl
  obtain ⟨hx, hb, hml, hown, hts⟩ := S.1.1
  have hl : lv_has ls 1 [(0, .ref a)] := hl
  have hn : XN 0 0 (xnx σ) (xns σ) (xnx σ) (xns σ) σ := ⟨Nat.zero_add _, Nat.zero_add _, (rl1.rf σ).1, (rl1.rf σ).2⟩
  refine lv_aload_n hx hb dX11_starts_0 rfl (lv_at hl 0 rfl) ?_
  refine lv_iconst (v := 0) hx hb dX11_starts_1 (by decide) ?_
  refine lv_iconst (v := 0) hx hb dX11_starts_2 (by decide) ?_
  refine lv_iconst (v := 0) hx hb dX11_starts_3 (by decide) ?_
  cases hf

theorem lk_X11_13 : ∀ q ∈ ([(1, 2)] : List (Nat × Nat)), wLkN RX11 13 q.1 q.2 := List.forall_mem_cons.mpr ⟨⟨RX1, TX1, 4, "LinesTouched", rfl, by decide, in_X1, q191⟩, fun _ h => absurd h List.not_mem_nil⟩
theorem lk_X11_29 : ∀ q ∈ ([(1, 1)] : List (Nat × Nat)), wLkN RX11 29 q.1 q.2 := List.forall_mem_cons.mpr ⟨⟨RX1, TX1, 4, "LinesTouched", rfl, by decide, in_X1, q188⟩, fun _ h => absurd h List.not_mem_nil⟩
noncomputable def fX11_goes (a : Nat) (x1 : Int32) (x2 : Int32) (x3 : Int32) (σ : xS) : Option (Unit) :=
  (xgR σ [(10, 2), (11, 2)] a).bind (fun v1 => if v1 = xT σ 2 then if x1 = (xN σ (0 : Fin 3) 2) then none else if (fX0_has x3 x1) = (0 : Int32) then (xgR σ [(10, 2), (11, 2)] a).bind (fun v2 => if v2 = xT σ 2 then (xla 1 σ 11 x1).bind (fun v3 => none) else none) else none else none)

set_option maxHeartbeats 4000000 in
set_option maxRecDepth 100000 in
theorem met_X11_goes {l : Launch} {E : xG} {a : Nat} {x1 : Int32} {x2 : Int32} {x3 : Int32} {σ : xS} {res : Unit} (hf : fX11_goes a x1 x2 x3 σ = some res) : xMet l yX11_goes cX11_goes 4 (Option.none : Option Jvm.ClassFile.FieldType) 1 21 E [.ref a, .int x1, .int x2, .int x3] σ none σ := by
  replace hf : ((xgR σ [(10, 2), (11, 2)] a).bind (fun v1 => if v1 = xT σ 2 then if x1 = (xN σ (0 : Fin 3) 2) then none else if (fX0_has x3 x1) = (0 : Int32) then (xgR σ [(10, 2), (11, 2)] a).bind (fun v2 => if v2 = xT σ 2 then (xla 1 σ 11 x1).bind (fun v3 => none) else none) else none else none)) = some res := hf
  refine x_start (by decide) (Nat.le_of_ble_eq_true rfl) ?_
  intro p e s m args below meth c S hnm hR hS ls hl
  obtain ⟨hx, hb, hml, hown, hts⟩ := S.1.1
  have hl : lv_has ls 4 [(0, .ref a), (1, .int x1), (2, .int x2), (3, .int x3)] := hl
  have hn : XN 0 0 (xnx σ) (xns σ) (xnx σ) (xns σ) σ := ⟨Nat.zero_add _, Nat.zero_add _, (rl1.rf σ).1, (rl1.rf σ).2⟩
  refine lv_iload_n hx hb dX11_goes_0 rfl (lv_at hl 1 rfl) ?_
  refine lv_aload_n hx hb dX11_goes_1 rfl (lv_at hl 0 rfl) ?_
  refine k_bind hf (fun v1 hv1 hf => ?_)
  refine x_get S hR lk_X11_7 (xgR_g hv1) dX11_goes_2 ?_
  obtain ⟨k5, hf⟩ := o_c hf
  rw [rf_net 0 hR k5]
  refine x_ngetN (j := (0 : Fin 3)) (k := 2) (v := .int (xN σ (0 : Fin 3) 2)) S hR (lk_X11_13 _ List.mem_cons_self) rfl dX11_goes_5 ?_
  refine lv_icmp_ne (tgt := 17) hx hb dX11_goes_8 (by decide) (fun c_8 => ?_) (fun c_8 => ?_)
  · replace hf := o_f hf c_8
    refine lv_iload_n hx hb dX11_goes_17 rfl (lv_at hl 3 rfl) ?_
    refine lv_iload_n hx hb dX11_goes_18 rfl (lv_at hl 1 rfl) ?_
    refine s_callN (As := [.int x3, .int x1]) (rest := []) S.1.1 S.2.2.1 (met_X0_has rfl) wi_X0_has q784 ⟨rfl, rfl⟩ ⟨Nat.le_of_ble_eq_true rfl, Nat.le_of_ble_eq_true rfl⟩ rfl hl.1 rfl (Nat.le_of_ble_eq_true rfl) dX11_goes_19 hn.cs ?_
    refine lv_if_ne (tgt := 44) hx hb dX11_goes_22 (by decide) (fun c_22 => ?_) (fun c_22 => ?_)
    · replace hf := o_f hf c_22
      refine lv_aload_n hx hb dX11_goes_44 rfl (lv_at hl 0 rfl) ?_
      refine lv_iload_n hx hb dX11_goes_45 rfl (lv_at hl 1 rfl) ?_
      refine lv_iconst (v := 1) hx hb dX11_goes_46 (by decide) ?_
      refine lv_iadd hx hb dX11_goes_47 ?_
      refine lv_iload_n hx hb dX11_goes_48 rfl (lv_at hl 2 rfl) ?_
      refine lv_iconst (v := 1) hx hb dX11_goes_49 (by decide) ?_
      refine lv_iload_n hx hb dX11_goes_50 rfl (lv_at hl 1 rfl) ?_
      refine lv_ishl hx hb dX11_goes_51 ?_
      refine lv_ior hx hb dX11_goes_52 ?_
      refine lv_iload_n hx hb dX11_goes_53 rfl (lv_at hl 3 rfl) ?_
      cases hf
    · replace hf := o_t hf c_22
      refine lv_aload_n hx hb dX11_goes_25 rfl (lv_at hl 0 rfl) ?_
      refine lv_iload_n hx hb dX11_goes_26 rfl (lv_at hl 1 rfl) ?_
      refine lv_iconst (v := 1) hx hb dX11_goes_27 (by decide) ?_
      refine lv_iadd hx hb dX11_goes_28 ?_
      refine lv_iload_n hx hb dX11_goes_29 rfl (lv_at hl 2 rfl) ?_
      refine lv_iload_n hx hb dX11_goes_30 rfl (lv_at hl 3 rfl) ?_
      refine lv_aload_n hx hb dX11_goes_31 rfl (lv_at hl 0 rfl) ?_
      refine k_bind hf (fun v2 hv2 hf => ?_)
      refine x_get S hR lk_X11_7 (xgR_g hv2) dX11_goes_32 ?_
      obtain ⟨k4, hf⟩ := o_c hf
      rw [rf_net 0 hR k4]
      refine x_ngetN (j := (0 : Fin 3)) (k := 1) (v := .ref (xar E 11)) S hR (lk_X11_29 _ List.mem_cons_self) rfl dX11_goes_35 ?_
      refine lv_iload_n hx hb dX11_goes_38 rfl (lv_at hl 1 rfl) ?_
      refine k_bind hf (fun v3 hv3 hf => ?_)
      refine x_sl1 S hR hv3 dX11_goes_39 ?_
      refine lv_ior hx hb dX11_goes_40 ?_
      cases hf
  · replace hf := o_t hf c_8
    refine lv_aload_n hx hb dX11_goes_11 rfl (lv_at hl 0 rfl) ?_
    refine lv_iload_n hx hb dX11_goes_12 rfl (lv_at hl 2 rfl) ?_
    cases hf

theorem lk_X12_19 : ∀ q ∈ ([(10, 1), (11, 1)] : List (Nat × Nat)), wLk RX12 19 q.1 q.2 := List.forall_mem_cons.mpr ⟨⟨RX13, TX13, 9, "LinesTouched$Counting", rfl, by decide, in_X13, q724, Or.inl rfl⟩, List.forall_mem_cons.mpr ⟨⟨RX14, TX14, 4, "LinesTouched$Counting", rfl, by decide, in_X14, q724, Or.inl rfl⟩, fun _ h => absurd h List.not_mem_nil⟩⟩
theorem pt_X12_19 : ∀ q ∈ ([(10, 1), (11, 1)] : List (Nat × Nat)), wLk RX12 19 q.1 q.2 ∧ wPt q.1 q.2 .int false RX12 := List.forall_mem_cons.mpr ⟨⟨⟨RX13, TX13, 9, "LinesTouched$Counting", rfl, by decide, in_X13, q724, Or.inl rfl⟩, ⟨RX13, TX13, 9, tyX13, rfl, by decide, rfl, by decide +kernel, nmX13, tyX13_ok, fun h => absurd h (by decide)⟩⟩, List.forall_mem_cons.mpr ⟨⟨⟨RX14, TX14, 4, "LinesTouched$Counting", rfl, by decide, in_X14, q724, Or.inl rfl⟩, ⟨RX14, TX14, 4, tyX14, rfl, by decide, rfl, by decide +kernel, nmX14, tyX14_ok, fun h => absurd h (by decide)⟩⟩, fun _ h => absurd h List.not_mem_nil⟩⟩
noncomputable def fX12_meets (a : Nat) (x1 : Int32) (σ : xS) : Option (xS) :=
  (xgR σ [(10, 0), (11, 0)] a).bind (fun v1 => (fX0_ones x1).bind (fun v2 => (v1).bind (fun a3 => (xdl 1 σ a3 v2).bind (fun v4 => (xds 1 σ a3 v2 (v4 + (1 : Int32))).bind (fun σ5 => (xgI σ5 [(10, 1), (11, 1)] a).bind (fun v6 => (xp σ5 [(10, 1), (11, 1)] a (.int (v6 + (1 : Int32)))).bind (fun σ7 => some σ7)))))))

set_option maxHeartbeats 4000000 in
set_option maxRecDepth 100000 in
theorem r0_X12_meets {a : Nat} {x1 : Int32} {σ : xS} {res : xS} (hf : fX12_meets a x1 σ = some res) : rl0 σ res := by
  replace hf : ((xgR σ [(10, 0), (11, 0)] a).bind (fun v1 => (fX0_ones x1).bind (fun v2 => (v1).bind (fun a3 => (xdl 1 σ a3 v2).bind (fun v4 => (xds 1 σ a3 v2 (v4 + (1 : Int32))).bind (fun σ5 => (xgI σ5 [(10, 1), (11, 1)] a).bind (fun v6 => (xp σ5 [(10, 1), (11, 1)] a (.int (v6 + (1 : Int32)))).bind (fun σ7 => some σ7)))))))) = some res := hf
  refine k_bind hf (fun v1 hv1 hf => ?_)
  refine k_bind hf (fun v2 hv2 hf => ?_)
  refine k_bind hf (fun a3 ha3 hf => ?_)
  refine k_bind hf (fun v4 hv4 hf => ?_)
  refine k_bind hf (fun σ5 hσ5 hf => ?_)
  refine rl0.tr (r0_ds hσ5) ?_
  refine k_bind hf (fun v6 hv6 hf => ?_)
  refine k_bind hf (fun σ7 hσ7 hf => ?_)
  refine rl0.tr (r0_p hσ7) ?_
  obtain rfl := Option.some.inj hf
  exact rl0.rf _
set_option maxHeartbeats 4000000 in
set_option maxRecDepth 100000 in
theorem met_X12_meets {l : Launch} {E : xG} {a : Nat} {x1 : Int32} {σ : xS} {res : xS} (hf : fX12_meets a x1 σ = some res) : xMet l yX12_meets cX12_meets 2 (Option.none : Option Jvm.ClassFile.FieldType) 2 40 E [.ref a, .int x1] σ none res := by
  replace hf : ((xgR σ [(10, 0), (11, 0)] a).bind (fun v1 => (fX0_ones x1).bind (fun v2 => (v1).bind (fun a3 => (xdl 1 σ a3 v2).bind (fun v4 => (xds 1 σ a3 v2 (v4 + (1 : Int32))).bind (fun σ5 => (xgI σ5 [(10, 1), (11, 1)] a).bind (fun v6 => (xp σ5 [(10, 1), (11, 1)] a (.int (v6 + (1 : Int32)))).bind (fun σ7 => some σ7)))))))) = some res := hf
  refine x_start (by decide) (Nat.le_of_ble_eq_true rfl) ?_
  intro p e s m args below meth c S hnm hR hS ls hl
  obtain ⟨hx, hb, hml, hown, hts⟩ := S.1.1
  have hl : lv_has ls 2 [(0, .ref a), (1, .int x1)] := hl
  have hn : XN 0 0 (xnx σ) (xns σ) (xnx res) (xns res) σ := ⟨Nat.zero_add _, Nat.zero_add _, (r0_X12_meets (a := a) (x1 := x1) (σ := σ) hf).le.1, (r0_X12_meets (a := a) (x1 := x1) (σ := σ) hf).le.2⟩
  refine lv_aload_n hx hb dX12_meets_0 rfl (lv_at hl 0 rfl) ?_
  refine k_bind hf (fun v1 hv1 hf => ?_)
  refine x_get S hR lk_X12_9 (xgR_g hv1) dX12_meets_1 ?_
  refine lv_iload_n hx hb dX12_meets_4 rfl (lv_at hl 1 rfl) ?_
  refine k_bind hf (fun v2 hv2 hf => ?_)
  refine s_callN (As := [.int x1]) (rest := [va_rf v1]) S.1.1 S.2.2.1 (met_X0_ones hv2) wi_X0_ones q767 ⟨rfl, rfl⟩ ⟨Nat.le_of_ble_eq_true rfl, Nat.le_of_ble_eq_true rfl⟩ rfl hl.1 rfl (by simp only [List.map_cons, List.map_nil, rf_cat]; exact Nat.le_of_ble_eq_true rfl) dX12_meets_5 hn.cs ?_
  refine lv_dup2_11 hx hb dX12_meets_8 rfl (rf_cat _) ?_
  refine k_bind hf (fun a3 ha3 hf => ?_)
  rw [rf_some ha3]
  refine k_bind hf (fun v4 hv4 hf => ?_)
  refine x_dl1 S hR hv4 dX12_meets_9 ?_
  refine lv_iconst (v := 1) hx hb dX12_meets_10 (by decide) ?_
  refine lv_iadd hx hb dX12_meets_11 ?_
  refine k_bind hf (fun σ5 hσ5 hf => ?_)
  refine x_ds1 S hR hS hσ5 dX12_meets_12 (fun H locs hR hS => ?_)
  replace hn := hn.to (r0_ds hσ5)
  refine lv_aload_n hx hb dX12_meets_13 rfl (lv_at hl 0 rfl) ?_
  refine lv_dup hx hb dX12_meets_14 rfl ?_
  refine k_bind hf (fun v6 hv6 hf => ?_)
  refine x_get S hR lk_X12_19 (xgI_g hv6) dX12_meets_15 ?_
  refine lv_iconst (v := 1) hx hb dX12_meets_18 (by decide) ?_
  refine lv_iadd hx hb dX12_meets_19 ?_
  refine k_bind hf (fun σ7 hσ7 hf => ?_)
  refine x_put S hR hS pt_X12_19 rfl rfl hσ7 dX12_meets_20 (fun H locs hR hS => ?_)
  replace hn := hn.to (r0_p hσ7)
  obtain rfl := Option.some.inj hf
  exact x_vret S hR hS hn dX12_meets_23


noncomputable def fX13_meets (a : Nat) (x1 : Int32) (σ : xS) : Option (Unit) :=
  none

set_option maxHeartbeats 4000000 in
set_option maxRecDepth 100000 in
theorem met_X13_meets {l : Launch} {E : xG} {a : Nat} {x1 : Int32} {σ : xS} {res : Unit} (hf : fX13_meets a x1 σ = some res) : xMet l yX13_meets cX13_meets 4 (Option.none : Option Jvm.ClassFile.FieldType) 1 24 E [.ref a, .int x1] σ none σ := by
  replace hf : none = some res := hf
  refine x_start (by decide) (Nat.le_of_ble_eq_true rfl) ?_
  intro p e s m args below meth c S hnm hR hS ls hl
  obtain ⟨hx, hb, hml, hown, hts⟩ := S.1.1
  have hl : lv_has ls 4 [(0, .ref a), (1, .int x1)] := hl
  have hn : XN 0 0 (xnx σ) (xns σ) (xnx σ) (xns σ) σ := ⟨Nat.zero_add _, Nat.zero_add _, (rl1.rf σ).1, (rl1.rf σ).2⟩
  refine lv_aload_n hx hb dX13_meets_0 rfl (lv_at hl 0 rfl) ?_
  refine lv_iload_n hx hb dX13_meets_1 rfl (lv_at hl 1 rfl) ?_
  cases hf


noncomputable def fX14_meets (a : Nat) (x1 : Int32) (σ : xS) : Option (Unit) :=
  (xgR σ [(11, 3)] a).bind (fun v1 => none)

set_option maxHeartbeats 4000000 in
set_option maxRecDepth 100000 in
theorem met_X14_meets {l : Launch} {E : xG} {a : Nat} {x1 : Int32} {σ : xS} {res : Unit} (hf : fX14_meets a x1 σ = some res) : xMet l yX14_meets cX14_meets 2 (Option.none : Option Jvm.ClassFile.FieldType) 0 0 E [.ref a, .int x1] σ none σ := by
  replace hf : ((xgR σ [(11, 3)] a).bind (fun v1 => none)) = some res := hf
  refine x_start (by decide) (Nat.le_of_ble_eq_true rfl) ?_
  intro p e s m args below meth c S hnm hR hS ls hl
  obtain ⟨hx, hb, hml, hown, hts⟩ := S.1.1
  have hl : lv_has ls 2 [(0, .ref a), (1, .int x1)] := hl
  have hn : XN 0 0 (xnx σ) (xns σ) (xnx σ) (xns σ) σ := ⟨Nat.zero_add _, Nat.zero_add _, (rl1.rf σ).1, (rl1.rf σ).2⟩
  refine lv_aload_n hx hb dX14_meets_0 rfl (lv_at hl 0 rfl) ?_
  refine k_bind hf (fun v1 hv1 hf => ?_)
  refine x_get S hR lk_X14_7 (xgR_g hv1) dX14_meets_1 ?_
  refine lv_iload_n hx hb dX14_meets_4 rfl (lv_at hl 1 rfl) ?_
  cases hf


noncomputable def fX20_init (a : Nat) (x1 : Option Nat) (x2 : Int32) (σ : xS) : Option (xS) :=
  (xna σ 14 (6 : Int32)).bind (fun n1 => none)
theorem wi_X20_init : wInfI yX20_init cX20_init 3 2 := ⟨q2125, q159, q2126, rfl, (by decide +kernel), (by decide +kernel), (by decide +kernel)⟩
set_option maxHeartbeats 4000000 in
set_option maxRecDepth 100000 in
theorem r1_X20_init {a : Nat} {x1 : Option Nat} {x2 : Int32} {σ : xS} {res : xS} (hf : fX20_init a x1 x2 σ = some res) : rl1 σ res := by
  replace hf : ((xna σ 14 (6 : Int32)).bind (fun n1 => none)) = some res := hf
  refine k_bind hf (fun n1 hn1 hf => ?_)
  refine rl1.tr (r1_na hn1) ?_
  cases hf
set_option maxHeartbeats 4000000 in
set_option maxRecDepth 100000 in
theorem met_X20_init {l : Launch} {E : xG} {a : Nat} {x1 : Option Nat} {x2 : Int32} {σ : xS} {res : xS} (hf : fX20_init a x1 x2 σ = some res) : xMet l yX20_init cX20_init 3 (Option.none : Option Jvm.ClassFile.FieldType) 1 24 E [.ref a, va_rf x1, .int x2] σ none res := by
  replace hf : ((xna σ 14 (6 : Int32)).bind (fun n1 => none)) = some res := hf
  refine x_start (by decide) (Nat.le_of_ble_eq_true rfl) ?_
  intro p e s m args below meth c S hnm hR hS ls hl
  obtain ⟨hx, hb, hml, hown, hts⟩ := S.1.1
  have hl : lv_has ls 3 [(0, .ref a), (1, va_rf x1), (2, .int x2)] := hl
  have hn : XN 0 0 (xnx σ) (xns σ) (xnx res) (xns res) σ := ⟨Nat.zero_add _, Nat.zero_add _, (r1_X20_init (a := a) (x1 := x1) (x2 := x2) (σ := σ) hf).1, (r1_X20_init (a := a) (x1 := x1) (x2 := x2) (σ := σ) hf).2⟩
  have hb9 : XB (xnx res) (xns res) res := ⟨Nat.le_refl _, Nat.le_refl _⟩
  refine lv_aload_n hx hb dX20_init_0 rfl (lv_at hl 0 rfl) ?_
  refine W.objInit hx hb hown (hts _ q2127) (hts _ q175) (hts _ q176) rfl (by rw [hml]; exact hl.1) rfl dX20_init_1 (Nat.le_of_ble_eq_true rfl) (Nat.le_of_ble_eq_true rfl) ?_
  refine lv_aload_n hx hb dX20_init_4 rfl (lv_at hl 0 rfl) ?_
  refine lv_bipush (v := 6) hx hb dX20_init_5 (by decide) ?_
  refine k_bind hf (fun n1 hn1 hf => ?_)
  have hbn1 : XB (xnx res) (xns res) n1.2 := hb9.back (by
    cases hf)
  refine x_newr (t := 14) S hR hS hn hn1 hbn1 rfl (by decide) (by decide) q2128 (S.2.2.1.over q2129 rfl) dX20_init_7 (fun H cells slots hR hS hn => ?_)
  refine lv_dup hx hb dX20_init_10 rfl ?_
  refine lv_iconst (v := 0) hx hb dX20_init_11 (by decide) ?_
  cases hf

theorem lk_X20_43 : ∀ q ∈ ([(17, 6)] : List (Nat × Nat)), wLk RX20 43 q.1 q.2 := List.forall_mem_cons.mpr ⟨⟨RX20, TX20, 9, "LinesTouched$Reader", rfl, by decide, in_X20, q2146, Or.inl rfl⟩, fun _ h => absurd h List.not_mem_nil⟩
theorem lk_X20_39 : ∀ q ∈ ([(17, 2)] : List (Nat × Nat)), wLk RX20 39 q.1 q.2 := List.forall_mem_cons.mpr ⟨⟨RX20, TX20, 9, "LinesTouched$Reader", rfl, by decide, in_X20, q2140, Or.inl rfl⟩, fun _ h => absurd h List.not_mem_nil⟩
theorem lk_X20_35 : ∀ q ∈ ([(17, 1)] : List (Nat × Nat)), wLk RX20 35 q.1 q.2 := List.forall_mem_cons.mpr ⟨⟨RX20, TX20, 9, "LinesTouched$Reader", rfl, by decide, in_X20, q2139, Or.inl rfl⟩, fun _ h => absurd h List.not_mem_nil⟩
noncomputable def fX20_isIn (a : Nat) (x1 : Int32) (x2 : Int32) (σ : xS) : Option (Int32) :=
  (xgI σ [(17, 6)] a).bind (fun v1 => (xgI σ [(17, 2)] a).bind (fun v2 => if v2 ≤ v1 then some (0 : Int32) else (xgR σ [(17, 1)] a).bind (fun v3 => (xgI σ [(17, 6)] a).bind (fun v4 => if v3 = xT σ 6 then (xla 2 σ 7 v4).bind (fun v5 => if (fX0_in v5 x1 x2) = (0 : Int32) then some (0 : Int32) else some (1 : Int32)) else none))))
theorem wi_X20_isIn : wInfV yX20_isIn cX20_isIn 3 (Option.some Jvm.ClassFile.FieldType.boolean) 2 := ⟨q2178, qs43, q159, q2179, (by decide +kernel), (by decide +kernel), (by decide +kernel)⟩
set_option maxHeartbeats 4000000 in
set_option maxRecDepth 100000 in
theorem met_X20_isIn {l : Launch} {E : xG} {a : Nat} {x1 : Int32} {x2 : Int32} {σ : xS} {res : Int32} (hf : fX20_isIn a x1 x2 σ = some res) : xMet l yX20_isIn cX20_isIn 3 (Option.some Jvm.ClassFile.FieldType.boolean) 1 22 E [.ref a, .int x1, .int x2] σ (some (.int res)) σ := by
  replace hf : ((xgI σ [(17, 6)] a).bind (fun v1 => (xgI σ [(17, 2)] a).bind (fun v2 => if v2 ≤ v1 then some (0 : Int32) else (xgR σ [(17, 1)] a).bind (fun v3 => (xgI σ [(17, 6)] a).bind (fun v4 => if v3 = xT σ 6 then (xla 2 σ 7 v4).bind (fun v5 => if (fX0_in v5 x1 x2) = (0 : Int32) then some (0 : Int32) else some (1 : Int32)) else none))))) = some res := hf
  refine x_start (by decide) (Nat.le_of_ble_eq_true rfl) ?_
  intro p e s m args below meth c S hnm hR hS ls hl
  obtain ⟨hx, hb, hml, hown, hts⟩ := S.1.1
  have hl : lv_has ls 3 [(0, .ref a), (1, .int x1), (2, .int x2)] := hl
  have hn : XN 0 0 (xnx σ) (xns σ) (xnx σ) (xns σ) σ := ⟨Nat.zero_add _, Nat.zero_add _, (rl1.rf σ).1, (rl1.rf σ).2⟩
  refine lv_aload_n hx hb dX20_isIn_0 rfl (lv_at hl 0 rfl) ?_
  refine k_bind hf (fun v1 hv1 hf => ?_)
  refine x_get S hR lk_X20_43 (xgI_g hv1) dX20_isIn_1 ?_
  refine lv_aload_n hx hb dX20_isIn_4 rfl (lv_at hl 0 rfl) ?_
  refine k_bind hf (fun v2 hv2 hf => ?_)
  refine x_get S hR lk_X20_39 (xgI_g hv2) dX20_isIn_5 ?_
  refine lv_icmp_ge (tgt := 32) hx hb dX20_isIn_8 (by decide) (fun c_8 => ?_) (fun c_8 => ?_)
  · replace hf := o_t hf c_8
    refine lv_iconst (v := 0) hx hb dX20_isIn_32 (by decide) ?_
    obtain rfl := Option.some.inj hf
    exact x_iret S hR hS hn rfl dX20_isIn_33
  · replace hf := o_f hf c_8
    refine lv_aload_n hx hb dX20_isIn_11 rfl (lv_at hl 0 rfl) ?_
    refine k_bind hf (fun v3 hv3 hf => ?_)
    refine x_get S hR lk_X20_35 (xgR_g hv3) dX20_isIn_12 ?_
    refine lv_aload_n hx hb dX20_isIn_15 rfl (lv_at hl 0 rfl) ?_
    refine k_bind hf (fun v4 hv4 hf => ?_)
    refine x_get S hR lk_X20_43 (xgI_g hv4) dX20_isIn_16 ?_
    obtain ⟨k6, hf⟩ := o_c hf
    rw [rf_tape hR k6]
    refine k_bind hf (fun v5 hv5 hf => ?_)
    refine x_sl2 S hR hv5 dX20_isIn_19 ?_
    refine lv_iload_n hx hb dX20_isIn_20 rfl (lv_at hl 1 rfl) ?_
    refine lv_iload_n hx hb dX20_isIn_21 rfl (lv_at hl 2 rfl) ?_
    refine s_callN (As := [.int v5, .int x1, .int x2]) (rest := []) S.1.1 S.2.2.1 (met_X0_in rfl) wi_X0_in q2180 ⟨rfl, rfl⟩ ⟨Nat.le_of_ble_eq_true rfl, Nat.le_of_ble_eq_true rfl⟩ rfl hl.1 rfl (Nat.le_of_ble_eq_true rfl) dX20_isIn_22 hn.cs ?_
    refine lv_if_eq (tgt := 32) hx hb dX20_isIn_25 (by decide) (fun c_25 => ?_) (fun c_25 => ?_)
    · replace hf := o_t hf c_25
      refine lv_iconst (v := 0) hx hb dX20_isIn_32 (by decide) ?_
      obtain rfl := Option.some.inj hf
      exact x_iret S hR hS hn rfl dX20_isIn_33
    · replace hf := o_f hf c_25
      refine lv_iconst (v := 1) hx hb dX20_isIn_28 (by decide) ?_
      refine lv_goto (tgt := 33) hx hb dX20_isIn_29 (by decide) ?_
      obtain rfl := Option.some.inj hf
      exact x_iret S hR hS hn rfl dX20_isIn_33


noncomputable def fX20_here (a : Nat) (σ : xS) : Option (Int32) :=
  (xgI σ [(17, 6)] a).bind (fun v1 => (xgI σ [(17, 2)] a).bind (fun v2 => if v2 ≤ v1 then some (-1 : Int32) else (xgR σ [(17, 1)] a).bind (fun v3 => (xgI σ [(17, 6)] a).bind (fun v4 => if v3 = xT σ 6 then (xla 2 σ 7 v4).bind (fun v5 => some v5) else none))))
theorem wi_X20_here : wInfV yX20_here cX20_here 1 (Option.some Jvm.ClassFile.FieldType.int) 0 := ⟨q2183, qs44, q159, q2184, (by decide +kernel), (by decide +kernel), (by decide +kernel)⟩
set_option maxHeartbeats 4000000 in
set_option maxRecDepth 100000 in
theorem met_X20_here {l : Launch} {E : xG} {a : Nat} {σ : xS} {res : Int32} (hf : fX20_here a σ = some res) : xMet l yX20_here cX20_here 1 (Option.some Jvm.ClassFile.FieldType.int) 0 0 E [.ref a] σ (some (.int res)) σ := by
  replace hf : ((xgI σ [(17, 6)] a).bind (fun v1 => (xgI σ [(17, 2)] a).bind (fun v2 => if v2 ≤ v1 then some (-1 : Int32) else (xgR σ [(17, 1)] a).bind (fun v3 => (xgI σ [(17, 6)] a).bind (fun v4 => if v3 = xT σ 6 then (xla 2 σ 7 v4).bind (fun v5 => some v5) else none))))) = some res := hf
  refine x_start (by decide) (Nat.le_of_ble_eq_true rfl) ?_
  intro p e s m args below meth c S hnm hR hS ls hl
  obtain ⟨hx, hb, hml, hown, hts⟩ := S.1.1
  have hl : lv_has ls 1 [(0, .ref a)] := hl
  have hn : XN 0 0 (xnx σ) (xns σ) (xnx σ) (xns σ) σ := ⟨Nat.zero_add _, Nat.zero_add _, (rl1.rf σ).1, (rl1.rf σ).2⟩
  refine lv_aload_n hx hb dX20_here_0 rfl (lv_at hl 0 rfl) ?_
  refine k_bind hf (fun v1 hv1 hf => ?_)
  refine x_get S hR lk_X20_43 (xgI_g hv1) dX20_here_1 ?_
  refine lv_aload_n hx hb dX20_here_4 rfl (lv_at hl 0 rfl) ?_
  refine k_bind hf (fun v2 hv2 hf => ?_)
  refine x_get S hR lk_X20_39 (xgI_g hv2) dX20_here_5 ?_
  refine lv_icmp_ge (tgt := 23) hx hb dX20_here_8 (by decide) (fun c_8 => ?_) (fun c_8 => ?_)
  · replace hf := o_t hf c_8
    refine lv_iconst (v := -1) hx hb dX20_here_23 (by decide) ?_
    obtain rfl := Option.some.inj hf
    exact x_iret S hR hS hn rfl dX20_here_24
  · replace hf := o_f hf c_8
    refine lv_aload_n hx hb dX20_here_11 rfl (lv_at hl 0 rfl) ?_
    refine k_bind hf (fun v3 hv3 hf => ?_)
    refine x_get S hR lk_X20_35 (xgR_g hv3) dX20_here_12 ?_
    refine lv_aload_n hx hb dX20_here_15 rfl (lv_at hl 0 rfl) ?_
    refine k_bind hf (fun v4 hv4 hf => ?_)
    refine x_get S hR lk_X20_43 (xgI_g hv4) dX20_here_16 ?_
    obtain ⟨k6, hf⟩ := o_c hf
    rw [rf_tape hR k6]
    refine k_bind hf (fun v5 hv5 hf => ?_)
    refine x_sl2 S hR hv5 dX20_here_19 ?_
    refine lv_goto (tgt := 24) hx hb dX20_here_20 (by decide) ?_
    obtain rfl := Option.some.inj hf
    exact x_iret S hR hS hn rfl dX20_here_24
