/-! the component, walked: X21_init X20_need X20_isWord X17_init X18_init J1_hashCode_2 J1_hashCode J1_compareTo J1_compare J1_compareTo_2 J1_numberOfLeadingZeros J1_equals J1_intValue J1_init J1_valueOf J2_numberOfLeadingZeros J2_numberOfTrailingZeros -/

noncomputable def fX21_init (a : Nat) (x1 : Int32) (σ : xS) : Option (Unit) :=
  none
theorem wi_X21_init : wInfI yX21_init cX21_init 2 1 := ⟨q2203, q160, q2204, rfl, (by decide +kernel), (by decide +kernel), (by decide +kernel)⟩
set_option maxHeartbeats 4000000 in
set_option maxRecDepth 100000 in
theorem met_X21_init {l : Launch} {E : xG} {a : Nat} {x1 : Int32} {σ : xS} {res : Unit} (hf : fX21_init a x1 σ = some res) : xMet l yX21_init cX21_init 2 (Option.none : Option Jvm.ClassFile.FieldType) 1 24 E [.ref a, .int x1] σ none σ := by
  replace hf : none = some res := hf
  refine x_start (by decide) (Nat.le_of_ble_eq_true rfl) ?_
  intro p e s m args below meth c S hnm hR hS ls hl
  obtain ⟨hx, hb, hml, hown, hts⟩ := S.1.1
  have hl : lv_has ls 2 [(0, .ref a), (1, .int x1)] := hl
  have hn : XN 0 0 (xnx σ) (xns σ) (xnx σ) (xns σ) σ := ⟨Nat.zero_add _, Nat.zero_add _, (rl1.rf σ).1, (rl1.rf σ).2⟩
  refine lv_aload_n hx hb dX21_init_0 rfl (lv_at hl 0 rfl) ?_
  refine lv_null hx hb dX21_init_1 ?_
  refine lv_null hx hb dX21_init_2 ?_
  refine lv_iconst (v := 0) hx hb dX21_init_3 (by decide) ?_
  refine lv_iconst (v := 0) hx hb dX21_init_4 (by decide) ?_
  cases hf

theorem lk_X20_54 : ∀ q ∈ ([(17, 7)] : List (Nat × Nat)), wLk RX20 54 q.1 q.2 := List.forall_mem_cons.mpr ⟨⟨RX20, TX20, 9, "LinesTouched$Reader", rfl, by decide, in_X20, q2147, Or.inl rfl⟩, fun _ h => absurd h List.not_mem_nil⟩
noncomputable def fX20_need (a : Nat) (x1 : Int32) (σ : xS) : Option (xS) :=
  if x1 = (0 : Int32) then (xnw σ (.inr (18, [.null, .null, .null, .null, .null, .int 0, .int 0])) 7).bind (fun n1 => (xgI n1.2 [(17, 7)] a).bind (fun v2 => (fX21_init n1.1 v2 n1.2).bind (fun v3 => none))) else some σ
theorem wi_X20_need : wInfV yX20_need cX20_need 2 (Option.none : Option Jvm.ClassFile.FieldType) 1 := ⟨q2191, qs46, q159, q2192, (by decide +kernel), (by decide +kernel), (by decide +kernel)⟩
set_option maxHeartbeats 4000000 in
set_option maxRecDepth 100000 in
theorem r1_X20_need {a : Nat} {x1 : Int32} {σ : xS} {res : xS} (hf : fX20_need a x1 σ = some res) : rl1 σ res := by
  replace hf : (if x1 = (0 : Int32) then (xnw σ (.inr (18, [.null, .null, .null, .null, .null, .int 0, .int 0])) 7).bind (fun n1 => (xgI n1.2 [(17, 7)] a).bind (fun v2 => (fX21_init n1.1 v2 n1.2).bind (fun v3 => none))) else some σ) = some res := hf
  by_cases c0 : x1 = (0 : Int32)
  · replace hf := o_t hf c0
    refine k_bind hf (fun n1 hn1 hf => ?_)
    refine rl1.tr (r1_nw hn1) ?_
    refine k_bind hf (fun v2 hv2 hf => ?_)
    refine k_bind hf (fun v3 hv3 hf => ?_)
    cases hf
  · replace hf := o_f hf c0
    obtain rfl := Option.some.inj hf
    exact rl1.rf _
set_option maxHeartbeats 4000000 in
set_option maxRecDepth 100000 in
theorem met_X20_need {l : Launch} {E : xG} {a : Nat} {x1 : Int32} {σ : xS} {res : xS} (hf : fX20_need a x1 σ = some res) : xMet l yX20_need cX20_need 2 (Option.none : Option Jvm.ClassFile.FieldType) 2 45 E [.ref a, .int x1] σ none res := by
  replace hf : (if x1 = (0 : Int32) then (xnw σ (.inr (18, [.null, .null, .null, .null, .null, .int 0, .int 0])) 7).bind (fun n1 => (xgI n1.2 [(17, 7)] a).bind (fun v2 => (fX21_init n1.1 v2 n1.2).bind (fun v3 => none))) else some σ) = some res := hf
  refine x_start (by decide) (Nat.le_of_ble_eq_true rfl) ?_
  intro p e s m args below meth c S hnm hR hS ls hl
  obtain ⟨hx, hb, hml, hown, hts⟩ := S.1.1
  have hl : lv_has ls 2 [(0, .ref a), (1, .int x1)] := hl
  have hn : XN 0 0 (xnx σ) (xns σ) (xnx res) (xns res) σ := ⟨Nat.zero_add _, Nat.zero_add _, (r1_X20_need (a := a) (x1 := x1) (σ := σ) hf).1, (r1_X20_need (a := a) (x1 := x1) (σ := σ) hf).2⟩
  have hb9 : XB (xnx res) (xns res) res := ⟨Nat.le_refl _, Nat.le_refl _⟩
  refine lv_iload_n hx hb dX20_need_0 rfl (lv_at hl 1 rfl) ?_
  refine lv_if_ne (tgt := 16) hx hb dX20_need_1 (by decide) (fun c_1 => ?_) (fun c_1 => ?_)
  · replace hf := o_f hf c_1
    obtain rfl := Option.some.inj hf
    exact x_vret S hR hS hn dX20_need_16
  · replace hf := o_t hf c_1
    refine k_bind hf (fun n1 hn1 hf => ?_)
    have hbn1 : XB (xnx res) (xns res) n1.2 := hb9.back (by
      refine k_bind hf (fun v2 hv2 hf => ?_)
      refine k_bind hf (fun v3 hv3 hf => ?_)
      cases hf)
    refine x_newQ (T := TX21) (ty := tyX21) S hR hS hn hn1 hbn1 rfl in_X21 tyX21_ok (by decide +kernel) q2193 q2194 q160 dX20_need_4 (fun H cells slots hR hS hn => ?_)
    refine lv_dup hx hb dX20_need_7 rfl ?_
    refine lv_aload_n hx hb dX20_need_8 rfl (lv_at hl 0 rfl) ?_
    refine k_bind hf (fun v2 hv2 hf => ?_)
    refine x_get S hR lk_X20_54 (xgI_g hv2) dX20_need_9 ?_
    refine k_bind hf (fun v3 hv3 hf => ?_)
    refine x_callI (As := [.int v2]) (rest := [.ref n1.1]) S hR hS hn (met_X21_init hv3) (rl1.rf _) (hn.b (rl0.rf _)) wi_X21_init q2202 ⟨Nat.le_of_ble_eq_true rfl, Nat.le_of_ble_eq_true rfl⟩ rfl hl.1 rfl (Nat.le_of_ble_eq_true rfl) dX20_need_12 (fun H locs cells slots hR hS hn => ?_)
    cases hf


noncomputable def fX20_isWord (a : Nat) (x1 : Option Nat) (σ : xS) : Option (Int32) :=
  (xgI σ [(17, 6)] a).bind (fun v1 => (xgI σ [(17, 7)] a).bind (fun v2 => none))
theorem wi_X20_isWord : wInfV yX20_isWord cX20_isWord 4 (Option.some Jvm.ClassFile.FieldType.boolean) 1 := ⟨q2218, qs48, q159, q2219, (by decide +kernel), (by decide +kernel), (by decide +kernel)⟩
set_option maxHeartbeats 4000000 in
set_option maxRecDepth 100000 in
theorem met_X20_isWord {l : Launch} {E : xG} {a : Nat} {x1 : Option Nat} {σ : xS} {res : Int32} (hf : fX20_isWord a x1 σ = some res) : xMet l yX20_isWord cX20_isWord 4 (Option.some Jvm.ClassFile.FieldType.boolean) 0 0 E [.ref a, va_rf x1] σ (some (.int res)) σ := by
  replace hf : ((xgI σ [(17, 6)] a).bind (fun v1 => (xgI σ [(17, 7)] a).bind (fun v2 => none))) = some res := hf
  refine x_start (by decide) (Nat.le_of_ble_eq_true rfl) ?_
  intro p e s m args below meth c S hnm hR hS ls hl
  obtain ⟨hx, hb, hml, hown, hts⟩ := S.1.1
  have hl : lv_has ls 4 [(0, .ref a), (1, va_rf x1)] := hl
  have hn : XN 0 0 (xnx σ) (xns σ) (xnx σ) (xns σ) σ := ⟨Nat.zero_add _, Nat.zero_add _, (rl1.rf σ).1, (rl1.rf σ).2⟩
  refine lv_aload_n hx hb dX20_isWord_0 rfl (lv_at hl 0 rfl) ?_
  refine k_bind hf (fun v1 hv1 hf => ?_)
  refine x_get S hR lk_X20_43 (xgI_g hv1) dX20_isWord_1 ?_
  refine lv_aload_n hx hb dX20_isWord_4 rfl (lv_at hl 0 rfl) ?_
  refine k_bind hf (fun v2 hv2 hf => ?_)
  refine x_get S hR lk_X20_54 (xgI_g hv2) dX20_isWord_5 ?_
  refine lv_isub hx hb dX20_isWord_8 ?_
  refine x_aload_n (r := x1) hx hb dX20_isWord_9 rfl (lv_at hl 1 rfl) ?_
  cases hf


noncomputable def fX17_init (a : Nat) (x1 : Int32) (σ : xS) : Option (Unit) :=
  none
theorem wi_X17_init : wInfI yX17_init cX17_init 2 1 := ⟨q1683, q144, q1684, rfl, (by decide +kernel), (by decide +kernel), (by decide +kernel)⟩
set_option maxHeartbeats 4000000 in
set_option maxRecDepth 100000 in
theorem met_X17_init {l : Launch} {E : xG} {a : Nat} {x1 : Int32} {σ : xS} {res : Unit} (hf : fX17_init a x1 σ = some res) : xMet l yX17_init cX17_init 2 (Option.none : Option Jvm.ClassFile.FieldType) 1 24 E [.ref a, .int x1] σ none σ := by
  replace hf : none = some res := hf
  refine x_start (by decide) (Nat.le_of_ble_eq_true rfl) ?_
  intro p e s m args below meth c S hnm hR hS ls hl
  obtain ⟨hx, hb, hml, hown, hts⟩ := S.1.1
  have hl : lv_has ls 2 [(0, .ref a), (1, .int x1)] := hl
  have hn : XN 0 0 (xnx σ) (xns σ) (xnx σ) (xns σ) σ := ⟨Nat.zero_add _, Nat.zero_add _, (rl1.rf σ).1, (rl1.rf σ).2⟩
  refine lv_aload_n hx hb dX17_init_0 rfl (lv_at hl 0 rfl) ?_
  refine lv_null hx hb dX17_init_1 ?_
  refine lv_null hx hb dX17_init_2 ?_
  refine lv_iconst (v := 0) hx hb dX17_init_3 (by decide) ?_
  refine lv_iconst (v := 0) hx hb dX17_init_4 (by decide) ?_
  cases hf


noncomputable def fX18_init (a : Nat) (σ : xS) : Option (Unit) :=
  none
theorem wi_X18_init : wInfI yX18_init cX18_init 1 0 := ⟨q1791, q148, q1792, rfl, (by decide +kernel), (by decide +kernel), (by decide +kernel)⟩
set_option maxHeartbeats 4000000 in
set_option maxRecDepth 100000 in
theorem met_X18_init {l : Launch} {E : xG} {a : Nat} {σ : xS} {res : Unit} (hf : fX18_init a σ = some res) : xMet l yX18_init cX18_init 1 (Option.none : Option Jvm.ClassFile.FieldType) 1 24 E [.ref a] σ none σ := by
  replace hf : none = some res := hf
  refine x_start (by decide) (Nat.le_of_ble_eq_true rfl) ?_
  intro p e s m args below meth c S hnm hR hS ls hl
  obtain ⟨hx, hb, hml, hown, hts⟩ := S.1.1
  have hl : lv_has ls 1 [(0, .ref a)] := hl
  have hn : XN 0 0 (xnx σ) (xns σ) (xnx σ) (xns σ) σ := ⟨Nat.zero_add _, Nat.zero_add _, (rl1.rf σ).1, (rl1.rf σ).2⟩
  refine lv_aload_n hx hb dX18_init_0 rfl (lv_at hl 0 rfl) ?_
  refine lv_null hx hb dX18_init_1 ?_
  refine lv_null hx hb dX18_init_2 ?_
  refine lv_iconst (v := 0) hx hb dX18_init_3 (by decide) ?_
  refine lv_iconst (v := 0) hx hb dX18_init_4 (by decide) ?_
  cases hf


noncomputable def fJ1_hashCode_2 (x0 : Int32) : Int32 :=
  x0
theorem wi_J1_hashCode_2 : wInfS yJ1_hashCode_2 cJ1_hashCode_2 1 (Option.some Jvm.ClassFile.FieldType.int) 1 := ⟨q920, q109, q921, (by decide +kernel), (by decide +kernel), (by decide +kernel)⟩
set_option maxHeartbeats 4000000 in
set_option maxRecDepth 100000 in
theorem met_J1_hashCode_2 {l : Launch} {x0 : Int32} {res : Int32} (hf : fJ1_hashCode_2 x0 = res) : sMet l yJ1_hashCode_2 cJ1_hashCode_2 1 (Option.some Jvm.ClassFile.FieldType.int) (mRm 0 0) [.int x0] (some (.int res)) := by
  replace hf : x0 = res := hf
  refine s_start (by decide) (Nat.le_of_ble_eq_true rfl) ?_
  intro p e s m args below meth c S ls hl
  obtain ⟨hx, hb, hml, hown, hts⟩ := S.1
  have hl : lv_has ls 1 [(0, .int x0)] := hl
  refine lv_iload_n hx hb dJ1_hashCode_2_0 rfl (lv_at hl 0 rfl) ?_
  subst hf
  exact s_iret S rfl dJ1_hashCode_2_1

theorem lk_J1_205 : ∀ q ∈ ([(22, 0)] : List (Nat × Nat)), wLk RJ1 205 q.1 q.2 := List.forall_mem_cons.mpr ⟨⟨RJ1, TJ1, 1, "java/lang/Integer", rfl, by decide, in_J1, q1858, Or.inl rfl⟩, fun _ h => absurd h List.not_mem_nil⟩
noncomputable def fJ1_hashCode (a : Nat) (σ : xS) : Option (Int32) :=
  (xgI σ [(22, 0)] a).bind (fun v1 => some (fJ1_hashCode_2 v1))

set_option maxHeartbeats 4000000 in
set_option maxRecDepth 100000 in
theorem met_J1_hashCode {l : Launch} {E : xG} {a : Nat} {σ : xS} {res : Int32} (hf : fJ1_hashCode a σ = some res) : xMet l yJ1_hashCode cJ1_hashCode 1 (Option.some Jvm.ClassFile.FieldType.int) 1 20 E [.ref a] σ (some (.int res)) σ := by
  replace hf : ((xgI σ [(22, 0)] a).bind (fun v1 => some (fJ1_hashCode_2 v1))) = some res := hf
  refine x_start (by decide) (Nat.le_of_ble_eq_true rfl) ?_
  intro p e s m args below meth c S hnm hR hS ls hl
  obtain ⟨hx, hb, hml, hown, hts⟩ := S.1.1
  have hl : lv_has ls 1 [(0, .ref a)] := hl
  have hn : XN 0 0 (xnx σ) (xns σ) (xnx σ) (xns σ) σ := ⟨Nat.zero_add _, Nat.zero_add _, (rl1.rf σ).1, (rl1.rf σ).2⟩
  refine lv_aload_n hx hb dJ1_hashCode_0 rfl (lv_at hl 0 rfl) ?_
  refine k_bind hf (fun v1 hv1 hf => ?_)
  refine x_get S hR lk_J1_205 (xgI_g hv1) dJ1_hashCode_1 ?_
  refine s_call (As := [.int v1]) (rest := []) S.1.1 (met_J1_hashCode_2 rfl) wi_J1_hashCode_2 q919 ⟨rfl, rfl⟩ ⟨Nat.le_of_ble_eq_true rfl, Nat.le_of_ble_eq_true rfl⟩ rfl hl.1 rfl (Nat.le_of_ble_eq_true rfl) dJ1_hashCode_4 hn.cs ?_
  obtain rfl := Option.some.inj hf
  exact x_iret S hR hS hn rfl dJ1_hashCode_7


noncomputable def fJ1_compareTo (a : Nat) (x1 : Option Nat) (σ : xS) : Option (Int32) :=
  none

set_option maxHeartbeats 4000000 in
set_option maxRecDepth 100000 in
theorem met_J1_compareTo {l : Launch} {E : xG} {a : Nat} {x1 : Option Nat} {σ : xS} {res : Int32} (hf : fJ1_compareTo a x1 σ = some res) : xMet l yJ1_compareTo cJ1_compareTo 2 (Option.some Jvm.ClassFile.FieldType.int) 0 0 E [.ref a, va_rf x1] σ (some (.int res)) σ := by
  replace hf : none = some res := hf
  refine x_start (by decide) (Nat.le_of_ble_eq_true rfl) ?_
  intro p e s m args below meth c S hnm hR hS ls hl
  obtain ⟨hx, hb, hml, hown, hts⟩ := S.1.1
  have hl : lv_has ls 2 [(0, .ref a), (1, va_rf x1)] := hl
  have hn : XN 0 0 (xnx σ) (xns σ) (xnx σ) (xns σ) σ := ⟨Nat.zero_add _, Nat.zero_add _, (rl1.rf σ).1, (rl1.rf σ).2⟩
  refine lv_aload_n hx hb dJ1_compareTo_0 rfl (lv_at hl 0 rfl) ?_
  refine x_aload_n (r := x1) hx hb dJ1_compareTo_1 rfl (lv_at hl 1 rfl) ?_
  cases hf


noncomputable def fJ1_compare (x0 : Int32) (x1 : Int32) : Int32 :=
  if x1 ≤ x0 then if x0 = x1 then (0 : Int32) else (1 : Int32) else (-1 : Int32)
theorem wi_J1_compare : wInfS yJ1_compare cJ1_compare 2 (Option.some Jvm.ClassFile.FieldType.int) 2 := ⟨q1165, q109, q1166, (by decide +kernel), (by decide +kernel), (by decide +kernel)⟩
set_option maxHeartbeats 4000000 in
set_option maxRecDepth 100000 in
theorem met_J1_compare {l : Launch} {x0 : Int32} {x1 : Int32} {res : Int32} (hf : fJ1_compare x0 x1 = res) : sMet l yJ1_compare cJ1_compare 2 (Option.some Jvm.ClassFile.FieldType.int) (mRm 0 0) [.int x0, .int x1] (some (.int res)) := by
  replace hf : (if x1 ≤ x0 then if x0 = x1 then (0 : Int32) else (1 : Int32) else (-1 : Int32)) = res := hf
  refine s_start (by decide) (Nat.le_of_ble_eq_true rfl) ?_
  intro p e s m args below meth c S ls hl
  obtain ⟨hx, hb, hml, hown, hts⟩ := S.1
  have hl : lv_has ls 2 [(0, .int x0), (1, .int x1)] := hl
  refine lv_iload_n hx hb dJ1_compare_0 rfl (lv_at hl 0 rfl) ?_
  refine lv_iload_n hx hb dJ1_compare_1 rfl (lv_at hl 1 rfl) ?_
  refine lv_icmp_ge (tgt := 9) hx hb dJ1_compare_2 (by decide) (fun c_2 => ?_) (fun c_2 => ?_)
  · replace hf := o_t hf c_2
    refine lv_iload_n hx hb dJ1_compare_9 rfl (lv_at hl 0 rfl) ?_
    refine lv_iload_n hx hb dJ1_compare_10 rfl (lv_at hl 1 rfl) ?_
    refine lv_icmp_ne (tgt := 18) hx hb dJ1_compare_11 (by decide) (fun c_11 => ?_) (fun c_11 => ?_)
    · replace hf := o_f hf c_11
      refine lv_iconst (v := 1) hx hb dJ1_compare_18 (by decide) ?_
      subst hf
      exact s_iret S rfl dJ1_compare_19
    · replace hf := o_t hf c_11
      refine lv_iconst (v := 0) hx hb dJ1_compare_14 (by decide) ?_
      refine lv_goto (tgt := 19) hx hb dJ1_compare_15 (by decide) ?_
      subst hf
      exact s_iret S rfl dJ1_compare_19
  · replace hf := o_f hf c_2
    refine lv_iconst (v := -1) hx hb dJ1_compare_5 (by decide) ?_
    refine lv_goto (tgt := 19) hx hb dJ1_compare_6 (by decide) ?_
    subst hf
    exact s_iret S rfl dJ1_compare_19


noncomputable def fJ1_compareTo_2 (a : Nat) (x1 : Option Nat) (σ : xS) : Option (Int32) :=
  (xgI σ [(22, 0)] a).bind (fun v1 => (x1).bind (fun a2 => (xgI σ [(22, 0)] a2).bind (fun v3 => some (fJ1_compare v1 v3))))
theorem wi_J1_compareTo_2 : wInfV yJ1_compareTo_2 cJ1_compareTo_2 2 (Option.some Jvm.ClassFile.FieldType.int) 1 := ⟨q1161, q1162, q109, q1163, (by decide +kernel), (by decide +kernel), (by decide +kernel)⟩
set_option maxHeartbeats 4000000 in
set_option maxRecDepth 100000 in
theorem met_J1_compareTo_2 {l : Launch} {E : xG} {a : Nat} {x1 : Option Nat} {σ : xS} {res : Int32} (hf : fJ1_compareTo_2 a x1 σ = some res) : xMet l yJ1_compareTo_2 cJ1_compareTo_2 2 (Option.some Jvm.ClassFile.FieldType.int) 1 21 E [.ref a, va_rf x1] σ (some (.int res)) σ := by
  replace hf : ((xgI σ [(22, 0)] a).bind (fun v1 => (x1).bind (fun a2 => (xgI σ [(22, 0)] a2).bind (fun v3 => some (fJ1_compare v1 v3))))) = some res := hf
  refine x_start (by decide) (Nat.le_of_ble_eq_true rfl) ?_
  intro p e s m args below meth c S hnm hR hS ls hl
  obtain ⟨hx, hb, hml, hown, hts⟩ := S.1.1
  have hl : lv_has ls 2 [(0, .ref a), (1, va_rf x1)] := hl
  have hn : XN 0 0 (xnx σ) (xns σ) (xnx σ) (xns σ) σ := ⟨Nat.zero_add _, Nat.zero_add _, (rl1.rf σ).1, (rl1.rf σ).2⟩
  refine lv_aload_n hx hb dJ1_compareTo_2_0 rfl (lv_at hl 0 rfl) ?_
  refine k_bind hf (fun v1 hv1 hf => ?_)
  refine x_get S hR lk_J1_205 (xgI_g hv1) dJ1_compareTo_2_1 ?_
  refine x_aload_n (r := x1) hx hb dJ1_compareTo_2_4 rfl (lv_at hl 1 rfl) ?_
  refine k_bind hf (fun a2 ha2 hf => ?_)
  rw [rf_some ha2]
  refine k_bind hf (fun v3 hv3 hf => ?_)
  refine x_get S hR lk_J1_205 (xgI_g hv3) dJ1_compareTo_2_5 ?_
  refine s_call (As := [.int v1, .int v3]) (rest := []) S.1.1 (met_J1_compare rfl) wi_J1_compare q1164 ⟨rfl, rfl⟩ ⟨Nat.le_of_ble_eq_true rfl, Nat.le_of_ble_eq_true rfl⟩ rfl hl.1 rfl (Nat.le_of_ble_eq_true rfl) dJ1_compareTo_2_8 hn.cs ?_
  obtain rfl := Option.some.inj hf
  exact x_iret S hR hS hn rfl dJ1_compareTo_2_11


noncomputable def JJ1_numberOfLeadingZeros_61 (y0 : Int32) (y1 : Int32) : Option (Int32) :=
  if y0 < (4 : Int32) then some (y1 - (iur y0 (1 : Int32))) else (some (y1 + (-2 : Int32))).bind (fun v1 => (some (iur y0 (2 : Int32))).bind (fun v2 => some (v1 - (iur v2 (1 : Int32)))))
noncomputable def JJ1_numberOfLeadingZeros_48 (y0 : Int32) (y1 : Int32) : Option (Int32) :=
  if y0 < (16 : Int32) then JJ1_numberOfLeadingZeros_61 y0 y1 else (some (y1 + (-4 : Int32))).bind (fun v3 => (some (iur y0 (4 : Int32))).bind (fun v4 => JJ1_numberOfLeadingZeros_61 v4 v3))
noncomputable def JJ1_numberOfLeadingZeros_33 (y0 : Int32) (y1 : Int32) : Option (Int32) :=
  if y0 < (256 : Int32) then JJ1_numberOfLeadingZeros_48 y0 y1 else (some (y1 + (-8 : Int32))).bind (fun v5 => (some (iur y0 (8 : Int32))).bind (fun v6 => JJ1_numberOfLeadingZeros_48 v6 v5))
noncomputable def fJ1_numberOfLeadingZeros (x0 : Int32) : Option (Int32) :=
  if (0 : Int32) < x0 then if x0 < (65536 : Int32) then JJ1_numberOfLeadingZeros_33 x0 (31 : Int32) else (some ((31 : Int32) + (-16 : Int32))).bind (fun v7 => (some (iur x0 (16 : Int32))).bind (fun v8 => JJ1_numberOfLeadingZeros_33 v8 v7)) else if x0 = (0 : Int32) then some (32 : Int32) else some (0 : Int32)
theorem wi_J1_numberOfLeadingZeros : wInfS yJ1_numberOfLeadingZeros cJ1_numberOfLeadingZeros 2 (Option.some Jvm.ClassFile.FieldType.int) 1 := ⟨q1261, q109, q1262, (by decide +kernel), (by decide +kernel), (by decide +kernel)⟩
set_option maxHeartbeats 4000000 in
set_option maxRecDepth 100000 in
theorem wJJ1_numberOfLeadingZeros_61 {l : Launch} {p : Program} {e : Env} {s : State} {m : MethodId} {args : Array Value} {below : List Frame} {meth : Method} {c : Code} {y0 : Int32} {y1 : Int32} {res : Int32} (S : wSt RJ1 p m c cJ1_numberOfLeadingZeros 2 s args meth (Option.some Jvm.ClassFile.FieldType.int)) (hf : JJ1_numberOfLeadingZeros_61 y0 y1 = some res) : ∀ (ls : Array Slot), lv_has ls 2 [(0, .int y0), (1, .int y1)] → W p l e (mRm 0 0) s m args below meth c s.heap [] 0 0 (MQ below (sQ (some (.int res))) args s 0 0 (fun _ => False)) (F0 m 61 ls []) := by
  replace hf : (if y0 < (4 : Int32) then some (y1 - (iur y0 (1 : Int32))) else (some (y1 + (-2 : Int32))).bind (fun v1 => (some (iur y0 (2 : Int32))).bind (fun v2 => some (v1 - (iur v2 (1 : Int32)))))) = some res := hf
  obtain ⟨hx, hb, hml, hown, hts⟩ := S.1
  intro ls hl
  refine lv_iload_n hx hb dJ1_numberOfLeadingZeros_61 rfl (lv_at hl 0 rfl) ?_
  refine lv_iconst (v := 4) hx hb dJ1_numberOfLeadingZeros_62 (by decide) ?_
  refine lv_icmp_lt (tgt := 73) hx hb dJ1_numberOfLeadingZeros_63 (by decide) (fun c_63 => ?_) (fun c_63 => ?_)
  · replace hf := o_t hf c_63
    refine lv_iload_n hx hb dJ1_numberOfLeadingZeros_73 rfl (lv_at hl 1 rfl) ?_
    refine lv_iload_n hx hb dJ1_numberOfLeadingZeros_74 rfl (lv_at hl 0 rfl) ?_
    refine lv_iconst (v := 1) hx hb dJ1_numberOfLeadingZeros_75 (by decide) ?_
    refine lv_iushr (v := (iur y0 (1 : Int32))) hx hb dJ1_numberOfLeadingZeros_76 rfl ?_
    refine lv_isub hx hb dJ1_numberOfLeadingZeros_77 ?_
    obtain rfl := Option.some.inj hf
    exact s_iret S rfl dJ1_numberOfLeadingZeros_78
  · replace hf := o_f hf c_63
    refine k_bind hf (fun v1 hv1 hf => ?_)
    refine lv_iinc (lv' := [(1, .int v1), (0, .int y0)]) hx hb dJ1_numberOfLeadingZeros_66 hl (k := 1) rfl ((m_inc (by decide)).trans (Option.some.inj hv1)) (by decide) rfl (fun ls hl => ?_)
    refine lv_iload_n hx hb dJ1_numberOfLeadingZeros_69 rfl (lv_at hl 1 rfl) ?_
    refine lv_iconst (v := 2) hx hb dJ1_numberOfLeadingZeros_70 (by decide) ?_
    refine lv_iushr (v := (iur y0 (2 : Int32))) hx hb dJ1_numberOfLeadingZeros_71 rfl ?_
    refine k_bind hf (fun v2 hv2 hf => ?_)
    refine m_nmi hv2 ?_
    refine lv_istore_n (lv' := [(0, .int v2), (1, .int v1)]) hx hb dJ1_numberOfLeadingZeros_72 rfl hl (by decide) rfl (fun ls hl => ?_)
    refine lv_iload_n hx hb dJ1_numberOfLeadingZeros_73 rfl (lv_at hl 1 rfl) ?_
    refine lv_iload_n hx hb dJ1_numberOfLeadingZeros_74 rfl (lv_at hl 0 rfl) ?_
    refine lv_iconst (v := 1) hx hb dJ1_numberOfLeadingZeros_75 (by decide) ?_
    refine lv_iushr (v := (iur v2 (1 : Int32))) hx hb dJ1_numberOfLeadingZeros_76 rfl ?_
    refine lv_isub hx hb dJ1_numberOfLeadingZeros_77 ?_
    obtain rfl := Option.some.inj hf
    exact s_iret S rfl dJ1_numberOfLeadingZeros_78
set_option maxHeartbeats 4000000 in
set_option maxRecDepth 100000 in
theorem wJJ1_numberOfLeadingZeros_48 {l : Launch} {p : Program} {e : Env} {s : State} {m : MethodId} {args : Array Value} {below : List Frame} {meth : Method} {c : Code} {y0 : Int32} {y1 : Int32} {res : Int32} (S : wSt RJ1 p m c cJ1_numberOfLeadingZeros 2 s args meth (Option.some Jvm.ClassFile.FieldType.int)) (hf : JJ1_numberOfLeadingZeros_48 y0 y1 = some res) : ∀ (ls : Array Slot), lv_has ls 2 [(0, .int y0), (1, .int y1)] → W p l e (mRm 0 0) s m args below meth c s.heap [] 0 0 (MQ below (sQ (some (.int res))) args s 0 0 (fun _ => False)) (F0 m 48 ls []) := by
  replace hf : (if y0 < (16 : Int32) then JJ1_numberOfLeadingZeros_61 y0 y1 else (some (y1 + (-4 : Int32))).bind (fun v3 => (some (iur y0 (4 : Int32))).bind (fun v4 => JJ1_numberOfLeadingZeros_61 v4 v3))) = some res := hf
  obtain ⟨hx, hb, hml, hown, hts⟩ := S.1
  intro ls hl
  refine lv_iload_n hx hb dJ1_numberOfLeadingZeros_48 rfl (lv_at hl 0 rfl) ?_
  refine lv_bipush (v := 16) hx hb dJ1_numberOfLeadingZeros_49 (by decide) ?_
  refine lv_icmp_lt (tgt := 61) hx hb dJ1_numberOfLeadingZeros_51 (by decide) (fun c_51 => ?_) (fun c_51 => ?_)
  · replace hf := o_t hf c_51
    exact wJJ1_numberOfLeadingZeros_61 S hf _ hl
  · replace hf := o_f hf c_51
    refine k_bind hf (fun v3 hv3 hf => ?_)
    refine lv_iinc (lv' := [(1, .int v3), (0, .int y0)]) hx hb dJ1_numberOfLeadingZeros_54 hl (k := 1) rfl ((m_inc (by decide)).trans (Option.some.inj hv3)) (by decide) rfl (fun ls hl => ?_)
    refine lv_iload_n hx hb dJ1_numberOfLeadingZeros_57 rfl (lv_at hl 1 rfl) ?_
    refine lv_iconst (v := 4) hx hb dJ1_numberOfLeadingZeros_58 (by decide) ?_
    refine lv_iushr (v := (iur y0 (4 : Int32))) hx hb dJ1_numberOfLeadingZeros_59 rfl ?_
    refine k_bind hf (fun v4 hv4 hf => ?_)
    refine m_nmi hv4 ?_
    refine lv_istore_n (lv' := [(0, .int v4), (1, .int v3)]) hx hb dJ1_numberOfLeadingZeros_60 rfl hl (by decide) rfl (fun ls hl => ?_)
    exact wJJ1_numberOfLeadingZeros_61 S hf _ hl
set_option maxHeartbeats 4000000 in
set_option maxRecDepth 100000 in
theorem wJJ1_numberOfLeadingZeros_33 {l : Launch} {p : Program} {e : Env} {s : State} {m : MethodId} {args : Array Value} {below : List Frame} {meth : Method} {c : Code} {y0 : Int32} {y1 : Int32} {res : Int32} (S : wSt RJ1 p m c cJ1_numberOfLeadingZeros 2 s args meth (Option.some Jvm.ClassFile.FieldType.int)) (hf : JJ1_numberOfLeadingZeros_33 y0 y1 = some res) : ∀ (ls : Array Slot), lv_has ls 2 [(0, .int y0), (1, .int y1)] → W p l e (mRm 0 0) s m args below meth c s.heap [] 0 0 (MQ below (sQ (some (.int res))) args s 0 0 (fun _ => False)) (F0 m 33 ls []) := by
  replace hf : (if y0 < (256 : Int32) then JJ1_numberOfLeadingZeros_48 y0 y1 else (some (y1 + (-8 : Int32))).bind (fun v5 => (some (iur y0 (8 : Int32))).bind (fun v6 => JJ1_numberOfLeadingZeros_48 v6 v5))) = some res := hf
  obtain ⟨hx, hb, hml, hown, hts⟩ := S.1
  intro ls hl
  refine lv_iload_n hx hb dJ1_numberOfLeadingZeros_33 rfl (lv_at hl 0 rfl) ?_
  refine lv_sipush (v := 256) hx hb dJ1_numberOfLeadingZeros_34 (by decide) ?_
  refine lv_icmp_lt (tgt := 48) hx hb dJ1_numberOfLeadingZeros_37 (by decide) (fun c_37 => ?_) (fun c_37 => ?_)
  · replace hf := o_t hf c_37
    exact wJJ1_numberOfLeadingZeros_48 S hf _ hl
  · replace hf := o_f hf c_37
    refine k_bind hf (fun v5 hv5 hf => ?_)
    refine lv_iinc (lv' := [(1, .int v5), (0, .int y0)]) hx hb dJ1_numberOfLeadingZeros_40 hl (k := 1) rfl ((m_inc (by decide)).trans (Option.some.inj hv5)) (by decide) rfl (fun ls hl => ?_)
    refine lv_iload_n hx hb dJ1_numberOfLeadingZeros_43 rfl (lv_at hl 1 rfl) ?_
    refine lv_bipush (v := 8) hx hb dJ1_numberOfLeadingZeros_44 (by decide) ?_
    refine lv_iushr (v := (iur y0 (8 : Int32))) hx hb dJ1_numberOfLeadingZeros_46 rfl ?_
    refine k_bind hf (fun v6 hv6 hf => ?_)
    refine m_nmi hv6 ?_
    refine lv_istore_n (lv' := [(0, .int v6), (1, .int v5)]) hx hb dJ1_numberOfLeadingZeros_47 rfl hl (by decide) rfl (fun ls hl => ?_)
    exact wJJ1_numberOfLeadingZeros_48 S hf _ hl
set_option maxHeartbeats 4000000 in
set_option maxRecDepth 100000 in
theorem met_J1_numberOfLeadingZeros {l : Launch} {x0 : Int32} {res : Int32} (hf : fJ1_numberOfLeadingZeros x0 = some res) : sMet l yJ1_numberOfLeadingZeros cJ1_numberOfLeadingZeros 2 (Option.some Jvm.ClassFile.FieldType.int) (mRm 0 0) [.int x0] (some (.int res)) := by
  replace hf : (if (0 : Int32) < x0 then if x0 < (65536 : Int32) then JJ1_numberOfLeadingZeros_33 x0 (31 : Int32) else (some ((31 : Int32) + (-16 : Int32))).bind (fun v7 => (some (iur x0 (16 : Int32))).bind (fun v8 => JJ1_numberOfLeadingZeros_33 v8 v7)) else if x0 = (0 : Int32) then some (32 : Int32) else some (0 : Int32)) = some res := hf
  refine s_start (by decide) (Nat.le_of_ble_eq_true rfl) ?_
  intro p e s m args below meth c S ls hl
  obtain ⟨hx, hb, hml, hown, hts⟩ := S.1
  have hl : lv_has ls 2 [(0, .int x0)] := hl
  refine lv_iload_n hx hb dJ1_numberOfLeadingZeros_0 rfl (lv_at hl 0 rfl) ?_
  refine lv_if_gt (tgt := 15) hx hb dJ1_numberOfLeadingZeros_1 (by decide) (fun c_1 => ?_) (fun c_1 => ?_)
  · replace hf := o_t hf c_1
    refine lv_bipush (v := 31) hx hb dJ1_numberOfLeadingZeros_15 (by decide) ?_
    refine lv_istore_n (lv' := [(1, .int (31 : Int32)), (0, .int x0)]) hx hb dJ1_numberOfLeadingZeros_17 rfl hl (by decide) rfl (fun ls hl => ?_)
    refine lv_iload_n hx hb dJ1_numberOfLeadingZeros_18 rfl (lv_at hl 1 rfl) ?_
    refine lv_ldcw hx hb hown (hts _ q288) dJ1_numberOfLeadingZeros_19 ?_
    refine lv_icmp_lt (tgt := 33) hx hb dJ1_numberOfLeadingZeros_22 (by decide) (fun c_22 => ?_) (fun c_22 => ?_)
    · replace hf := o_t hf c_22
      exact wJJ1_numberOfLeadingZeros_33 S hf _ (lv_sub (l' := [(0, .int x0), (1, .int (31 : Int32))]) hl [1, 0] rfl)
    · replace hf := o_f hf c_22
      refine k_bind hf (fun v7 hv7 hf => ?_)
      refine lv_iinc (lv' := [(1, .int v7), (0, .int x0)]) hx hb dJ1_numberOfLeadingZeros_25 hl (k := 0) rfl ((m_inc (by decide)).trans (Option.some.inj hv7)) (by decide) rfl (fun ls hl => ?_)
      refine lv_iload_n hx hb dJ1_numberOfLeadingZeros_28 rfl (lv_at hl 1 rfl) ?_
      refine lv_bipush (v := 16) hx hb dJ1_numberOfLeadingZeros_29 (by decide) ?_
      refine lv_iushr (v := (iur x0 (16 : Int32))) hx hb dJ1_numberOfLeadingZeros_31 rfl ?_
      refine k_bind hf (fun v8 hv8 hf => ?_)
      refine m_nmi hv8 ?_
      refine lv_istore_n (lv' := [(0, .int v8), (1, .int v7)]) hx hb dJ1_numberOfLeadingZeros_32 rfl hl (by decide) rfl (fun ls hl => ?_)
      exact wJJ1_numberOfLeadingZeros_33 S hf _ hl
  · replace hf := o_f hf c_1
    refine lv_iload_n hx hb dJ1_numberOfLeadingZeros_4 rfl (lv_at hl 0 rfl) ?_
    refine lv_if_ne (tgt := 13) hx hb dJ1_numberOfLeadingZeros_5 (by decide) (fun c_5 => ?_) (fun c_5 => ?_)
    · replace hf := o_f hf c_5
      refine lv_iconst (v := 0) hx hb dJ1_numberOfLeadingZeros_13 (by decide) ?_
      obtain rfl := Option.some.inj hf
      exact s_iret S rfl dJ1_numberOfLeadingZeros_14
    · replace hf := o_t hf c_5
      refine lv_bipush (v := 32) hx hb dJ1_numberOfLeadingZeros_8 (by decide) ?_
      refine lv_goto (tgt := 14) hx hb dJ1_numberOfLeadingZeros_10 (by decide) ?_
      obtain rfl := Option.some.inj hf
      exact s_iret S rfl dJ1_numberOfLeadingZeros_14


noncomputable def fJ1_equals (a : Nat) (x1 : Option Nat) (σ : xS) : Option (Int32) :=
  none

set_option maxHeartbeats 4000000 in
set_option maxRecDepth 100000 in
theorem met_J1_equals {l : Launch} {E : xG} {a : Nat} {x1 : Option Nat} {σ : xS} {res : Int32} (hf : fJ1_equals a x1 σ = some res) : xMet l yJ1_equals cJ1_equals 2 (Option.some Jvm.ClassFile.FieldType.boolean) 0 0 E [.ref a, va_rf x1] σ (some (.int res)) σ := by
  replace hf : none = some res := hf
  refine x_start (by decide) (Nat.le_of_ble_eq_true rfl) ?_
  intro p e s m args below meth c S hnm hR hS ls hl
  obtain ⟨hx, hb, hml, hown, hts⟩ := S.1.1
  have hl : lv_has ls 2 [(0, .ref a), (1, va_rf x1)] := hl
  have hn : XN 0 0 (xnx σ) (xns σ) (xnx σ) (xns σ) σ := ⟨Nat.zero_add _, Nat.zero_add _, (rl1.rf σ).1, (rl1.rf σ).2⟩
  refine x_aload_n (r := x1) hx hb dJ1_equals_0 rfl (lv_at hl 1 rfl) ?_
  cases hf


noncomputable def fJ1_intValue (a : Nat) (σ : xS) : Option (Int32) :=
  (xgI σ [(22, 0)] a).bind (fun v1 => some v1)
theorem wi_J1_intValue : wInfV yJ1_intValue cJ1_intValue 1 (Option.some Jvm.ClassFile.FieldType.int) 0 := ⟨q1380, q1381, q109, q1382, (by decide +kernel), (by decide +kernel), (by decide +kernel)⟩
set_option maxHeartbeats 4000000 in
set_option maxRecDepth 100000 in
theorem met_J1_intValue {l : Launch} {E : xG} {a : Nat} {σ : xS} {res : Int32} (hf : fJ1_intValue a σ = some res) : xMet l yJ1_intValue cJ1_intValue 1 (Option.some Jvm.ClassFile.FieldType.int) 0 0 E [.ref a] σ (some (.int res)) σ := by
  replace hf : ((xgI σ [(22, 0)] a).bind (fun v1 => some v1)) = some res := hf
  refine x_start (by decide) (Nat.le_of_ble_eq_true rfl) ?_
  intro p e s m args below meth c S hnm hR hS ls hl
  obtain ⟨hx, hb, hml, hown, hts⟩ := S.1.1
  have hl : lv_has ls 1 [(0, .ref a)] := hl
  have hn : XN 0 0 (xnx σ) (xns σ) (xnx σ) (xns σ) σ := ⟨Nat.zero_add _, Nat.zero_add _, (rl1.rf σ).1, (rl1.rf σ).2⟩
  refine lv_aload_n hx hb dJ1_intValue_0 rfl (lv_at hl 0 rfl) ?_
  refine k_bind hf (fun v1 hv1 hf => ?_)
  refine x_get S hR lk_J1_205 (xgI_g hv1) dJ1_intValue_1 ?_
  obtain rfl := Option.some.inj hf
  exact x_iret S hR hS hn rfl dJ1_intValue_4


noncomputable def fJ1_init (a : Nat) (x1 : Int32) (σ : xS) : Option (Unit) :=
  none
theorem wi_J1_init : wInfI yJ1_init cJ1_init 2 1 := ⟨q1852, q109, q1853, rfl, (by decide +kernel), (by decide +kernel), (by decide +kernel)⟩
set_option maxHeartbeats 4000000 in
set_option maxRecDepth 100000 in
theorem met_J1_init {l : Launch} {E : xG} {a : Nat} {x1 : Int32} {σ : xS} {res : Unit} (hf : fJ1_init a x1 σ = some res) : xMet l yJ1_init cJ1_init 2 (Option.none : Option Jvm.ClassFile.FieldType) 1 24 E [.ref a, .int x1] σ none σ := by
  replace hf : none = some res := hf
  refine x_start (by decide) (Nat.le_of_ble_eq_true rfl) ?_
  intro p e s m args below meth c S hnm hR hS ls hl
  obtain ⟨hx, hb, hml, hown, hts⟩ := S.1.1
  have hl : lv_has ls 2 [(0, .ref a), (1, .int x1)] := hl
  have hn : XN 0 0 (xnx σ) (xns σ) (xnx σ) (xns σ) σ := ⟨Nat.zero_add _, Nat.zero_add _, (rl1.rf σ).1, (rl1.rf σ).2⟩
  refine lv_aload_n hx hb dJ1_init_0 rfl (lv_at hl 0 rfl) ?_
  cases hf


noncomputable def fJ1_valueOf (x0 : Int32) (σ : xS) : Option (Option Nat × xS) :=
  if x0 < (-128 : Int32) then (xnw σ (.inr (22, [.int 0])) 1).bind (fun n1 => (fJ1_init n1.1 x0 n1.2).bind (fun v2 => some ((some n1.1), n1.2))) else none
theorem wi_J1_valueOf : wInfS yJ1_valueOf cJ1_valueOf 1 (Option.some (Jvm.ClassFile.FieldType.object "java/lang/Integer")) 1 := ⟨q1844, q109, q1845, (by decide +kernel), (by decide +kernel), (by decide +kernel)⟩
set_option maxHeartbeats 4000000 in
set_option maxRecDepth 100000 in
theorem r1_J1_valueOf {x0 : Int32} {σ : xS} {res : Option Nat × xS} (hf : fJ1_valueOf x0 σ = some res) : rl1 σ res.2 := by
  replace hf : (if x0 < (-128 : Int32) then (xnw σ (.inr (22, [.int 0])) 1).bind (fun n1 => (fJ1_init n1.1 x0 n1.2).bind (fun v2 => some ((some n1.1), n1.2))) else none) = some res := hf
  by_cases c0 : x0 < (-128 : Int32)
  · replace hf := o_t hf c0
    refine k_bind hf (fun n1 hn1 hf => ?_)
    refine rl1.tr (r1_nw hn1) ?_
    refine k_bind hf (fun v2 hv2 hf => ?_)
    obtain rfl := Option.some.inj hf
    exact rl1.rf _
  · replace hf := o_f hf c0
    cases hf
set_option maxHeartbeats 4000000 in
set_option maxRecDepth 100000 in
theorem met_J1_valueOf {l : Launch} {E : xG} {x0 : Int32} {σ : xS} {res : Option Nat × xS} (hf : fJ1_valueOf x0 σ = some res) : xMet l yJ1_valueOf cJ1_valueOf 1 (Option.some (Jvm.ClassFile.FieldType.object "java/lang/Integer")) 2 45 E [.int x0] σ (some (va_rf res.1)) res.2 := by
  replace hf : (if x0 < (-128 : Int32) then (xnw σ (.inr (22, [.int 0])) 1).bind (fun n1 => (fJ1_init n1.1 x0 n1.2).bind (fun v2 => some ((some n1.1), n1.2))) else none) = some res := hf
  refine x_start (by decide) (Nat.le_of_ble_eq_true rfl) ?_
  intro p e s m args below meth c S hnm hR hS ls hl
  obtain ⟨hx, hb, hml, hown, hts⟩ := S.1.1
  have hl : lv_has ls 1 [(0, .int x0)] := hl
  have hn : XN 0 0 (xnx σ) (xns σ) (xnx res.2) (xns res.2) σ := ⟨Nat.zero_add _, Nat.zero_add _, (r1_J1_valueOf (x0 := x0) (σ := σ) hf).1, (r1_J1_valueOf (x0 := x0) (σ := σ) hf).2⟩
  have hb9 : XB (xnx res.2) (xns res.2) res.2 := ⟨Nat.le_refl _, Nat.le_refl _⟩
  refine lv_iload_n hx hb dJ1_valueOf_0 rfl (lv_at hl 0 rfl) ?_
  refine lv_bipush (v := -128) hx hb dJ1_valueOf_1 (by decide) ?_
  refine lv_icmp_lt (tgt := 23) hx hb dJ1_valueOf_3 (by decide) (fun c_3 => ?_) (fun c_3 => ?_)
  · replace hf := o_t hf c_3
    refine k_bind hf (fun n1 hn1 hf => ?_)
    have hbn1 : XB (xnx res.2) (xns res.2) n1.2 := hb9.back (by
      refine k_bind hf (fun v2 hv2 hf => ?_)
      obtain rfl := Option.some.inj hf
      exact rl1.rf _)
    refine x_newQ (T := TJ1) (ty := tyJ1) S hR hS hn hn1 hbn1 rfl in_J1 tyJ1_ok (by decide +kernel) q1159 q1850 q109 dJ1_valueOf_23 (fun H cells slots hR hS hn => ?_)
    refine lv_dup hx hb dJ1_valueOf_26 rfl ?_
    refine lv_iload_n hx hb dJ1_valueOf_27 rfl (lv_at hl 0 rfl) ?_
    refine k_bind hf (fun v2 hv2 hf => ?_)
    refine x_callI (As := [.int x0]) (rest := [.ref n1.1]) S hR hS hn (met_J1_init hv2) (rl1.rf _) (hn.b (rl0.rf _)) wi_J1_init q1851 ⟨Nat.le_of_ble_eq_true rfl, Nat.le_of_ble_eq_true rfl⟩ rfl hl.1 rfl (Nat.le_of_ble_eq_true rfl) dJ1_valueOf_28 (fun H locs cells slots hR hS hn => ?_)
    obtain rfl := Option.some.inj hf
    exact x_aret (r := (some n1.1)) S (Or.inl ⟨_, rfl⟩) hR hS hn dJ1_valueOf_31
  · replace hf := o_f hf c_3
    refine lv_iload_n hx hb dJ1_valueOf_6 rfl (lv_at hl 0 rfl) ?_
    cases hf


noncomputable def fJ2_numberOfLeadingZeros (x0 : Int64) : Option (Int32) :=
  (some ((lur x0 (32 : Int32)).toInt32)).bind (fun v1 => if v1 = (0 : Int32) then (fJ1_numberOfLeadingZeros x0.toInt32).bind (fun v3 => some ((32 : Int32) + v3)) else (fJ1_numberOfLeadingZeros v1).bind (fun v2 => some v2))
theorem wi_J2_numberOfLeadingZeros : wInfS yJ2_numberOfLeadingZeros cJ2_numberOfLeadingZeros 3 (Option.some Jvm.ClassFile.FieldType.int) 1 := ⟨q1258, q111, q1259, (by decide +kernel), (by decide +kernel), (by decide +kernel)⟩
set_option maxHeartbeats 4000000 in
set_option maxRecDepth 100000 in
theorem met_J2_numberOfLeadingZeros {l : Launch} {x0 : Int64} {res : Int32} (hf : fJ2_numberOfLeadingZeros x0 = some res) : sMet l yJ2_numberOfLeadingZeros cJ2_numberOfLeadingZeros 3 (Option.some Jvm.ClassFile.FieldType.int) (mRm 1 21) [.long x0] (some (.int res)) := by
  replace hf : ((some ((lur x0 (32 : Int32)).toInt32)).bind (fun v1 => if v1 = (0 : Int32) then (fJ1_numberOfLeadingZeros x0.toInt32).bind (fun v3 => some ((32 : Int32) + v3)) else (fJ1_numberOfLeadingZeros v1).bind (fun v2 => some v2))) = some res := hf
  refine s_start (by decide) (Nat.le_of_ble_eq_true rfl) ?_
  intro p e s m args below meth c S ls hl
  obtain ⟨hx, hb, hml, hown, hts⟩ := S.1
  have hl : lv_has ls 3 [(0, .long x0)] := hl
  refine lv_lload_n hx hb dJ2_numberOfLeadingZeros_0 rfl (lv_at hl 0 rfl) ?_
  refine lv_bipush (v := 32) hx hb dJ2_numberOfLeadingZeros_1 (by decide) ?_
  refine lv_lushr (v := (lur x0 (32 : Int32))) hx hb dJ2_numberOfLeadingZeros_3 rfl ?_
  refine lv_l2i hx hb dJ2_numberOfLeadingZeros_4 rfl ?_
  refine k_bind hf (fun v1 hv1 hf => ?_)
  refine m_nmi hv1 ?_
  refine lv_istore_n (lv' := [(2, .int v1), (0, .long x0)]) hx hb dJ2_numberOfLeadingZeros_5 rfl hl (by decide) rfl (fun ls hl => ?_)
  refine lv_iload_n hx hb dJ2_numberOfLeadingZeros_6 rfl (lv_at hl 0 rfl) ?_
  refine lv_if_ne (tgt := 21) hx hb dJ2_numberOfLeadingZeros_7 (by decide) (fun c_7 => ?_) (fun c_7 => ?_)
  · replace hf := o_f hf c_7
    refine lv_iload_n hx hb dJ2_numberOfLeadingZeros_21 rfl (lv_at hl 0 rfl) ?_
    refine k_bind hf (fun v2 hv2 hf => ?_)
    refine s_call (As := [.int v1]) (rest := []) S.1 (met_J1_numberOfLeadingZeros hv2) wi_J1_numberOfLeadingZeros q1260 ⟨rfl, rfl⟩ ⟨Nat.le_of_ble_eq_true rfl, Nat.le_of_ble_eq_true rfl⟩ rfl hl.1 rfl (Nat.le_of_ble_eq_true rfl) dJ2_numberOfLeadingZeros_22 ⟨Nat.zero_le _, Nat.zero_le _⟩ ?_
    obtain rfl := Option.some.inj hf
    exact s_iret S rfl dJ2_numberOfLeadingZeros_25
  · replace hf := o_t hf c_7
    refine lv_bipush (v := 32) hx hb dJ2_numberOfLeadingZeros_10 (by decide) ?_
    refine lv_lload_n hx hb dJ2_numberOfLeadingZeros_12 rfl (lv_at hl 1 rfl) ?_
    refine lv_l2i hx hb dJ2_numberOfLeadingZeros_13 rfl ?_
    refine k_bind hf (fun v3 hv3 hf => ?_)
    refine s_call (As := [.int x0.toInt32]) (rest := [.int (32 : Int32)]) S.1 (met_J1_numberOfLeadingZeros hv3) wi_J1_numberOfLeadingZeros q1260 ⟨rfl, rfl⟩ ⟨Nat.le_of_ble_eq_true rfl, Nat.le_of_ble_eq_true rfl⟩ rfl hl.1 rfl (Nat.le_of_ble_eq_true rfl) dJ2_numberOfLeadingZeros_14 ⟨Nat.zero_le _, Nat.zero_le _⟩ ?_
    refine lv_iadd hx hb dJ2_numberOfLeadingZeros_17 ?_
    refine lv_goto (tgt := 25) hx hb dJ2_numberOfLeadingZeros_18 (by decide) ?_
    obtain rfl := Option.some.inj hf
    exact s_iret S rfl dJ2_numberOfLeadingZeros_25


noncomputable def fJ2_numberOfTrailingZeros (x0 : Int64) : Option (Int32) :=
  if x0.toInt32 = (0 : Int32) then (fJ1_numberOfTrailingZeros ((lur x0 (32 : Int32)).toInt32)).bind (fun v2 => some ((32 : Int32) + v2)) else (fJ1_numberOfTrailingZeros x0.toInt32).bind (fun v1 => some v1)
theorem wi_J2_numberOfTrailingZeros : wInfS yJ2_numberOfTrailingZeros cJ2_numberOfTrailingZeros 3 (Option.some Jvm.ClassFile.FieldType.int) 1 := ⟨q1266, q111, q1267, (by decide +kernel), (by decide +kernel), (by decide +kernel)⟩
set_option maxHeartbeats 4000000 in
set_option maxRecDepth 100000 in
theorem met_J2_numberOfTrailingZeros {l : Launch} {x0 : Int64} {res : Int32} (hf : fJ2_numberOfTrailingZeros x0 = some res) : sMet l yJ2_numberOfTrailingZeros cJ2_numberOfTrailingZeros 3 (Option.some Jvm.ClassFile.FieldType.int) (mRm 1 21) [.long x0] (some (.int res)) := by
  replace hf : (if x0.toInt32 = (0 : Int32) then (fJ1_numberOfTrailingZeros ((lur x0 (32 : Int32)).toInt32)).bind (fun v2 => some ((32 : Int32) + v2)) else (fJ1_numberOfTrailingZeros x0.toInt32).bind (fun v1 => some v1)) = some res := hf
  refine s_start (by decide) (Nat.le_of_ble_eq_true rfl) ?_
  intro p e s m args below meth c S ls hl
  obtain ⟨hx, hb, hml, hown, hts⟩ := S.1
  have hl : lv_has ls 3 [(0, .long x0)] := hl
  refine lv_lload_n hx hb dJ2_numberOfTrailingZeros_0 rfl (lv_at hl 0 rfl) ?_
  refine lv_l2i hx hb dJ2_numberOfTrailingZeros_1 rfl ?_
  refine lv_istore_n (lv' := [(2, .int x0.toInt32), (0, .long x0)]) hx hb dJ2_numberOfTrailingZeros_2 rfl hl (by decide) rfl (fun ls hl => ?_)
  refine lv_iload_n hx hb dJ2_numberOfTrailingZeros_3 rfl (lv_at hl 0 rfl) ?_
  refine lv_if_ne (tgt := 21) hx hb dJ2_numberOfTrailingZeros_4 (by decide) (fun c_4 => ?_) (fun c_4 => ?_)
  · replace hf := o_f hf c_4
    refine lv_iload_n hx hb dJ2_numberOfTrailingZeros_21 rfl (lv_at hl 0 rfl) ?_
    refine k_bind hf (fun v1 hv1 hf => ?_)
    refine s_call (As := [.int x0.toInt32]) (rest := []) S.1 (met_J1_numberOfTrailingZeros hv1) wi_J1_numberOfTrailingZeros q1268 ⟨rfl, rfl⟩ ⟨Nat.le_of_ble_eq_true rfl, Nat.le_of_ble_eq_true rfl⟩ rfl hl.1 rfl (Nat.le_of_ble_eq_true rfl) dJ2_numberOfTrailingZeros_22 ⟨Nat.zero_le _, Nat.zero_le _⟩ ?_
    obtain rfl := Option.some.inj hf
    exact s_iret S rfl dJ2_numberOfTrailingZeros_25
  · replace hf := o_t hf c_4
    refine lv_bipush (v := 32) hx hb dJ2_numberOfTrailingZeros_7 (by decide) ?_
    refine lv_lload_n hx hb dJ2_numberOfTrailingZeros_9 rfl (lv_at hl 1 rfl) ?_
    refine lv_bipush (v := 32) hx hb dJ2_numberOfTrailingZeros_10 (by decide) ?_
    refine lv_lushr (v := (lur x0 (32 : Int32))) hx hb dJ2_numberOfTrailingZeros_12 rfl ?_
    refine lv_l2i hx hb dJ2_numberOfTrailingZeros_13 rfl ?_
    refine k_bind hf (fun v2 hv2 hf => ?_)
    refine s_call (As := [.int ((lur x0 (32 : Int32)).toInt32)]) (rest := [.int (32 : Int32)]) S.1 (met_J1_numberOfTrailingZeros hv2) wi_J1_numberOfTrailingZeros q1268 ⟨rfl, rfl⟩ ⟨Nat.le_of_ble_eq_true rfl, Nat.le_of_ble_eq_true rfl⟩ rfl hl.1 rfl (Nat.le_of_ble_eq_true rfl) dJ2_numberOfTrailingZeros_14 ⟨Nat.zero_le _, Nat.zero_le _⟩ ?_
    refine lv_iadd hx hb dJ2_numberOfTrailingZeros_17 ?_
    refine lv_goto (tgt := 25) hx hb dJ2_numberOfTrailingZeros_18 (by decide) ?_
    obtain rfl := Option.some.inj hf
    exact s_iret S rfl dJ2_numberOfTrailingZeros_25
