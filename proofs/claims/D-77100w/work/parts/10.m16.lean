/-! the reference, walked: isShelf shelf over taken image back -/
noncomputable def fX4_isShelf (x0 : Int32) : Int32 :=
  ((fX4_in x0 (0 : Int32) (3 : Int32)) &&& 1)
theorem wi_X4_isShelf : wInfS yX4_isShelf cX4_isShelf 1 (Option.some Jvm.ClassFile.FieldType.boolean) 1 := ⟨q3087, q116, q3088, (by decide +kernel), (by decide +kernel), (by decide +kernel)⟩
set_option maxHeartbeats 4000000 in
set_option maxRecDepth 100000 in
theorem met_X4_isShelf {l : Launch} {x0 : Int32} {res : Int32} (hf : fX4_isShelf x0 = res) : sMet l yX4_isShelf cX4_isShelf 1 (Option.some Jvm.ClassFile.FieldType.boolean) (mRm 1 22) [.int x0] (some (.int res)) := by
  replace hf : ((fX4_in x0 (0 : Int32) (3 : Int32)) &&& 1) = res := hf
  refine s_start (by decide) (Nat.le_of_ble_eq_true rfl) ?_
  intro p e s m args below meth c S ls hl
  obtain ⟨hx, hb, hml, hown, hts⟩ := S.1
  have hl : lv_has ls 1 [(0, .int x0)] := hl
  refine lv_iload_n hx hb dX4_isShelf_0 rfl (lv_at hl 0 rfl) ?_
  refine lv_iconst (v := 0) hx hb dX4_isShelf_1 (by decide) ?_
  refine lv_iconst (v := 3) hx hb dX4_isShelf_2 (by decide) ?_
  refine s_call (As := [.int x0, .int (0 : Int32), .int (3 : Int32)]) (rest := []) S.1 (met_X4_in rfl) wi_X4_in q2681 ⟨rfl, rfl⟩ ⟨Nat.le_of_ble_eq_true rfl, Nat.le_of_ble_eq_true rfl⟩ rfl hl.1 rfl (Nat.le_of_ble_eq_true rfl) dX4_isShelf_3 ⟨Nat.zero_le _, Nat.zero_le _⟩ ?_
  subst hf
  exact s_iret S rfl dX4_isShelf_6

noncomputable def JX4_shelf_96 (y1 : Int32) (y2 : Int32) (y3 : Int32) (z0 : Int32) (z1 : Int32) (z2 : Nat) (σ : mS) : Option (Int32 × mS) :=
  (mast σ z2 z1 z0).bind (fun σ3 => if y2 = (1 : Int32) then (mald σ3 44 y3).bind (fun v5 => (mast σ3 49 y1 v5).bind (fun σ6 => some ((1 : Int32), σ6))) else (mast σ3 49 y1 (0 : Int32)).bind (fun σ4 => some ((1 : Int32), σ4)))
noncomputable def JX4_shelf_68 (y1 : Int32) (y2 : Int32) (y3 : Int32) (z0 : Int32) (z1 : Int32) (z2 : Nat) (σ : mS) : Option (Int32 × mS) :=
  (mast σ z2 z1 z0).bind (fun σ1 => (mast σ1 47 y1 y3).bind (fun σ2 => if y2 = (1 : Int32) then (mald σ2 43 y3).bind (fun v7 => JX4_shelf_96 y1 y2 y3 v7 y1 48 σ2) else JX4_shelf_96 y1 y2 y3 (-1 : Int32) y1 48 σ2))
noncomputable def JX4_shelf_43 (y1 : Int32) (y2 : Int32) (y3 : Int32) (σ : mS) : Option (Int32 × mS) :=
  if y2 = (1 : Int32) then (mald σ 43 y3).bind (fun v8 => if v8 = (-1 : Int32) then JX4_shelf_68 y1 y2 y3 (2 : Int32) y1 46 σ else JX4_shelf_68 y1 y2 y3 y2 y1 46 σ) else JX4_shelf_68 y1 y2 y3 y2 y1 46 σ
noncomputable def JX4_shelf_28 (y1 : Int32) (y2 : Int32) (y3 : Int32) (σ : mS) : Option (Int32 × mS) :=
  if y2 = (1 : Int32) then if (fX4_isSheet y3) = (0 : Int32) then some ((-2 : Int32), σ) else JX4_shelf_43 y1 y2 y3 σ else JX4_shelf_43 y1 y2 y3 σ
noncomputable def fX4_shelf (x1 : Int32) (x2 : Int32) (x3 : Int32) (σ : mS) : Option (Int32 × mS) :=
  if (fX4_isShelf x1) = (0 : Int32) then some ((-2 : Int32), σ) else if (fX4_in x2 (0 : Int32) (2 : Int32)) = (0 : Int32) then some ((-2 : Int32), σ) else if x2 = (0 : Int32) then if (fX4_isPoint x3 σ) = (0 : Int32) then some ((-2 : Int32), σ) else JX4_shelf_28 x1 x2 x3 σ else JX4_shelf_28 x1 x2 x3 σ
theorem wi_X4_shelf : wInfV yX4_shelf cX4_shelf 4 (Option.some Jvm.ClassFile.FieldType.int) 3 := ⟨q3083, q3084, q116, q3085, (by decide +kernel), (by decide +kernel), (by decide +kernel)⟩
set_option maxHeartbeats 4000000 in
set_option maxRecDepth 100000 in
theorem wJX4_shelf_96 {l : Launch} {G : mG} {p : Program} {e : Env} {s : State} {m : MethodId} {args : Array Value} {below : List Frame} {meth : Method} {c : Code} {y1 : Int32} {y2 : Int32} {y3 : Int32} {z0 : Int32} {z1 : Int32} {z2 : Nat} {σ : mS} {res : Int32 × mS} (S : mSt G p m c cX4_shelf 4 s args meth (Option.some Jvm.ClassFile.FieldType.int)) (hf : JX4_shelf_96 y1 y2 y3 z0 z1 z2 σ = some res) : ∀ (H : Heap) (locs : List Loc) (ls : Array Slot), mR G σ H → va_S (mA G) s.heap H locs → lv_has ls 4 [(0, .ref (mo G)), (1, .int y1), (2, .int y2), (3, .int y3)] → W p l e (mRm 2 43) s m args below meth c H locs 0 0 (MQ below (mQ G (some (.int res.1)) res.2) args s 0 0 (mA G)) (F0 m 96 ls [.int z0, .int z1, .ref (mad G z2)]) := by
  replace hf : ((mast σ z2 z1 z0).bind (fun σ3 => if y2 = (1 : Int32) then (mald σ3 44 y3).bind (fun v5 => (mast σ3 49 y1 v5).bind (fun σ6 => some ((1 : Int32), σ6))) else (mast σ3 49 y1 (0 : Int32)).bind (fun σ4 => some ((1 : Int32), σ4)))) = some res := hf
  obtain ⟨hx, hb, hml, hown, hts⟩ := S.1.1
  intro H locs ls hR hS hl
  refine k_bind hf (fun σ3 hσ3 hf => ?_)
  refine m_iast S hR hS hσ3 dX4_shelf_96 (fun H locs hR hS => ?_)
  refine lv_aload_n hx hb dX4_shelf_97 rfl (lv_at hl 0 rfl) ?_
  refine m_geta (k := 49) S hR (by decide) (by decide) q2575 dX4_shelf_98 ?_
  refine lv_iload_n hx hb dX4_shelf_101 rfl (lv_at hl 1 rfl) ?_
  refine lv_iload_n hx hb dX4_shelf_102 rfl (lv_at hl 2 rfl) ?_
  refine lv_iconst (v := 1) hx hb dX4_shelf_103 (by decide) ?_
  refine lv_icmp_ne (tgt := 116) hx hb dX4_shelf_104 (by decide) (fun c_104 => ?_) (fun c_104 => ?_)
  · replace hf := o_f hf c_104
    refine lv_iconst (v := 0) hx hb dX4_shelf_116 (by decide) ?_
    refine k_bind hf (fun σ4 hσ4 hf => ?_)
    refine m_iast S hR hS hσ4 dX4_shelf_117 (fun H locs hR hS => ?_)
    refine lv_iconst (v := 1) hx hb dX4_shelf_118 (by decide) ?_
    obtain rfl := Option.some.inj hf
    exact m_iret S hR hS rfl dX4_shelf_119
  · replace hf := o_t hf c_104
    refine lv_aload_n hx hb dX4_shelf_107 rfl (lv_at hl 0 rfl) ?_
    refine m_geta (k := 44) S hR (by decide) (by decide) q2570 dX4_shelf_108 ?_
    refine lv_iload_n hx hb dX4_shelf_111 rfl (lv_at hl 3 rfl) ?_
    refine k_bind hf (fun v5 hv5 hf => ?_)
    refine m_iald S hR hv5 dX4_shelf_112 ?_
    refine lv_goto (tgt := 117) hx hb dX4_shelf_113 (by decide) ?_
    refine k_bind hf (fun σ6 hσ6 hf => ?_)
    refine m_iast S hR hS hσ6 dX4_shelf_117 (fun H locs hR hS => ?_)
    refine lv_iconst (v := 1) hx hb dX4_shelf_118 (by decide) ?_
    obtain rfl := Option.some.inj hf
    exact m_iret S hR hS rfl dX4_shelf_119
set_option maxHeartbeats 4000000 in
set_option maxRecDepth 100000 in
theorem wJX4_shelf_68 {l : Launch} {G : mG} {p : Program} {e : Env} {s : State} {m : MethodId} {args : Array Value} {below : List Frame} {meth : Method} {c : Code} {y1 : Int32} {y2 : Int32} {y3 : Int32} {z0 : Int32} {z1 : Int32} {z2 : Nat} {σ : mS} {res : Int32 × mS} (S : mSt G p m c cX4_shelf 4 s args meth (Option.some Jvm.ClassFile.FieldType.int)) (hf : JX4_shelf_68 y1 y2 y3 z0 z1 z2 σ = some res) : ∀ (H : Heap) (locs : List Loc) (ls : Array Slot), mR G σ H → va_S (mA G) s.heap H locs → lv_has ls 4 [(0, .ref (mo G)), (1, .int y1), (2, .int y2), (3, .int y3)] → W p l e (mRm 2 43) s m args below meth c H locs 0 0 (MQ below (mQ G (some (.int res.1)) res.2) args s 0 0 (mA G)) (F0 m 68 ls [.int z0, .int z1, .ref (mad G z2)]) := by
  replace hf : ((mast σ z2 z1 z0).bind (fun σ1 => (mast σ1 47 y1 y3).bind (fun σ2 => if y2 = (1 : Int32) then (mald σ2 43 y3).bind (fun v7 => JX4_shelf_96 y1 y2 y3 v7 y1 48 σ2) else JX4_shelf_96 y1 y2 y3 (-1 : Int32) y1 48 σ2))) = some res := hf
  obtain ⟨hx, hb, hml, hown, hts⟩ := S.1.1
  intro H locs ls hR hS hl
  refine k_bind hf (fun σ1 hσ1 hf => ?_)
  refine m_iast S hR hS hσ1 dX4_shelf_68 (fun H locs hR hS => ?_)
  refine lv_aload_n hx hb dX4_shelf_69 rfl (lv_at hl 0 rfl) ?_
  refine m_geta (k := 47) S hR (by decide) (by decide) q2573 dX4_shelf_70 ?_
  refine lv_iload_n hx hb dX4_shelf_73 rfl (lv_at hl 1 rfl) ?_
  refine lv_iload_n hx hb dX4_shelf_74 rfl (lv_at hl 3 rfl) ?_
  refine k_bind hf (fun σ2 hσ2 hf => ?_)
  refine m_iast S hR hS hσ2 dX4_shelf_75 (fun H locs hR hS => ?_)
  refine lv_aload_n hx hb dX4_shelf_76 rfl (lv_at hl 0 rfl) ?_
  refine m_geta (k := 48) S hR (by decide) (by decide) q2574 dX4_shelf_77 ?_
  refine lv_iload_n hx hb dX4_shelf_80 rfl (lv_at hl 1 rfl) ?_
  refine lv_iload_n hx hb dX4_shelf_81 rfl (lv_at hl 2 rfl) ?_
  refine lv_iconst (v := 1) hx hb dX4_shelf_82 (by decide) ?_
  refine lv_icmp_ne (tgt := 95) hx hb dX4_shelf_83 (by decide) (fun c_83 => ?_) (fun c_83 => ?_)
  · replace hf := o_f hf c_83
    refine lv_iconst (v := -1) hx hb dX4_shelf_95 (by decide) ?_
    exact wJX4_shelf_96 S hf _ _ _ hR hS hl
  · replace hf := o_t hf c_83
    refine lv_aload_n hx hb dX4_shelf_86 rfl (lv_at hl 0 rfl) ?_
    refine m_geta (k := 43) S hR (by decide) (by decide) q2569 dX4_shelf_87 ?_
    refine lv_iload_n hx hb dX4_shelf_90 rfl (lv_at hl 3 rfl) ?_
    refine k_bind hf (fun v7 hv7 hf => ?_)
    refine m_iald S hR hv7 dX4_shelf_91 ?_
    refine lv_goto (tgt := 96) hx hb dX4_shelf_92 (by decide) ?_
    exact wJX4_shelf_96 S hf _ _ _ hR hS hl
set_option maxHeartbeats 4000000 in
set_option maxRecDepth 100000 in
theorem wJX4_shelf_43 {l : Launch} {G : mG} {p : Program} {e : Env} {s : State} {m : MethodId} {args : Array Value} {below : List Frame} {meth : Method} {c : Code} {y1 : Int32} {y2 : Int32} {y3 : Int32} {σ : mS} {res : Int32 × mS} (S : mSt G p m c cX4_shelf 4 s args meth (Option.some Jvm.ClassFile.FieldType.int)) (hf : JX4_shelf_43 y1 y2 y3 σ = some res) : ∀ (H : Heap) (locs : List Loc) (ls : Array Slot), mR G σ H → va_S (mA G) s.heap H locs → lv_has ls 4 [(0, .ref (mo G)), (1, .int y1), (2, .int y2), (3, .int y3)] → W p l e (mRm 2 43) s m args below meth c H locs 0 0 (MQ below (mQ G (some (.int res.1)) res.2) args s 0 0 (mA G)) (F0 m 43 ls []) := by
  replace hf : (if y2 = (1 : Int32) then (mald σ 43 y3).bind (fun v8 => if v8 = (-1 : Int32) then JX4_shelf_68 y1 y2 y3 (2 : Int32) y1 46 σ else JX4_shelf_68 y1 y2 y3 y2 y1 46 σ) else JX4_shelf_68 y1 y2 y3 y2 y1 46 σ) = some res := hf
  obtain ⟨hx, hb, hml, hown, hts⟩ := S.1.1
  intro H locs ls hR hS hl
  refine lv_aload_n hx hb dX4_shelf_43 rfl (lv_at hl 0 rfl) ?_
  refine m_geta (k := 46) S hR (by decide) (by decide) q2572 dX4_shelf_44 ?_
  refine lv_iload_n hx hb dX4_shelf_47 rfl (lv_at hl 1 rfl) ?_
  refine lv_iload_n hx hb dX4_shelf_48 rfl (lv_at hl 2 rfl) ?_
  refine lv_iconst (v := 1) hx hb dX4_shelf_49 (by decide) ?_
  refine lv_icmp_ne (tgt := 67) hx hb dX4_shelf_50 (by decide) (fun c_50 => ?_) (fun c_50 => ?_)
  · replace hf := o_f hf c_50
    refine lv_iload_n hx hb dX4_shelf_67 rfl (lv_at hl 2 rfl) ?_
    exact wJX4_shelf_68 S hf _ _ _ hR hS hl
  · replace hf := o_t hf c_50
    refine lv_aload_n hx hb dX4_shelf_53 rfl (lv_at hl 0 rfl) ?_
    refine m_geta (k := 43) S hR (by decide) (by decide) q2569 dX4_shelf_54 ?_
    refine lv_iload_n hx hb dX4_shelf_57 rfl (lv_at hl 3 rfl) ?_
    refine k_bind hf (fun v8 hv8 hf => ?_)
    refine m_iald S hR hv8 dX4_shelf_58 ?_
    refine lv_iconst (v := -1) hx hb dX4_shelf_59 (by decide) ?_
    refine lv_icmp_ne (tgt := 67) hx hb dX4_shelf_60 (by decide) (fun c_60 => ?_) (fun c_60 => ?_)
    · replace hf := o_f hf c_60
      refine lv_iload_n hx hb dX4_shelf_67 rfl (lv_at hl 2 rfl) ?_
      exact wJX4_shelf_68 S hf _ _ _ hR hS hl
    · replace hf := o_t hf c_60
      refine lv_iconst (v := 2) hx hb dX4_shelf_63 (by decide) ?_
      refine lv_goto (tgt := 68) hx hb dX4_shelf_64 (by decide) ?_
      exact wJX4_shelf_68 S hf _ _ _ hR hS hl
set_option maxHeartbeats 4000000 in
set_option maxRecDepth 100000 in
theorem wJX4_shelf_28 {l : Launch} {G : mG} {p : Program} {e : Env} {s : State} {m : MethodId} {args : Array Value} {below : List Frame} {meth : Method} {c : Code} {y1 : Int32} {y2 : Int32} {y3 : Int32} {σ : mS} {res : Int32 × mS} (S : mSt G p m c cX4_shelf 4 s args meth (Option.some Jvm.ClassFile.FieldType.int)) (hf : JX4_shelf_28 y1 y2 y3 σ = some res) : ∀ (H : Heap) (locs : List Loc) (ls : Array Slot), mR G σ H → va_S (mA G) s.heap H locs → lv_has ls 4 [(0, .ref (mo G)), (1, .int y1), (2, .int y2), (3, .int y3)] → W p l e (mRm 2 43) s m args below meth c H locs 0 0 (MQ below (mQ G (some (.int res.1)) res.2) args s 0 0 (mA G)) (F0 m 28 ls []) := by
  replace hf : (if y2 = (1 : Int32) then if (fX4_isSheet y3) = (0 : Int32) then some ((-2 : Int32), σ) else JX4_shelf_43 y1 y2 y3 σ else JX4_shelf_43 y1 y2 y3 σ) = some res := hf
  obtain ⟨hx, hb, hml, hown, hts⟩ := S.1.1
  intro H locs ls hR hS hl
  refine lv_iload_n hx hb dX4_shelf_28 rfl (lv_at hl 2 rfl) ?_
  refine lv_iconst (v := 1) hx hb dX4_shelf_29 (by decide) ?_
  refine lv_icmp_ne (tgt := 43) hx hb dX4_shelf_30 (by decide) (fun c_30 => ?_) (fun c_30 => ?_)
  · replace hf := o_f hf c_30
    exact wJX4_shelf_43 S hf _ _ _ hR hS hl
  · replace hf := o_t hf c_30
    refine lv_iload_n hx hb dX4_shelf_33 rfl (lv_at hl 3 rfl) ?_
    refine s_call (As := [.int y3]) (rest := []) S.1.1 (met_X4_isSheet rfl) wi_X4_isSheet q2893 ⟨rfl, rfl⟩ ⟨Nat.le_of_ble_eq_true rfl, Nat.le_of_ble_eq_true rfl⟩ rfl hl.1 rfl (Nat.le_of_ble_eq_true rfl) dX4_shelf_34 ⟨Nat.zero_le _, Nat.zero_le _⟩ ?_
    refine lv_if_ne (tgt := 43) hx hb dX4_shelf_37 (by decide) (fun c_37 => ?_) (fun c_37 => ?_)
    · replace hf := o_f hf c_37
      exact wJX4_shelf_43 S hf _ _ _ hR hS hl
    · replace hf := o_t hf c_37
      refine lv_bipush (v := -2) hx hb dX4_shelf_40 (by decide) ?_
      obtain rfl := Option.some.inj hf
      exact m_iret S hR hS rfl dX4_shelf_42
set_option maxHeartbeats 4000000 in
set_option maxRecDepth 100000 in
theorem met_X4_shelf {l : Launch} {G : mG} {x1 : Int32} {x2 : Int32} {x3 : Int32} {σ : mS} {res : Int32 × mS} (hf : fX4_shelf x1 x2 x3 σ = some res) : mMet l yX4_shelf cX4_shelf 4 (Option.some Jvm.ClassFile.FieldType.int) (mRm 2 43) G [.ref (mo G), .int x1, .int x2, .int x3] σ (some (.int res.1)) res.2 := by
  replace hf : (if (fX4_isShelf x1) = (0 : Int32) then some ((-2 : Int32), σ) else if (fX4_in x2 (0 : Int32) (2 : Int32)) = (0 : Int32) then some ((-2 : Int32), σ) else if x2 = (0 : Int32) then if (fX4_isPoint x3 σ) = (0 : Int32) then some ((-2 : Int32), σ) else JX4_shelf_28 x1 x2 x3 σ else JX4_shelf_28 x1 x2 x3 σ) = some res := hf
  refine m_start (by decide) rfl (Nat.le_of_ble_eq_true rfl) ?_
  intro p e s m args below meth c S hR hS ls hl
  obtain ⟨hx, hb, hml, hown, hts⟩ := S.1.1
  have hl : lv_has ls 4 [(0, .ref (mo G)), (1, .int x1), (2, .int x2), (3, .int x3)] := hl
  refine lv_iload_n hx hb dX4_shelf_0 rfl (lv_at hl 1 rfl) ?_
  refine s_call (As := [.int x1]) (rest := []) S.1.1 (met_X4_isShelf rfl) wi_X4_isShelf q3086 ⟨rfl, rfl⟩ ⟨Nat.le_of_ble_eq_true rfl, Nat.le_of_ble_eq_true rfl⟩ rfl hl.1 rfl (Nat.le_of_ble_eq_true rfl) dX4_shelf_1 ⟨Nat.zero_le _, Nat.zero_le _⟩ ?_
  refine lv_if_eq (tgt := 40) hx hb dX4_shelf_4 (by decide) (fun c_4 => ?_) (fun c_4 => ?_)
  · replace hf := o_t hf c_4
    refine lv_bipush (v := -2) hx hb dX4_shelf_40 (by decide) ?_
    obtain rfl := Option.some.inj hf
    exact m_iret S hR hS rfl dX4_shelf_42
  · replace hf := o_f hf c_4
    refine lv_iload_n hx hb dX4_shelf_7 rfl (lv_at hl 2 rfl) ?_
    refine lv_iconst (v := 0) hx hb dX4_shelf_8 (by decide) ?_
    refine lv_iconst (v := 2) hx hb dX4_shelf_9 (by decide) ?_
    refine s_call (As := [.int x2, .int (0 : Int32), .int (2 : Int32)]) (rest := []) S.1.1 (met_X4_in rfl) wi_X4_in q2681 ⟨rfl, rfl⟩ ⟨Nat.le_of_ble_eq_true rfl, Nat.le_of_ble_eq_true rfl⟩ rfl hl.1 rfl (Nat.le_of_ble_eq_true rfl) dX4_shelf_10 ⟨Nat.zero_le _, Nat.zero_le _⟩ ?_
    refine lv_if_eq (tgt := 40) hx hb dX4_shelf_13 (by decide) (fun c_13 => ?_) (fun c_13 => ?_)
    · replace hf := o_t hf c_13
      refine lv_bipush (v := -2) hx hb dX4_shelf_40 (by decide) ?_
      obtain rfl := Option.some.inj hf
      exact m_iret S hR hS rfl dX4_shelf_42
    · replace hf := o_f hf c_13
      refine lv_iload_n hx hb dX4_shelf_16 rfl (lv_at hl 2 rfl) ?_
      refine lv_if_ne (tgt := 28) hx hb dX4_shelf_17 (by decide) (fun c_17 => ?_) (fun c_17 => ?_)
      · replace hf := o_f hf c_17
        exact wJX4_shelf_28 S hf _ _ _ hR hS hl
      · replace hf := o_t hf c_17
        refine lv_aload_n hx hb dX4_shelf_20 rfl (lv_at hl 0 rfl) ?_
        refine lv_iload_n hx hb dX4_shelf_21 rfl (lv_at hl 3 rfl) ?_
        refine m_call (As := [.int x3]) (rest := []) S hR hS (met_X4_isPoint rfl) wi_X4_isPoint rfl q2696 ⟨rfl, rfl⟩ ⟨Nat.le_of_ble_eq_true rfl, Nat.le_of_ble_eq_true rfl⟩ rfl hl.1 rfl (Nat.le_of_ble_eq_true rfl) dX4_shelf_22 (fun H locs hR hS => ?_)
        refine lv_if_eq (tgt := 40) hx hb dX4_shelf_25 (by decide) (fun c_25 => ?_) (fun c_25 => ?_)
        · replace hf := o_t hf c_25
          refine lv_bipush (v := -2) hx hb dX4_shelf_40 (by decide) ?_
          obtain rfl := Option.some.inj hf
          exact m_iret S hR hS rfl dX4_shelf_42
        · replace hf := o_f hf c_25
          exact wJX4_shelf_28 S hf _ _ _ hR hS hl

noncomputable def fX4_over (x0 : Int32) : Int32 :=
  if x0 = (0 : Int32) then (-1 : Int32) else if (3 : Int32) ≤ x0 then if x0 = (3 : Int32) then (1 : Int32) else if x0 = (4 : Int32) then (2 : Int32) else (3 : Int32) else (0 : Int32)
theorem wi_X4_over : wInfS yX4_over cX4_over 1 (Option.some Jvm.ClassFile.FieldType.int) 1 := ⟨q3094, q116, q3095, (by decide +kernel), (by decide +kernel), (by decide +kernel)⟩
set_option maxHeartbeats 4000000 in
set_option maxRecDepth 100000 in
theorem met_X4_over {l : Launch} {x0 : Int32} {res : Int32} (hf : fX4_over x0 = res) : sMet l yX4_over cX4_over 1 (Option.some Jvm.ClassFile.FieldType.int) (mRm 0 0) [.int x0] (some (.int res)) := by
  replace hf : (if x0 = (0 : Int32) then (-1 : Int32) else if (3 : Int32) ≤ x0 then if x0 = (3 : Int32) then (1 : Int32) else if x0 = (4 : Int32) then (2 : Int32) else (3 : Int32) else (0 : Int32)) = res := hf
  refine s_start (by decide) (Nat.le_of_ble_eq_true rfl) ?_
  intro p e s m args below meth c S ls hl
  obtain ⟨hx, hb, hml, hown, hts⟩ := S.1
  have hl : lv_has ls 1 [(0, .int x0)] := hl
  refine lv_iload_n hx hb dX4_over_0 rfl (lv_at hl 0 rfl) ?_
  refine lv_if_ne (tgt := 8) hx hb dX4_over_1 (by decide) (fun c_1 => ?_) (fun c_1 => ?_)
  · replace hf := o_f hf c_1
    refine lv_iload_n hx hb dX4_over_8 rfl (lv_at hl 0 rfl) ?_
    refine lv_iconst (v := 3) hx hb dX4_over_9 (by decide) ?_
    refine lv_icmp_ge (tgt := 17) hx hb dX4_over_10 (by decide) (fun c_10 => ?_) (fun c_10 => ?_)
    · replace hf := o_t hf c_10
      refine lv_iload_n hx hb dX4_over_17 rfl (lv_at hl 0 rfl) ?_
      refine lv_iconst (v := 3) hx hb dX4_over_18 (by decide) ?_
      refine lv_icmp_ne (tgt := 26) hx hb dX4_over_19 (by decide) (fun c_19 => ?_) (fun c_19 => ?_)
      · replace hf := o_f hf c_19
        refine lv_iload_n hx hb dX4_over_26 rfl (lv_at hl 0 rfl) ?_
        refine lv_iconst (v := 4) hx hb dX4_over_27 (by decide) ?_
        refine lv_icmp_ne (tgt := 35) hx hb dX4_over_28 (by decide) (fun c_28 => ?_) (fun c_28 => ?_)
        · replace hf := o_f hf c_28
          refine lv_iconst (v := 3) hx hb dX4_over_35 (by decide) ?_
          subst hf
          exact s_iret S rfl dX4_over_36
        · replace hf := o_t hf c_28
          refine lv_iconst (v := 2) hx hb dX4_over_31 (by decide) ?_
          refine lv_goto (tgt := 36) hx hb dX4_over_32 (by decide) ?_
          subst hf
          exact s_iret S rfl dX4_over_36
      · replace hf := o_t hf c_19
        refine lv_iconst (v := 1) hx hb dX4_over_22 (by decide) ?_
        refine lv_goto (tgt := 36) hx hb dX4_over_23 (by decide) ?_
        subst hf
        exact s_iret S rfl dX4_over_36
    · replace hf := o_f hf c_10
      refine lv_iconst (v := 0) hx hb dX4_over_13 (by decide) ?_
      refine lv_goto (tgt := 36) hx hb dX4_over_14 (by decide) ?_
      subst hf
      exact s_iret S rfl dX4_over_36
  · replace hf := o_t hf c_1
    refine lv_iconst (v := -1) hx hb dX4_over_4 (by decide) ?_
    refine lv_goto (tgt := 36) hx hb dX4_over_5 (by decide) ?_
    subst hf
    exact s_iret S rfl dX4_over_36

noncomputable def LX4_taken_112 (y1 : Int32) (y2 : Int32) (σ : mS) (q : Int32) : Option ((Int32) ⊕ (Int32)) :=
  if q = (-1 : Int32) then some (Sum.inr q) else if q = y2 then some (Sum.inr q) else (some (fX4_over q)).bind (fun v6 => some (Sum.inl v6))
noncomputable def JX4_taken_130 (y1 : Int32) (y2 : Int32) (y3 : Int32) (σ : mS) : Option Int32 :=
  if y3 = y2 then (mald σ 47 y1).bind (fun v8 => some v8) else some (-13 : Int32)
noncomputable def JX4_taken_65 (y1 : Int32) (y2 : Int32) (σ : mS) : Option Int32 :=
  (mald σ 46 y1).bind (fun v3 => if v3 = (1 : Int32) then (mald σ 48 y1).bind (fun v9 => if v9 = (y2 - (10 : Int32)) then (mald σ 49 y1).bind (fun v10 => some v10) else some (-13 : Int32)) else (mald σ 47 y1).bind (fun v4 => (mald σ 2 v4).bind (fun v5 => (lpw (LX4_taken_112 y1 y2 σ) v5).bind (fun b7 => JX4_taken_130 y1 y2 b7 σ))))
noncomputable def JX4_taken_30 (y1 : Int32) (y2 : Int32) (σ : mS) : Option Int32 :=
  (mald σ 46 y1).bind (fun v1 => if v1 = (2 : Int32) then some (-11 : Int32) else (mald σ 46 y1).bind (fun v2 => if v2 = (0 : Int32) then (mald σ 47 y1).bind (fun v11 => if (fX4_isPoint v11 σ) = (0 : Int32) then some (-11 : Int32) else JX4_taken_65 y1 y2 σ) else JX4_taken_65 y1 y2 σ))
noncomputable def fX4_taken (x1 : Int32) (x2 : Int32) (σ : mS) : Option Int32 :=
  if (fX4_isShelf x1) = (0 : Int32) then some (-2 : Int32) else if (fX4_in x2 (0 : Int32) (5 : Int32)) = (0 : Int32) then if (fX4_in x2 (10 : Int32) (12 : Int32)) = (0 : Int32) then some (-2 : Int32) else JX4_taken_30 x1 x2 σ else JX4_taken_30 x1 x2 σ
theorem wi_X4_taken : wInfV yX4_taken cX4_taken 4 (Option.some Jvm.ClassFile.FieldType.int) 2 := ⟨q3090, q3091, q116, q3092, (by decide +kernel), (by decide +kernel), (by decide +kernel)⟩
set_option maxHeartbeats 4000000 in
set_option maxRecDepth 100000 in
theorem wbLX4_taken_112 {l : Launch} {G : mG} {p : Program} {e : Env} {s : State} {m : MethodId} {args : Array Value} {below : List Frame} {meth : Method} {c : Code} {Q : State → Prop} {y1 : Int32} {y2 : Int32} {σ : mS} {q : Int32} {res : (Int32) ⊕ (Int32)} (S : mSt G p m c cX4_taken 4 s args meth (Option.some Jvm.ClassFile.FieldType.int)) (hf : LX4_taken_112 y1 y2 σ q = some res) (hK : ∀ q, res = Sum.inl q → (∀ (H : Heap) (locs : List Loc) (ls : Array Slot), mR G σ H → va_S (mA G) s.heap H locs → lv_has ls 4 [(0, .ref (mo G)), (1, .int y1), (2, .int y2), (3, .int q)] → W p l e (mRm 2 43) s m args below meth c H locs 0 0 Q (F0 m 112 ls []))) (hE130 : ∀ b, res = Sum.inr b → (∀ (H : Heap) (locs : List Loc) (ls : Array Slot), mR G σ H → va_S (mA G) s.heap H locs → lv_has ls 4 [(0, .ref (mo G)), (1, .int y1), (2, .int y2), (3, .int b)] → W p l e (mRm 2 43) s m args below meth c H locs 0 0 Q (F0 m 130 ls []))) : (∀ (H : Heap) (locs : List Loc) (ls : Array Slot), mR G σ H → va_S (mA G) s.heap H locs → lv_has ls 4 [(0, .ref (mo G)), (1, .int y1), (2, .int y2), (3, .int q)] → W p l e (mRm 2 43) s m args below meth c H locs 0 0 Q (F0 m 112 ls [])) := by
  replace hf : (if q = (-1 : Int32) then some (Sum.inr q) else if q = y2 then some (Sum.inr q) else (some (fX4_over q)).bind (fun v6 => some (Sum.inl v6))) = some res := hf
  obtain ⟨hx, hb, hml, hown, hts⟩ := S.1.1
  intro H locs ls hR hS hl
  refine lv_iload_n hx hb dX4_taken_112 rfl (lv_at hl 3 rfl) ?_
  refine lv_iconst (v := -1) hx hb dX4_taken_113 (by decide) ?_
  refine lv_icmp_eq (tgt := 130) hx hb dX4_taken_114 (by decide) (fun c_114 => ?_) (fun c_114 => ?_)
  · replace hf := o_t hf c_114
    exact hE130 _ (Option.some.inj hf).symm _ _ _ hR hS hl
  · replace hf := o_f hf c_114
    refine lv_iload_n hx hb dX4_taken_117 rfl (lv_at hl 3 rfl) ?_
    refine lv_iload_n hx hb dX4_taken_118 rfl (lv_at hl 2 rfl) ?_
    refine lv_icmp_eq (tgt := 130) hx hb dX4_taken_119 (by decide) (fun c_119 => ?_) (fun c_119 => ?_)
    · replace hf := o_t hf c_119
      exact hE130 _ (Option.some.inj hf).symm _ _ _ hR hS hl
    · replace hf := o_f hf c_119
      refine lv_iload_n hx hb dX4_taken_122 rfl (lv_at hl 3 rfl) ?_
      refine s_call (As := [.int q]) (rest := []) S.1.1 (met_X4_over rfl) wi_X4_over q3093 ⟨rfl, rfl⟩ ⟨Nat.le_of_ble_eq_true rfl, Nat.le_of_ble_eq_true rfl⟩ rfl hl.1 rfl (Nat.le_of_ble_eq_true rfl) dX4_taken_123 ⟨Nat.zero_le _, Nat.zero_le _⟩ ?_
      refine k_bind hf (fun v6 hv6 hf => ?_)
      refine m_nmi hv6 ?_
      refine lv_istore_n (lv' := [(3, .int v6), (0, .ref (mo G)), (1, .int y1), (2, .int y2)]) hx hb dX4_taken_126 rfl hl (by decide) rfl (fun ls hl => ?_)
      refine lv_goto (tgt := 112) hx hb dX4_taken_127 (by decide) ?_
      exact hK _ (Option.some.inj hf).symm _ _ _ hR hS (lv_sub (l' := [(0, .ref (mo G)), (1, .int y1), (2, .int y2), (3, .int v6)]) hl [1, 2, 3, 0] rfl)
set_option maxHeartbeats 4000000 in
set_option maxRecDepth 100000 in
theorem wLX4_taken_112 {l : Launch} {G : mG} {p : Program} {e : Env} {s : State} {m : MethodId} {args : Array Value} {below : List Frame} {meth : Method} {c : Code} {Q : State → Prop} {y1 : Int32} {y2 : Int32} {σ : mS} {q : Int32} {res : Int32} (S : mSt G p m c cX4_taken 4 s args meth (Option.some Jvm.ClassFile.FieldType.int)) (h : lpw (LX4_taken_112 y1 y2 σ) q = some res) (hE130 : ∀ b, res = b → (∀ (H : Heap) (locs : List Loc) (ls : Array Slot), mR G σ H → va_S (mA G) s.heap H locs → lv_has ls 4 [(0, .ref (mo G)), (1, .int y1), (2, .int y2), (3, .int b)] → W p l e (mRm 2 43) s m args below meth c H locs 0 0 Q (F0 m 130 ls []))) : (∀ (H : Heap) (locs : List Loc) (ls : Array Slot), mR G σ H → va_S (mA G) s.heap H locs → lv_has ls 4 [(0, .ref (mo G)), (1, .int y1), (2, .int y2), (3, .int q)] → W p l e (mRm 2 43) s m args below meth c H locs 0 0 Q (F0 m 112 ls [])) :=
  lpw_go _ (fun q => (∀ (H : Heap) (locs : List Loc) (ls : Array Slot), mR G σ H → va_S (mA G) s.heap H locs → lv_has ls 4 [(0, .ref (mo G)), (1, .int y1), (2, .int y2), (3, .int q)] → W p l e (mRm 2 43) s m args below meth c H locs 0 0 Q (F0 m 112 ls []))) (fun b0 => (∀ b, b0 = b → (∀ (H : Heap) (locs : List Loc) (ls : Array Slot), mR G σ H → va_S (mA G) s.heap H locs → lv_has ls 4 [(0, .ref (mo G)), (1, .int y1), (2, .int y2), (3, .int b)] → W p l e (mRm 2 43) s m args below meth c H locs 0 0 Q (F0 m 130 ls [])))) (fun q x hf hK hX => wbLX4_taken_112 S hf hK (fun b eb => (hX _ eb) b rfl)) q res h hE130
set_option maxHeartbeats 4000000 in
set_option maxRecDepth 100000 in
theorem wJX4_taken_130 {l : Launch} {G : mG} {p : Program} {e : Env} {s : State} {m : MethodId} {args : Array Value} {below : List Frame} {meth : Method} {c : Code} {y1 : Int32} {y2 : Int32} {y3 : Int32} {σ : mS} {res : Int32} (S : mSt G p m c cX4_taken 4 s args meth (Option.some Jvm.ClassFile.FieldType.int)) (hf : JX4_taken_130 y1 y2 y3 σ = some res) : ∀ (H : Heap) (locs : List Loc) (ls : Array Slot), mR G σ H → va_S (mA G) s.heap H locs → lv_has ls 4 [(0, .ref (mo G)), (1, .int y1), (2, .int y2), (3, .int y3)] → W p l e (mRm 2 43) s m args below meth c H locs 0 0 (MQ below (mQ G (some (.int res)) σ) args s 0 0 (mA G)) (F0 m 130 ls []) := by
  replace hf : (if y3 = y2 then (mald σ 47 y1).bind (fun v8 => some v8) else some (-13 : Int32)) = some res := hf
  obtain ⟨hx, hb, hml, hown, hts⟩ := S.1.1
  intro H locs ls hR hS hl
  refine lv_iload_n hx hb dX4_taken_130 rfl (lv_at hl 3 rfl) ?_
  refine lv_iload_n hx hb dX4_taken_131 rfl (lv_at hl 2 rfl) ?_
  refine lv_icmp_ne (tgt := 144) hx hb dX4_taken_132 (by decide) (fun c_132 => ?_) (fun c_132 => ?_)
  · replace hf := o_f hf c_132
    refine lv_bipush (v := -13) hx hb dX4_taken_144 (by decide) ?_
    obtain rfl := Option.some.inj hf
    exact m_iret S hR hS rfl dX4_taken_146
  · replace hf := o_t hf c_132
    refine lv_aload_n hx hb dX4_taken_135 rfl (lv_at hl 0 rfl) ?_
    refine m_geta (k := 47) S hR (by decide) (by decide) q2573 dX4_taken_136 ?_
    refine lv_iload_n hx hb dX4_taken_139 rfl (lv_at hl 1 rfl) ?_
    refine k_bind hf (fun v8 hv8 hf => ?_)
    refine m_iald S hR hv8 dX4_taken_140 ?_
    refine lv_goto (tgt := 146) hx hb dX4_taken_141 (by decide) ?_
    obtain rfl := Option.some.inj hf
    exact m_iret S hR hS rfl dX4_taken_146
set_option maxHeartbeats 4000000 in
set_option maxRecDepth 100000 in
theorem wJX4_taken_65 {l : Launch} {G : mG} {p : Program} {e : Env} {s : State} {m : MethodId} {args : Array Value} {below : List Frame} {meth : Method} {c : Code} {y1 : Int32} {y2 : Int32} {σ : mS} {res : Int32} (S : mSt G p m c cX4_taken 4 s args meth (Option.some Jvm.ClassFile.FieldType.int)) (hf : JX4_taken_65 y1 y2 σ = some res) : ∀ (H : Heap) (locs : List Loc) (ls : Array Slot), mR G σ H → va_S (mA G) s.heap H locs → lv_has ls 4 [(0, .ref (mo G)), (1, .int y1), (2, .int y2)] → W p l e (mRm 2 43) s m args below meth c H locs 0 0 (MQ below (mQ G (some (.int res)) σ) args s 0 0 (mA G)) (F0 m 65 ls []) := by
  replace hf : ((mald σ 46 y1).bind (fun v3 => if v3 = (1 : Int32) then (mald σ 48 y1).bind (fun v9 => if v9 = (y2 - (10 : Int32)) then (mald σ 49 y1).bind (fun v10 => some v10) else some (-13 : Int32)) else (mald σ 47 y1).bind (fun v4 => (mald σ 2 v4).bind (fun v5 => (lpw (LX4_taken_112 y1 y2 σ) v5).bind (fun b7 => JX4_taken_130 y1 y2 b7 σ))))) = some res := hf
  obtain ⟨hx, hb, hml, hown, hts⟩ := S.1.1
  intro H locs ls hR hS hl
  refine lv_aload_n hx hb dX4_taken_65 rfl (lv_at hl 0 rfl) ?_
  refine m_geta (k := 46) S hR (by decide) (by decide) q2572 dX4_taken_66 ?_
  refine lv_iload_n hx hb dX4_taken_69 rfl (lv_at hl 1 rfl) ?_
  refine k_bind hf (fun v3 hv3 hf => ?_)
  refine m_iald S hR hv3 dX4_taken_70 ?_
  refine lv_iconst (v := 1) hx hb dX4_taken_71 (by decide) ?_
  refine lv_icmp_ne (tgt := 100) hx hb dX4_taken_72 (by decide) (fun c_72 => ?_) (fun c_72 => ?_)
  · replace hf := o_f hf c_72
    refine lv_aload_n hx hb dX4_taken_100 rfl (lv_at hl 0 rfl) ?_
    refine m_geta (k := 2) S hR (by decide) (by decide) q2528 dX4_taken_101 ?_
    refine lv_aload_n hx hb dX4_taken_104 rfl (lv_at hl 0 rfl) ?_
    refine m_geta (k := 47) S hR (by decide) (by decide) q2573 dX4_taken_105 ?_
    refine lv_iload_n hx hb dX4_taken_108 rfl (lv_at hl 1 rfl) ?_
    refine k_bind hf (fun v4 hv4 hf => ?_)
    refine m_iald S hR hv4 dX4_taken_109 ?_
    refine k_bind hf (fun v5 hv5 hf => ?_)
    refine m_iald S hR hv5 dX4_taken_110 ?_
    refine lv_istore_n (lv' := [(3, .int v5), (0, .ref (mo G)), (1, .int y1), (2, .int y2)]) hx hb dX4_taken_111 rfl hl (by decide) rfl (fun ls hl => ?_)
    refine k_bind hf (fun b7 hb7 hf => ?_)
    refine wLX4_taken_112 S hb7 ?_ _ _ _ hR hS (lv_sub (l' := [(0, .ref (mo G)), (1, .int y1), (2, .int y2), (3, .int v5)]) hl [1, 2, 3, 0] rfl)
    · intro b eb; subst eb; intro H locs ls hR hS hl
      exact wJX4_taken_130 S hf _ _ _ hR hS hl
  · replace hf := o_t hf c_72
    refine lv_aload_n hx hb dX4_taken_75 rfl (lv_at hl 0 rfl) ?_
    refine m_geta (k := 48) S hR (by decide) (by decide) q2574 dX4_taken_76 ?_
    refine lv_iload_n hx hb dX4_taken_79 rfl (lv_at hl 1 rfl) ?_
    refine k_bind hf (fun v9 hv9 hf => ?_)
    refine m_iald S hR hv9 dX4_taken_80 ?_
    refine lv_iload_n hx hb dX4_taken_81 rfl (lv_at hl 2 rfl) ?_
    refine lv_bipush (v := 10) hx hb dX4_taken_82 (by decide) ?_
    refine lv_isub hx hb dX4_taken_84 ?_
    refine lv_icmp_ne (tgt := 97) hx hb dX4_taken_85 (by decide) (fun c_85 => ?_) (fun c_85 => ?_)
    · replace hf := o_f hf c_85
      refine lv_bipush (v := -13) hx hb dX4_taken_97 (by decide) ?_
      obtain rfl := Option.some.inj hf
      exact m_iret S hR hS rfl dX4_taken_99
    · replace hf := o_t hf c_85
      refine lv_aload_n hx hb dX4_taken_88 rfl (lv_at hl 0 rfl) ?_
      refine m_geta (k := 49) S hR (by decide) (by decide) q2575 dX4_taken_89 ?_
      refine lv_iload_n hx hb dX4_taken_92 rfl (lv_at hl 1 rfl) ?_
      refine k_bind hf (fun v10 hv10 hf => ?_)
      refine m_iald S hR hv10 dX4_taken_93 ?_
      refine lv_goto (tgt := 99) hx hb dX4_taken_94 (by decide) ?_
      obtain rfl := Option.some.inj hf
      exact m_iret S hR hS rfl dX4_taken_99
set_option maxHeartbeats 4000000 in
set_option maxRecDepth 100000 in
theorem wJX4_taken_30 {l : Launch} {G : mG} {p : Program} {e : Env} {s : State} {m : MethodId} {args : Array Value} {below : List Frame} {meth : Method} {c : Code} {y1 : Int32} {y2 : Int32} {σ : mS} {res : Int32} (S : mSt G p m c cX4_taken 4 s args meth (Option.some Jvm.ClassFile.FieldType.int)) (hf : JX4_taken_30 y1 y2 σ = some res) : ∀ (H : Heap) (locs : List Loc) (ls : Array Slot), mR G σ H → va_S (mA G) s.heap H locs → lv_has ls 4 [(0, .ref (mo G)), (1, .int y1), (2, .int y2)] → W p l e (mRm 2 43) s m args below meth c H locs 0 0 (MQ below (mQ G (some (.int res)) σ) args s 0 0 (mA G)) (F0 m 30 ls []) := by
  replace hf : ((mald σ 46 y1).bind (fun v1 => if v1 = (2 : Int32) then some (-11 : Int32) else (mald σ 46 y1).bind (fun v2 => if v2 = (0 : Int32) then (mald σ 47 y1).bind (fun v11 => if (fX4_isPoint v11 σ) = (0 : Int32) then some (-11 : Int32) else JX4_taken_65 y1 y2 σ) else JX4_taken_65 y1 y2 σ))) = some res := hf
  obtain ⟨hx, hb, hml, hown, hts⟩ := S.1.1
  intro H locs ls hR hS hl
  refine lv_aload_n hx hb dX4_taken_30 rfl (lv_at hl 0 rfl) ?_
  refine m_geta (k := 46) S hR (by decide) (by decide) q2572 dX4_taken_31 ?_
  refine lv_iload_n hx hb dX4_taken_34 rfl (lv_at hl 1 rfl) ?_
  refine k_bind hf (fun v1 hv1 hf => ?_)
  refine m_iald S hR hv1 dX4_taken_35 ?_
  refine lv_iconst (v := 2) hx hb dX4_taken_36 (by decide) ?_
  refine lv_icmp_eq (tgt := 62) hx hb dX4_taken_37 (by decide) (fun c_37 => ?_) (fun c_37 => ?_)
  · replace hf := o_t hf c_37
    refine lv_bipush (v := -11) hx hb dX4_taken_62 (by decide) ?_
    obtain rfl := Option.some.inj hf
    exact m_iret S hR hS rfl dX4_taken_64
  · replace hf := o_f hf c_37
    refine lv_aload_n hx hb dX4_taken_40 rfl (lv_at hl 0 rfl) ?_
    refine m_geta (k := 46) S hR (by decide) (by decide) q2572 dX4_taken_41 ?_
    refine lv_iload_n hx hb dX4_taken_44 rfl (lv_at hl 1 rfl) ?_
    refine k_bind hf (fun v2 hv2 hf => ?_)
    refine m_iald S hR hv2 dX4_taken_45 ?_
    refine lv_if_ne (tgt := 65) hx hb dX4_taken_46 (by decide) (fun c_46 => ?_) (fun c_46 => ?_)
    · replace hf := o_f hf c_46
      exact wJX4_taken_65 S hf _ _ _ hR hS hl
    · replace hf := o_t hf c_46
      refine lv_aload_n hx hb dX4_taken_49 rfl (lv_at hl 0 rfl) ?_
      refine lv_aload_n hx hb dX4_taken_50 rfl (lv_at hl 0 rfl) ?_
      refine m_geta (k := 47) S hR (by decide) (by decide) q2573 dX4_taken_51 ?_
      refine lv_iload_n hx hb dX4_taken_54 rfl (lv_at hl 1 rfl) ?_
      refine k_bind hf (fun v11 hv11 hf => ?_)
      refine m_iald S hR hv11 dX4_taken_55 ?_
      refine m_call (As := [.int v11]) (rest := []) S hR hS (met_X4_isPoint rfl) wi_X4_isPoint rfl q2696 ⟨rfl, rfl⟩ ⟨Nat.le_of_ble_eq_true rfl, Nat.le_of_ble_eq_true rfl⟩ rfl hl.1 rfl (Nat.le_of_ble_eq_true rfl) dX4_taken_56 (fun H locs hR hS => ?_)
      refine lv_if_ne (tgt := 65) hx hb dX4_taken_59 (by decide) (fun c_59 => ?_) (fun c_59 => ?_)
      · replace hf := o_f hf c_59
        exact wJX4_taken_65 S hf _ _ _ hR hS hl
      · replace hf := o_t hf c_59
        refine lv_bipush (v := -11) hx hb dX4_taken_62 (by decide) ?_
        obtain rfl := Option.some.inj hf
        exact m_iret S hR hS rfl dX4_taken_64
set_option maxHeartbeats 4000000 in
set_option maxRecDepth 100000 in
theorem met_X4_taken {l : Launch} {G : mG} {x1 : Int32} {x2 : Int32} {σ : mS} {res : Int32} (hf : fX4_taken x1 x2 σ = some res) : mMet l yX4_taken cX4_taken 4 (Option.some Jvm.ClassFile.FieldType.int) (mRm 2 43) G [.ref (mo G), .int x1, .int x2] σ (some (.int res)) σ := by
  replace hf : (if (fX4_isShelf x1) = (0 : Int32) then some (-2 : Int32) else if (fX4_in x2 (0 : Int32) (5 : Int32)) = (0 : Int32) then if (fX4_in x2 (10 : Int32) (12 : Int32)) = (0 : Int32) then some (-2 : Int32) else JX4_taken_30 x1 x2 σ else JX4_taken_30 x1 x2 σ) = some res := hf
  refine m_start (by decide) rfl (Nat.le_of_ble_eq_true rfl) ?_
  intro p e s m args below meth c S hR hS ls hl
  obtain ⟨hx, hb, hml, hown, hts⟩ := S.1.1
  have hl : lv_has ls 4 [(0, .ref (mo G)), (1, .int x1), (2, .int x2)] := hl
  refine lv_iload_n hx hb dX4_taken_0 rfl (lv_at hl 1 rfl) ?_
  refine s_call (As := [.int x1]) (rest := []) S.1.1 (met_X4_isShelf rfl) wi_X4_isShelf q3086 ⟨rfl, rfl⟩ ⟨Nat.le_of_ble_eq_true rfl, Nat.le_of_ble_eq_true rfl⟩ rfl hl.1 rfl (Nat.le_of_ble_eq_true rfl) dX4_taken_1 ⟨Nat.zero_le _, Nat.zero_le _⟩ ?_
  refine lv_if_eq (tgt := 27) hx hb dX4_taken_4 (by decide) (fun c_4 => ?_) (fun c_4 => ?_)
  · replace hf := o_t hf c_4
    refine lv_bipush (v := -2) hx hb dX4_taken_27 (by decide) ?_
    obtain rfl := Option.some.inj hf
    exact m_iret S hR hS rfl dX4_taken_29
  · replace hf := o_f hf c_4
    refine lv_iload_n hx hb dX4_taken_7 rfl (lv_at hl 2 rfl) ?_
    refine lv_iconst (v := 0) hx hb dX4_taken_8 (by decide) ?_
    refine lv_iconst (v := 5) hx hb dX4_taken_9 (by decide) ?_
    refine s_call (As := [.int x2, .int (0 : Int32), .int (5 : Int32)]) (rest := []) S.1.1 (met_X4_in rfl) wi_X4_in q2681 ⟨rfl, rfl⟩ ⟨Nat.le_of_ble_eq_true rfl, Nat.le_of_ble_eq_true rfl⟩ rfl hl.1 rfl (Nat.le_of_ble_eq_true rfl) dX4_taken_10 ⟨Nat.zero_le _, Nat.zero_le _⟩ ?_
    refine lv_if_ne (tgt := 30) hx hb dX4_taken_13 (by decide) (fun c_13 => ?_) (fun c_13 => ?_)
    · replace hf := o_f hf c_13
      exact wJX4_taken_30 S hf _ _ _ hR hS hl
    · replace hf := o_t hf c_13
      refine lv_iload_n hx hb dX4_taken_16 rfl (lv_at hl 2 rfl) ?_
      refine lv_bipush (v := 10) hx hb dX4_taken_17 (by decide) ?_
      refine lv_bipush (v := 12) hx hb dX4_taken_19 (by decide) ?_
      refine s_call (As := [.int x2, .int (10 : Int32), .int (12 : Int32)]) (rest := []) S.1.1 (met_X4_in rfl) wi_X4_in q2681 ⟨rfl, rfl⟩ ⟨Nat.le_of_ble_eq_true rfl, Nat.le_of_ble_eq_true rfl⟩ rfl hl.1 rfl (Nat.le_of_ble_eq_true rfl) dX4_taken_21 ⟨Nat.zero_le _, Nat.zero_le _⟩ ?_
      refine lv_if_ne (tgt := 30) hx hb dX4_taken_24 (by decide) (fun c_24 => ?_) (fun c_24 => ?_)
      · replace hf := o_f hf c_24
        exact wJX4_taken_30 S hf _ _ _ hR hS hl
      · replace hf := o_t hf c_24
        refine lv_bipush (v := -2) hx hb dX4_taken_27 (by decide) ?_
        obtain rfl := Option.some.inj hf
        exact m_iret S hR hS rfl dX4_taken_29

noncomputable def fX4_image (σ : mS) : Option (Int32 × mS) :=
  (fX4_keeps 41 σ).bind (fun e1 => (mput e1 42 (1 : Int32)).bind (fun σ2 => some ((σ2.1 0), σ2)))
theorem wi_X4_image : wInfV yX4_image cX4_image 1 (Option.some Jvm.ClassFile.FieldType.int) 0 := ⟨q3097, q3098, q116, q3099, (by decide +kernel), (by decide +kernel), (by decide +kernel)⟩
set_option maxHeartbeats 4000000 in
set_option maxRecDepth 100000 in
theorem met_X4_image {l : Launch} {G : mG} {σ : mS} {res : Int32 × mS} (hf : fX4_image σ = some res) : mMet l yX4_image cX4_image 1 (Option.some Jvm.ClassFile.FieldType.int) (mRm 1 22) G [.ref (mo G)] σ (some (.int res.1)) res.2 := by
  replace hf : ((fX4_keeps 41 σ).bind (fun e1 => (mput e1 42 (1 : Int32)).bind (fun σ2 => some ((σ2.1 0), σ2)))) = some res := hf
  refine m_start (by decide) rfl (Nat.le_of_ble_eq_true rfl) ?_
  intro p e s m args below meth c S hR hS ls hl
  obtain ⟨hx, hb, hml, hown, hts⟩ := S.1.1
  have hl : lv_has ls 1 [(0, .ref (mo G))] := hl
  refine lv_aload_n hx hb dX4_image_0 rfl (lv_at hl 0 rfl) ?_
  refine lv_aload_n hx hb dX4_image_1 rfl (lv_at hl 0 rfl) ?_
  refine m_geta (k := 41) S hR (by decide) (by decide) q2567 dX4_image_2 ?_
  refine k_bind hf (fun e1 he1 hf => ?_)
  refine m_call (As := [.ref (mad G 41)]) (rest := []) S hR hS (met_X4_keeps he1) wi_X4_keeps rfl q3046 ⟨rfl, rfl⟩ ⟨Nat.le_of_ble_eq_true rfl, Nat.le_of_ble_eq_true rfl⟩ rfl hl.1 rfl (Nat.le_of_ble_eq_true rfl) dX4_image_5 (fun H locs hR hS => ?_)
  refine lv_aload_n hx hb dX4_image_8 rfl (lv_at hl 0 rfl) ?_
  refine lv_iconst (v := 1) hx hb dX4_image_9 (by decide) ?_
  refine k_bind hf (fun σ2 hσ2 hf => ?_)
  refine m_puti (k := 42) S hR hS hσ2 (by decide) (by decide) rfl rfl rfl rfl q2568 dX4_image_10 (fun H locs hR hS => ?_)
  refine lv_aload_n hx hb dX4_image_13 rfl (lv_at hl 0 rfl) ?_
  refine m_geti (k := 0) S hR (by decide) (by decide) q2526 dX4_image_14 ?_
  obtain rfl := Option.some.inj hf
  exact m_iret S hR hS rfl dX4_image_17

noncomputable def fX4_back (σ : mS) : Option (Int32 × mS) :=
  if (σ.1 42) = (0 : Int32) then some ((-3 : Int32), σ) else (fX4_putsBack 41 σ).bind (fun e1 => some ((e1.1 0), e1))
theorem wi_X4_back : wInfV yX4_back cX4_back 1 (Option.some Jvm.ClassFile.FieldType.int) 0 := ⟨q3101, q3102, q116, q3103, (by decide +kernel), (by decide +kernel), (by decide +kernel)⟩
set_option maxHeartbeats 4000000 in
set_option maxRecDepth 100000 in
theorem met_X4_back {l : Launch} {G : mG} {σ : mS} {res : Int32 × mS} (hf : fX4_back σ = some res) : mMet l yX4_back cX4_back 1 (Option.some Jvm.ClassFile.FieldType.int) (mRm 1 22) G [.ref (mo G)] σ (some (.int res.1)) res.2 := by
  replace hf : (if (σ.1 42) = (0 : Int32) then some ((-3 : Int32), σ) else (fX4_putsBack 41 σ).bind (fun e1 => some ((e1.1 0), e1))) = some res := hf
  refine m_start (by decide) rfl (Nat.le_of_ble_eq_true rfl) ?_
  intro p e s m args below meth c S hR hS ls hl
  obtain ⟨hx, hb, hml, hown, hts⟩ := S.1.1
  have hl : lv_has ls 1 [(0, .ref (mo G))] := hl
  refine lv_aload_n hx hb dX4_back_0 rfl (lv_at hl 0 rfl) ?_
  refine m_geti (k := 42) S hR (by decide) (by decide) q2568 dX4_back_1 ?_
  refine lv_if_ne (tgt := 10) hx hb dX4_back_4 (by decide) (fun c_4 => ?_) (fun c_4 => ?_)
  · replace hf := o_f hf c_4
    refine lv_aload_n hx hb dX4_back_10 rfl (lv_at hl 0 rfl) ?_
    refine lv_aload_n hx hb dX4_back_11 rfl (lv_at hl 0 rfl) ?_
    refine m_geta (k := 41) S hR (by decide) (by decide) q2567 dX4_back_12 ?_
    refine k_bind hf (fun e1 he1 hf => ?_)
    refine m_call (As := [.ref (mad G 41)]) (rest := []) S hR hS (met_X4_putsBack he1) wi_X4_putsBack rfl q3050 ⟨rfl, rfl⟩ ⟨Nat.le_of_ble_eq_true rfl, Nat.le_of_ble_eq_true rfl⟩ rfl hl.1 rfl (Nat.le_of_ble_eq_true rfl) dX4_back_15 (fun H locs hR hS => ?_)
    refine lv_aload_n hx hb dX4_back_18 rfl (lv_at hl 0 rfl) ?_
    refine m_geti (k := 0) S hR (by decide) (by decide) q2526 dX4_back_19 ?_
    obtain rfl := Option.some.inj hf
    exact m_iret S hR hS rfl dX4_back_22
  · replace hf := o_t hf c_4
    refine lv_bipush (v := -3) hx hb dX4_back_7 (by decide) ?_
    obtain rfl := Option.some.inj hf
    exact m_iret S hR hS rfl dX4_back_9
