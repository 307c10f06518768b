/-! the reference, walked: kernels kernel round packsTo pack -/
noncomputable def LX4_kernels_23 (y2 : Int32) (q : mS) : Option ((mS) ⊕ (mS)) :=
  if (q.1 11) < (0 : Int32) then some (Sum.inr q) else if y2 ≤ (q.1 12) then some (Sum.inr q) else (fX4_rules q).bind (fun e5 => if e5.1 = (0 : Int32) then some (Sum.inr e5.2) else (mald e5.2 13 (1 : Int32)).bind (fun v6 => (mput e5.2 9 ((e5.2.1 9) &&& (v6 ^^^ (-1 : Int32)))).bind (fun σ7 => (mald σ7 13 (2 : Int32)).bind (fun v8 => (mput σ7 10 ((σ7.1 10) ||| v8)).bind (fun σ9 => (mald σ9 13 (2 : Int32)).bind (fun v10 => (fX4_bits v10).bind (fun v11 => (mput σ9 11 ((σ9.1 11) - v11)).bind (fun σ12 => (mput σ12 12 ((σ12.1 12) + (1 : Int32))).bind (fun σ13 => some (Sum.inl σ13))))))))))
noncomputable def fX4_kernels (x1 : Int32) (x2 : Int32) (σ : mS) : Option mS :=
  (mput σ 9 (fX4_all σ)).bind (fun σ1 => (mput σ1 10 (0 : Int32)).bind (fun σ2 => (mput σ2 11 x1).bind (fun σ3 => (mput σ3 12 (0 : Int32)).bind (fun σ4 => (lpw (LX4_kernels_23 x2) σ4).bind (fun b14 => some b14)))))
theorem wi_X4_kernels : wInfV yX4_kernels cX4_kernels 3 (Option.none : Option Jvm.ClassFile.FieldType) 2 := ⟨q2863, qs78, q116, q2864, (by decide +kernel), (by decide +kernel), (by decide +kernel)⟩
set_option maxHeartbeats 4000000 in
set_option maxRecDepth 100000 in
theorem wbLX4_kernels_23 {l : Launch} {G : mG} {p : Program} {e : Env} {s : State} {m : MethodId} {args : Array Value} {below : List Frame} {meth : Method} {c : Code} {Q : State → Prop} {y2 : Int32} {q : mS} {res : (mS) ⊕ (mS)} (S : mSt G p m c cX4_kernels 3 s args meth (Option.none : Option Jvm.ClassFile.FieldType)) (hf : LX4_kernels_23 y2 q = some res) (hK : ∀ q, res = Sum.inl q → (∀ (H : Heap) (locs : List Loc) (ls : Array Slot), mR G q H → va_S (mA G) s.heap H locs → lv_has ls 3 [(0, .ref (mo G)), (2, .int y2)] → W p l e (mRm 38 960) s m args below meth c H locs 0 0 Q (F0 m 23 ls []))) (hE108 : ∀ b, res = Sum.inr b → (∀ (H : Heap) (locs : List Loc) (ls : Array Slot), mR G b H → va_S (mA G) s.heap H locs → lv_has ls 3 [(0, .ref (mo G))] → W p l e (mRm 38 960) s m args below meth c H locs 0 0 Q (F0 m 108 ls []))) : (∀ (H : Heap) (locs : List Loc) (ls : Array Slot), mR G q H → va_S (mA G) s.heap H locs → lv_has ls 3 [(0, .ref (mo G)), (2, .int y2)] → W p l e (mRm 38 960) s m args below meth c H locs 0 0 Q (F0 m 23 ls [])) := by
  replace hf : (if (q.1 11) < (0 : Int32) then some (Sum.inr q) else if y2 ≤ (q.1 12) then some (Sum.inr q) else (fX4_rules q).bind (fun e5 => if e5.1 = (0 : Int32) then some (Sum.inr e5.2) else (mald e5.2 13 (1 : Int32)).bind (fun v6 => (mput e5.2 9 ((e5.2.1 9) &&& (v6 ^^^ (-1 : Int32)))).bind (fun σ7 => (mald σ7 13 (2 : Int32)).bind (fun v8 => (mput σ7 10 ((σ7.1 10) ||| v8)).bind (fun σ9 => (mald σ9 13 (2 : Int32)).bind (fun v10 => (fX4_bits v10).bind (fun v11 => (mput σ9 11 ((σ9.1 11) - v11)).bind (fun σ12 => (mput σ12 12 ((σ12.1 12) + (1 : Int32))).bind (fun σ13 => some (Sum.inl σ13))))))))))) = some res := hf
  obtain ⟨hx, hb, hml, hown, hts⟩ := S.1.1
  intro H locs ls hR hS hl
  refine lv_aload_n hx hb dX4_kernels_23 rfl (lv_at hl 0 rfl) ?_
  refine m_geti (k := 11) S hR (by decide) (by decide) q2537 dX4_kernels_24 ?_
  refine lv_if_lt (tgt := 108) hx hb dX4_kernels_27 (by decide) (fun c_27 => ?_) (fun c_27 => ?_)
  · replace hf := o_t hf c_27
    exact hE108 _ (Option.some.inj hf).symm _ _ _ hR hS (lv_sub (l' := [(0, .ref (mo G))]) hl [0] rfl)
  · replace hf := o_f hf c_27
    refine lv_aload_n hx hb dX4_kernels_30 rfl (lv_at hl 0 rfl) ?_
    refine m_geti (k := 12) S hR (by decide) (by decide) q2538 dX4_kernels_31 ?_
    refine lv_iload_n hx hb dX4_kernels_34 rfl (lv_at hl 1 rfl) ?_
    refine lv_icmp_ge (tgt := 108) hx hb dX4_kernels_35 (by decide) (fun c_35 => ?_) (fun c_35 => ?_)
    · replace hf := o_t hf c_35
      exact hE108 _ (Option.some.inj hf).symm _ _ _ hR hS (lv_sub (l' := [(0, .ref (mo G))]) hl [0] rfl)
    · replace hf := o_f hf c_35
      refine lv_aload_n hx hb dX4_kernels_38 rfl (lv_at hl 0 rfl) ?_
      refine k_bind hf (fun e5 he5 hf => ?_)
      refine m_call (As := []) (rest := []) S hR hS (met_X4_rules he5) wi_X4_rules rfl q2865 ⟨rfl, rfl⟩ ⟨Nat.le_of_ble_eq_true rfl, Nat.le_of_ble_eq_true rfl⟩ rfl hl.1 rfl (Nat.le_of_ble_eq_true rfl) dX4_kernels_39 (fun H locs hR hS => ?_)
      refine lv_if_eq (tgt := 108) hx hb dX4_kernels_42 (by decide) (fun c_42 => ?_) (fun c_42 => ?_)
      · replace hf := o_t hf c_42
        exact hE108 _ (Option.some.inj hf).symm _ _ _ hR hS (lv_sub (l' := [(0, .ref (mo G))]) hl [0] rfl)
      · replace hf := o_f hf c_42
        refine lv_aload_n hx hb dX4_kernels_45 rfl (lv_at hl 0 rfl) ?_
        refine lv_dup hx hb dX4_kernels_46 rfl ?_
        refine m_geti (k := 9) S hR (by decide) (by decide) q2535 dX4_kernels_47 ?_
        refine lv_aload_n hx hb dX4_kernels_50 rfl (lv_at hl 0 rfl) ?_
        refine m_geta (k := 13) S hR (by decide) (by decide) q2539 dX4_kernels_51 ?_
        refine lv_iconst (v := 1) hx hb dX4_kernels_54 (by decide) ?_
        refine k_bind hf (fun v6 hv6 hf => ?_)
        refine m_iald S hR hv6 dX4_kernels_55 ?_
        refine lv_iconst (v := -1) hx hb dX4_kernels_56 (by decide) ?_
        refine lv_ixor hx hb dX4_kernels_57 ?_
        refine lv_iand hx hb dX4_kernels_58 ?_
        refine k_bind hf (fun σ7 hσ7 hf => ?_)
        refine m_puti (k := 9) S hR hS hσ7 (by decide) (by decide) rfl rfl rfl rfl q2535 dX4_kernels_59 (fun H locs hR hS => ?_)
        refine lv_aload_n hx hb dX4_kernels_62 rfl (lv_at hl 0 rfl) ?_
        refine lv_dup hx hb dX4_kernels_63 rfl ?_
        refine m_geti (k := 10) S hR (by decide) (by decide) q2536 dX4_kernels_64 ?_
        refine lv_aload_n hx hb dX4_kernels_67 rfl (lv_at hl 0 rfl) ?_
        refine m_geta (k := 13) S hR (by decide) (by decide) q2539 dX4_kernels_68 ?_
        refine lv_iconst (v := 2) hx hb dX4_kernels_71 (by decide) ?_
        refine k_bind hf (fun v8 hv8 hf => ?_)
        refine m_iald S hR hv8 dX4_kernels_72 ?_
        refine lv_ior hx hb dX4_kernels_73 ?_
        refine k_bind hf (fun σ9 hσ9 hf => ?_)
        refine m_puti (k := 10) S hR hS hσ9 (by decide) (by decide) rfl rfl rfl rfl q2536 dX4_kernels_74 (fun H locs hR hS => ?_)
        refine lv_aload_n hx hb dX4_kernels_77 rfl (lv_at hl 0 rfl) ?_
        refine lv_dup hx hb dX4_kernels_78 rfl ?_
        refine m_geti (k := 11) S hR (by decide) (by decide) q2537 dX4_kernels_79 ?_
        refine lv_aload_n hx hb dX4_kernels_82 rfl (lv_at hl 0 rfl) ?_
        refine m_geta (k := 13) S hR (by decide) (by decide) q2539 dX4_kernels_83 ?_
        refine lv_iconst (v := 2) hx hb dX4_kernels_86 (by decide) ?_
        refine k_bind hf (fun v10 hv10 hf => ?_)
        refine m_iald S hR hv10 dX4_kernels_87 ?_
        refine k_bind hf (fun v11 hv11 hf => ?_)
        refine s_call (As := [.int v10]) (rest := [.int (σ9.1 11), .ref (mo G)]) S.1.1 (met_X4_bits hv11) wi_X4_bits q2712 ⟨rfl, rfl⟩ ⟨Nat.le_of_ble_eq_true rfl, Nat.le_of_ble_eq_true rfl⟩ rfl hl.1 rfl (Nat.le_of_ble_eq_true rfl) dX4_kernels_88 ⟨Nat.zero_le _, Nat.zero_le _⟩ ?_
        refine lv_isub hx hb dX4_kernels_91 ?_
        refine k_bind hf (fun σ12 hσ12 hf => ?_)
        refine m_puti (k := 11) S hR hS hσ12 (by decide) (by decide) rfl rfl rfl rfl q2537 dX4_kernels_92 (fun H locs hR hS => ?_)
        refine lv_aload_n hx hb dX4_kernels_95 rfl (lv_at hl 0 rfl) ?_
        refine lv_dup hx hb dX4_kernels_96 rfl ?_
        refine m_geti (k := 12) S hR (by decide) (by decide) q2538 dX4_kernels_97 ?_
        refine lv_iconst (v := 1) hx hb dX4_kernels_100 (by decide) ?_
        refine lv_iadd hx hb dX4_kernels_101 ?_
        refine k_bind hf (fun σ13 hσ13 hf => ?_)
        refine m_puti (k := 12) S hR hS hσ13 (by decide) (by decide) rfl rfl rfl rfl q2538 dX4_kernels_102 (fun H locs hR hS => ?_)
        refine lv_goto (tgt := 23) hx hb dX4_kernels_105 (by decide) ?_
        exact hK _ (Option.some.inj hf).symm _ _ _ hR hS hl
set_option maxHeartbeats 4000000 in
set_option maxRecDepth 100000 in
theorem wLX4_kernels_23 {l : Launch} {G : mG} {p : Program} {e : Env} {s : State} {m : MethodId} {args : Array Value} {below : List Frame} {meth : Method} {c : Code} {Q : State → Prop} {y2 : Int32} {q : mS} {res : mS} (S : mSt G p m c cX4_kernels 3 s args meth (Option.none : Option Jvm.ClassFile.FieldType)) (h : lpw (LX4_kernels_23 y2) q = some res) (hE108 : ∀ b, res = b → (∀ (H : Heap) (locs : List Loc) (ls : Array Slot), mR G b H → va_S (mA G) s.heap H locs → lv_has ls 3 [(0, .ref (mo G))] → W p l e (mRm 38 960) s m args below meth c H locs 0 0 Q (F0 m 108 ls []))) : (∀ (H : Heap) (locs : List Loc) (ls : Array Slot), mR G q H → va_S (mA G) s.heap H locs → lv_has ls 3 [(0, .ref (mo G)), (2, .int y2)] → W p l e (mRm 38 960) s m args below meth c H locs 0 0 Q (F0 m 23 ls [])) :=
  lpw_go _ (fun q => (∀ (H : Heap) (locs : List Loc) (ls : Array Slot), mR G q H → va_S (mA G) s.heap H locs → lv_has ls 3 [(0, .ref (mo G)), (2, .int y2)] → W p l e (mRm 38 960) s m args below meth c H locs 0 0 Q (F0 m 23 ls []))) (fun b0 => (∀ b, b0 = b → (∀ (H : Heap) (locs : List Loc) (ls : Array Slot), mR G b H → va_S (mA G) s.heap H locs → lv_has ls 3 [(0, .ref (mo G))] → W p l e (mRm 38 960) s m args below meth c H locs 0 0 Q (F0 m 108 ls [])))) (fun q x hf hK hX => wbLX4_kernels_23 S hf hK (fun b eb => (hX _ eb) b rfl)) q res h hE108
set_option maxHeartbeats 4000000 in
set_option maxRecDepth 100000 in
theorem met_X4_kernels {l : Launch} {G : mG} {x1 : Int32} {x2 : Int32} {σ : mS} {res : mS} (hf : fX4_kernels x1 x2 σ = some res) : mMet l yX4_kernels cX4_kernels 3 (Option.none : Option Jvm.ClassFile.FieldType) (mRm 38 960) G [.ref (mo G), .int x1, .int x2] σ none res := by
  replace hf : ((mput σ 9 (fX4_all σ)).bind (fun σ1 => (mput σ1 10 (0 : Int32)).bind (fun σ2 => (mput σ2 11 x1).bind (fun σ3 => (mput σ3 12 (0 : Int32)).bind (fun σ4 => (lpw (LX4_kernels_23 x2) σ4).bind (fun b14 => some b14)))))) = some res := hf
  refine m_start (by decide) rfl (Nat.le_of_ble_eq_true rfl) ?_
  intro p e s m args below meth c S hR hS ls hl
  obtain ⟨hx, hb, hml, hown, hts⟩ := S.1.1
  have hl : lv_has ls 3 [(0, .ref (mo G)), (1, .int x1), (2, .int x2)] := hl
  refine lv_aload_n hx hb dX4_kernels_0 rfl (lv_at hl 0 rfl) ?_
  refine lv_aload_n hx hb dX4_kernels_1 rfl (lv_at hl 0 rfl) ?_
  refine m_call (As := []) (rest := [.ref (mo G)]) S hR hS (met_X4_all rfl) wi_X4_all rfl q2738 ⟨rfl, rfl⟩ ⟨Nat.le_of_ble_eq_true rfl, Nat.le_of_ble_eq_true rfl⟩ rfl hl.1 rfl (Nat.le_of_ble_eq_true rfl) dX4_kernels_2 (fun H locs hR hS => ?_)
  refine k_bind hf (fun σ1 hσ1 hf => ?_)
  refine m_puti (k := 9) S hR hS hσ1 (by decide) (by decide) rfl rfl rfl rfl q2535 dX4_kernels_5 (fun H locs hR hS => ?_)
  refine lv_aload_n hx hb dX4_kernels_8 rfl (lv_at hl 0 rfl) ?_
  refine lv_iconst (v := 0) hx hb dX4_kernels_9 (by decide) ?_
  refine k_bind hf (fun σ2 hσ2 hf => ?_)
  refine m_puti (k := 10) S hR hS hσ2 (by decide) (by decide) rfl rfl rfl rfl q2536 dX4_kernels_10 (fun H locs hR hS => ?_)
  refine lv_aload_n hx hb dX4_kernels_13 rfl (lv_at hl 0 rfl) ?_
  refine lv_iload_n hx hb dX4_kernels_14 rfl (lv_at hl 1 rfl) ?_
  refine k_bind hf (fun σ3 hσ3 hf => ?_)
  refine m_puti (k := 11) S hR hS hσ3 (by decide) (by decide) rfl rfl rfl rfl q2537 dX4_kernels_15 (fun H locs hR hS => ?_)
  refine lv_aload_n hx hb dX4_kernels_18 rfl (lv_at hl 0 rfl) ?_
  refine lv_iconst (v := 0) hx hb dX4_kernels_19 (by decide) ?_
  refine k_bind hf (fun σ4 hσ4 hf => ?_)
  refine m_puti (k := 12) S hR hS hσ4 (by decide) (by decide) rfl rfl rfl rfl q2538 dX4_kernels_20 (fun H locs hR hS => ?_)
  refine k_bind hf (fun b14 hb14 hf => ?_)
  refine wLX4_kernels_23 S hb14 ?_ _ _ _ hR hS (lv_sub (l' := [(0, .ref (mo G)), (2, .int x2)]) hl [0, 2] rfl)
  · intro b eb; subst eb; intro H locs ls hR hS hl
    obtain rfl := Option.some.inj hf
    exact m_vret S hR hS dX4_kernels_108

noncomputable def fX4_kernel (x1 : Int32) (x2 : Int32) (σ : mS) : Option (Int32 × mS) :=
  if (fX4_in x1 (0 : Int32) (12 : Int32)) = (0 : Int32) then some ((-2 : Int32), σ) else if (fX4_in x2 (0 : Int32) (4 : Int32)) = (0 : Int32) then some ((-2 : Int32), σ) else (fX4_kernels x1 (1000000 : Int32) σ).bind (fun e1 => if x2 = (0 : Int32) then some ((e1.1 9), e1) else if x2 = (1 : Int32) then some ((e1.1 10), e1) else if x2 = (2 : Int32) then some (((e1.1 11) + (20 : Int32)), e1) else if x2 = (3 : Int32) then some ((e1.1 12), e1) else if (e1.1 11) < (0 : Int32) then some ((1 : Int32), e1) else (fX4_bits (e1.1 9)).bind (fun v2 => if v2 ≤ ((2 : Int32) * (e1.1 11)) then some ((0 : Int32), e1) else some ((1 : Int32), e1)))
theorem wi_X4_kernel : wInfV yX4_kernel cX4_kernel 3 (Option.some Jvm.ClassFile.FieldType.int) 2 := ⟨q2858, q2859, q116, q2860, (by decide +kernel), (by decide +kernel), (by decide +kernel)⟩
set_option maxHeartbeats 4000000 in
set_option maxRecDepth 100000 in
theorem met_X4_kernel {l : Launch} {G : mG} {x1 : Int32} {x2 : Int32} {σ : mS} {res : Int32 × mS} (hf : fX4_kernel x1 x2 σ = some res) : mMet l yX4_kernel cX4_kernel 3 (Option.some Jvm.ClassFile.FieldType.int) (mRm 39 982) G [.ref (mo G), .int x1, .int x2] σ (some (.int res.1)) res.2 := by
  replace hf : (if (fX4_in x1 (0 : Int32) (12 : Int32)) = (0 : Int32) then some ((-2 : Int32), σ) else if (fX4_in x2 (0 : Int32) (4 : Int32)) = (0 : Int32) then some ((-2 : Int32), σ) else (fX4_kernels x1 (1000000 : Int32) σ).bind (fun e1 => if x2 = (0 : Int32) then some ((e1.1 9), e1) else if x2 = (1 : Int32) then some ((e1.1 10), e1) else if x2 = (2 : Int32) then some (((e1.1 11) + (20 : Int32)), e1) else if x2 = (3 : Int32) then some ((e1.1 12), e1) else if (e1.1 11) < (0 : Int32) then some ((1 : Int32), e1) else (fX4_bits (e1.1 9)).bind (fun v2 => if v2 ≤ ((2 : Int32) * (e1.1 11)) then some ((0 : Int32), e1) else some ((1 : Int32), e1)))) = some res := hf
  refine m_start (by decide) rfl (Nat.le_of_ble_eq_true rfl) ?_
  intro p e s m args below meth c S hR hS ls hl
  obtain ⟨hx, hb, hml, hown, hts⟩ := S.1.1
  have hl : lv_has ls 3 [(0, .ref (mo G)), (1, .int x1), (2, .int x2)] := hl
  refine lv_iload_n hx hb dX4_kernel_0 rfl (lv_at hl 1 rfl) ?_
  refine lv_iconst (v := 0) hx hb dX4_kernel_1 (by decide) ?_
  refine lv_bipush (v := 12) hx hb dX4_kernel_2 (by decide) ?_
  refine s_call (As := [.int x1, .int (0 : Int32), .int (12 : Int32)]) (rest := []) S.1.1 (met_X4_in rfl) wi_X4_in q2681 ⟨rfl, rfl⟩ ⟨Nat.le_of_ble_eq_true rfl, Nat.le_of_ble_eq_true rfl⟩ rfl hl.1 rfl (Nat.le_of_ble_eq_true rfl) dX4_kernel_4 ⟨Nat.zero_le _, Nat.zero_le _⟩ ?_
  refine lv_if_eq (tgt := 19) hx hb dX4_kernel_7 (by decide) (fun c_7 => ?_) (fun c_7 => ?_)
  · replace hf := o_t hf c_7
    refine lv_bipush (v := -2) hx hb dX4_kernel_19 (by decide) ?_
    obtain rfl := Option.some.inj hf
    exact m_iret S hR hS rfl dX4_kernel_21
  · replace hf := o_f hf c_7
    refine lv_iload_n hx hb dX4_kernel_10 rfl (lv_at hl 2 rfl) ?_
    refine lv_iconst (v := 0) hx hb dX4_kernel_11 (by decide) ?_
    refine lv_iconst (v := 4) hx hb dX4_kernel_12 (by decide) ?_
    refine s_call (As := [.int x2, .int (0 : Int32), .int (4 : Int32)]) (rest := []) S.1.1 (met_X4_in rfl) wi_X4_in q2681 ⟨rfl, rfl⟩ ⟨Nat.le_of_ble_eq_true rfl, Nat.le_of_ble_eq_true rfl⟩ rfl hl.1 rfl (Nat.le_of_ble_eq_true rfl) dX4_kernel_13 ⟨Nat.zero_le _, Nat.zero_le _⟩ ?_
    refine lv_if_ne (tgt := 22) hx hb dX4_kernel_16 (by decide) (fun c_16 => ?_) (fun c_16 => ?_)
    · replace hf := o_f hf c_16
      refine lv_aload_n hx hb dX4_kernel_22 rfl (lv_at hl 0 rfl) ?_
      refine lv_iload_n hx hb dX4_kernel_23 rfl (lv_at hl 1 rfl) ?_
      refine lv_ldc hx hb hown (hts _ q2773) dX4_kernel_24 ?_
      refine k_bind hf (fun e1 he1 hf => ?_)
      refine m_call (As := [.int x1, .int (1000000 : Int32)]) (rest := []) S hR hS (met_X4_kernels he1) wi_X4_kernels rfl q2861 ⟨rfl, rfl⟩ ⟨Nat.le_of_ble_eq_true rfl, Nat.le_of_ble_eq_true rfl⟩ rfl hl.1 rfl (Nat.le_of_ble_eq_true rfl) dX4_kernel_26 (fun H locs hR hS => ?_)
      refine lv_iload_n hx hb dX4_kernel_29 rfl (lv_at hl 2 rfl) ?_
      by_cases c_30_0 : x2 = (0 : Int32)
      · replace hf := o_t hf c_30_0
        refine lv_tableIn (tgt := 60) hx hb dX4_kernel_30 (by rw [c_30_0]; decide) (by rw [c_30_0]; decide) (by rw [c_30_0]; rfl) (by decide) ?_
        refine lv_aload_n hx hb dX4_kernel_60 rfl (lv_at hl 0 rfl) ?_
        refine m_geti (k := 9) S hR (by decide) (by decide) q2535 dX4_kernel_61 ?_
        obtain rfl := Option.some.inj hf
        exact m_iret S hR hS rfl dX4_kernel_64
      replace hf := o_f hf c_30_0
      by_cases c_30_1 : x2 = (1 : Int32)
      · replace hf := o_t hf c_30_1
        refine lv_tableIn (tgt := 65) hx hb dX4_kernel_30 (by rw [c_30_1]; decide) (by rw [c_30_1]; decide) (by rw [c_30_1]; rfl) (by decide) ?_
        refine lv_aload_n hx hb dX4_kernel_65 rfl (lv_at hl 0 rfl) ?_
        refine m_geti (k := 10) S hR (by decide) (by decide) q2536 dX4_kernel_66 ?_
        obtain rfl := Option.some.inj hf
        exact m_iret S hR hS rfl dX4_kernel_69
      replace hf := o_f hf c_30_1
      by_cases c_30_2 : x2 = (2 : Int32)
      · replace hf := o_t hf c_30_2
        refine lv_tableIn (tgt := 70) hx hb dX4_kernel_30 (by rw [c_30_2]; decide) (by rw [c_30_2]; decide) (by rw [c_30_2]; rfl) (by decide) ?_
        refine lv_aload_n hx hb dX4_kernel_70 rfl (lv_at hl 0 rfl) ?_
        refine m_geti (k := 11) S hR (by decide) (by decide) q2537 dX4_kernel_71 ?_
        refine lv_bipush (v := 20) hx hb dX4_kernel_74 (by decide) ?_
        refine lv_iadd hx hb dX4_kernel_76 ?_
        obtain rfl := Option.some.inj hf
        exact m_iret S hR hS rfl dX4_kernel_77
      replace hf := o_f hf c_30_2
      by_cases c_30_3 : x2 = (3 : Int32)
      · replace hf := o_t hf c_30_3
        refine lv_tableIn (tgt := 78) hx hb dX4_kernel_30 (by rw [c_30_3]; decide) (by rw [c_30_3]; decide) (by rw [c_30_3]; rfl) (by decide) ?_
        refine lv_aload_n hx hb dX4_kernel_78 rfl (lv_at hl 0 rfl) ?_
        refine m_geti (k := 12) S hR (by decide) (by decide) q2538 dX4_kernel_79 ?_
        obtain rfl := Option.some.inj hf
        exact m_iret S hR hS rfl dX4_kernel_82
      replace hf := o_f hf c_30_3
      refine lv_tableOut (tgt := 83) hx hb dX4_kernel_30 (by have t0 := lv_neT c_30_0 (a := 0) rfl; have t1 := lv_neT c_30_1 (a := 1) rfl; have t2 := lv_neT c_30_2 (a := 2) rfl; have t3 := lv_neT c_30_3 (a := 3) rfl; omega) (by decide) ?_
      refine lv_aload_n hx hb dX4_kernel_83 rfl (lv_at hl 0 rfl) ?_
      refine m_geti (k := 11) S hR (by decide) (by decide) q2537 dX4_kernel_84 ?_
      refine lv_if_lt (tgt := 106) hx hb dX4_kernel_87 (by decide) (fun c_87 => ?_) (fun c_87 => ?_)
      · replace hf := o_t hf c_87
        refine lv_iconst (v := 1) hx hb dX4_kernel_106 (by decide) ?_
        refine lv_goto (tgt := 111) hx hb dX4_kernel_107 (by decide) ?_
        obtain rfl := Option.some.inj hf
        exact m_iret S hR hS rfl dX4_kernel_111
      · replace hf := o_f hf c_87
        refine lv_aload_n hx hb dX4_kernel_90 rfl (lv_at hl 0 rfl) ?_
        refine m_geti (k := 9) S hR (by decide) (by decide) q2535 dX4_kernel_91 ?_
        refine k_bind hf (fun v2 hv2 hf => ?_)
        refine s_call (As := [.int (e1.1 9)]) (rest := []) S.1.1 (met_X4_bits hv2) wi_X4_bits q2712 ⟨rfl, rfl⟩ ⟨Nat.le_of_ble_eq_true rfl, Nat.le_of_ble_eq_true rfl⟩ rfl hl.1 rfl (Nat.le_of_ble_eq_true rfl) dX4_kernel_94 ⟨Nat.zero_le _, Nat.zero_le _⟩ ?_
        refine lv_iconst (v := 2) hx hb dX4_kernel_97 (by decide) ?_
        refine lv_aload_n hx hb dX4_kernel_98 rfl (lv_at hl 0 rfl) ?_
        refine m_geti (k := 11) S hR (by decide) (by decide) q2537 dX4_kernel_99 ?_
        refine lv_imul hx hb dX4_kernel_102 ?_
        refine lv_icmp_le (tgt := 110) hx hb dX4_kernel_103 (by decide) (fun c_103 => ?_) (fun c_103 => ?_)
        · replace hf := o_t hf c_103
          refine lv_iconst (v := 0) hx hb dX4_kernel_110 (by decide) ?_
          obtain rfl := Option.some.inj hf
          exact m_iret S hR hS rfl dX4_kernel_111
        · replace hf := o_f hf c_103
          refine lv_iconst (v := 1) hx hb dX4_kernel_106 (by decide) ?_
          refine lv_goto (tgt := 111) hx hb dX4_kernel_107 (by decide) ?_
          obtain rfl := Option.some.inj hf
          exact m_iret S hR hS rfl dX4_kernel_111
    · replace hf := o_t hf c_16
      refine lv_bipush (v := -2) hx hb dX4_kernel_19 (by decide) ?_
      obtain rfl := Option.some.inj hf
      exact m_iret S hR hS rfl dX4_kernel_21

noncomputable def JX4_round_42 (y2 : Int32) (y3 : Int32) (z0 : Int32) (z1 : Int32) (σ : mS) : Option (Int32 × mS) :=
  (fX4_kernels z1 z0 σ).bind (fun e1 => if (e1.1 12) = (y2 + (1 : Int32)) then (mald e1 13 y3).bind (fun v2 => some (v2, e1)) else some ((-2 : Int32), e1))
noncomputable def fX4_round (x1 : Int32) (x2 : Int32) (x3 : Int32) (σ : mS) : Option (Int32 × mS) :=
  if (fX4_in x1 (0 : Int32) (12 : Int32)) = (0 : Int32) then some ((-2 : Int32), σ) else if x2 < (0 : Int32) then some ((-2 : Int32), σ) else if (fX4_in x3 (0 : Int32) (2 : Int32)) = (0 : Int32) then some ((-2 : Int32), σ) else if x2 ≤ (12 : Int32) then JX4_round_42 x2 x3 (x2 + (1 : Int32)) x1 σ else JX4_round_42 x2 x3 (1000000 : Int32) x1 σ
theorem wi_X4_round : wInfV yX4_round cX4_round 4 (Option.some Jvm.ClassFile.FieldType.int) 3 := ⟨q2878, q2879, q116, q2880, (by decide +kernel), (by decide +kernel), (by decide +kernel)⟩
set_option maxHeartbeats 4000000 in
set_option maxRecDepth 100000 in
theorem wJX4_round_42 {l : Launch} {G : mG} {p : Program} {e : Env} {s : State} {m : MethodId} {args : Array Value} {below : List Frame} {meth : Method} {c : Code} {y2 : Int32} {y3 : Int32} {z0 : Int32} {z1 : Int32} {σ : mS} {res : Int32 × mS} (S : mSt G p m c cX4_round 4 s args meth (Option.some Jvm.ClassFile.FieldType.int)) (hf : JX4_round_42 y2 y3 z0 z1 σ = some res) : ∀ (H : Heap) (locs : List Loc) (ls : Array Slot), mR G σ H → va_S (mA G) s.heap H locs → lv_has ls 4 [(0, .ref (mo G)), (2, .int y2), (3, .int y3)] → W p l e (mRm 39 982) s m args below meth c H locs 0 0 (MQ below (mQ G (some (.int res.1)) res.2) args s 0 0 (mA G)) (F0 m 42 ls [.int z0, .int z1, .ref (mo G)]) := by
  replace hf : ((fX4_kernels z1 z0 σ).bind (fun e1 => if (e1.1 12) = (y2 + (1 : Int32)) then (mald e1 13 y3).bind (fun v2 => some (v2, e1)) else some ((-2 : Int32), e1))) = some res := hf
  obtain ⟨hx, hb, hml, hown, hts⟩ := S.1.1
  intro H locs ls hR hS hl
  refine k_bind hf (fun e1 he1 hf => ?_)
  refine m_call (As := [.int z1, .int z0]) (rest := []) S hR hS (met_X4_kernels he1) wi_X4_kernels rfl q2861 ⟨rfl, rfl⟩ ⟨Nat.le_of_ble_eq_true rfl, Nat.le_of_ble_eq_true rfl⟩ rfl hl.1 rfl (Nat.le_of_ble_eq_true rfl) dX4_round_42 (fun H locs hR hS => ?_)
  refine lv_aload_n hx hb dX4_round_45 rfl (lv_at hl 0 rfl) ?_
  refine m_geti (k := 12) S hR (by decide) (by decide) q2538 dX4_round_46 ?_
  refine lv_iload_n hx hb dX4_round_49 rfl (lv_at hl 1 rfl) ?_
  refine lv_iconst (v := 1) hx hb dX4_round_50 (by decide) ?_
  refine lv_iadd hx hb dX4_round_51 ?_
  refine lv_icmp_ne (tgt := 64) hx hb dX4_round_52 (by decide) (fun c_52 => ?_) (fun c_52 => ?_)
  · replace hf := o_f hf c_52
    refine lv_bipush (v := -2) hx hb dX4_round_64 (by decide) ?_
    obtain rfl := Option.some.inj hf
    exact m_iret S hR hS rfl dX4_round_66
  · replace hf := o_t hf c_52
    refine lv_aload_n hx hb dX4_round_55 rfl (lv_at hl 0 rfl) ?_
    refine m_geta (k := 13) S hR (by decide) (by decide) q2539 dX4_round_56 ?_
    refine lv_iload_n hx hb dX4_round_59 rfl (lv_at hl 2 rfl) ?_
    refine k_bind hf (fun v2 hv2 hf => ?_)
    refine m_iald S hR hv2 dX4_round_60 ?_
    refine lv_goto (tgt := 66) hx hb dX4_round_61 (by decide) ?_
    obtain rfl := Option.some.inj hf
    exact m_iret S hR hS rfl dX4_round_66
set_option maxHeartbeats 4000000 in
set_option maxRecDepth 100000 in
theorem met_X4_round {l : Launch} {G : mG} {x1 : Int32} {x2 : Int32} {x3 : Int32} {σ : mS} {res : Int32 × mS} (hf : fX4_round x1 x2 x3 σ = some res) : mMet l yX4_round cX4_round 4 (Option.some Jvm.ClassFile.FieldType.int) (mRm 39 982) G [.ref (mo G), .int x1, .int x2, .int x3] σ (some (.int res.1)) res.2 := by
  replace hf : (if (fX4_in x1 (0 : Int32) (12 : Int32)) = (0 : Int32) then some ((-2 : Int32), σ) else if x2 < (0 : Int32) then some ((-2 : Int32), σ) else if (fX4_in x3 (0 : Int32) (2 : Int32)) = (0 : Int32) then some ((-2 : Int32), σ) else if x2 ≤ (12 : Int32) then JX4_round_42 x2 x3 (x2 + (1 : Int32)) x1 σ else JX4_round_42 x2 x3 (1000000 : Int32) x1 σ) = some res := hf
  refine m_start (by decide) rfl (Nat.le_of_ble_eq_true rfl) ?_
  intro p e s m args below meth c S hR hS ls hl
  obtain ⟨hx, hb, hml, hown, hts⟩ := S.1.1
  have hl : lv_has ls 4 [(0, .ref (mo G)), (1, .int x1), (2, .int x2), (3, .int x3)] := hl
  refine lv_iload_n hx hb dX4_round_0 rfl (lv_at hl 1 rfl) ?_
  refine lv_iconst (v := 0) hx hb dX4_round_1 (by decide) ?_
  refine lv_bipush (v := 12) hx hb dX4_round_2 (by decide) ?_
  refine s_call (As := [.int x1, .int (0 : Int32), .int (12 : Int32)]) (rest := []) S.1.1 (met_X4_in rfl) wi_X4_in q2681 ⟨rfl, rfl⟩ ⟨Nat.le_of_ble_eq_true rfl, Nat.le_of_ble_eq_true rfl⟩ rfl hl.1 rfl (Nat.le_of_ble_eq_true rfl) dX4_round_4 ⟨Nat.zero_le _, Nat.zero_le _⟩ ?_
  refine lv_if_eq (tgt := 23) hx hb dX4_round_7 (by decide) (fun c_7 => ?_) (fun c_7 => ?_)
  · replace hf := o_t hf c_7
    refine lv_bipush (v := -2) hx hb dX4_round_23 (by decide) ?_
    obtain rfl := Option.some.inj hf
    exact m_iret S hR hS rfl dX4_round_25
  · replace hf := o_f hf c_7
    refine lv_iload_n hx hb dX4_round_10 rfl (lv_at hl 2 rfl) ?_
    refine lv_if_lt (tgt := 23) hx hb dX4_round_11 (by decide) (fun c_11 => ?_) (fun c_11 => ?_)
    · replace hf := o_t hf c_11
      refine lv_bipush (v := -2) hx hb dX4_round_23 (by decide) ?_
      obtain rfl := Option.some.inj hf
      exact m_iret S hR hS rfl dX4_round_25
    · replace hf := o_f hf c_11
      refine lv_iload_n hx hb dX4_round_14 rfl (lv_at hl 3 rfl) ?_
      refine lv_iconst (v := 0) hx hb dX4_round_15 (by decide) ?_
      refine lv_iconst (v := 2) hx hb dX4_round_16 (by decide) ?_
      refine s_call (As := [.int x3, .int (0 : Int32), .int (2 : Int32)]) (rest := []) S.1.1 (met_X4_in rfl) wi_X4_in q2681 ⟨rfl, rfl⟩ ⟨Nat.le_of_ble_eq_true rfl, Nat.le_of_ble_eq_true rfl⟩ rfl hl.1 rfl (Nat.le_of_ble_eq_true rfl) dX4_round_17 ⟨Nat.zero_le _, Nat.zero_le _⟩ ?_
      refine lv_if_ne (tgt := 26) hx hb dX4_round_20 (by decide) (fun c_20 => ?_) (fun c_20 => ?_)
      · replace hf := o_f hf c_20
        refine lv_aload_n hx hb dX4_round_26 rfl (lv_at hl 0 rfl) ?_
        refine lv_iload_n hx hb dX4_round_27 rfl (lv_at hl 1 rfl) ?_
        refine lv_iload_n hx hb dX4_round_28 rfl (lv_at hl 2 rfl) ?_
        refine lv_bipush (v := 12) hx hb dX4_round_29 (by decide) ?_
        refine lv_icmp_le (tgt := 39) hx hb dX4_round_31 (by decide) (fun c_31 => ?_) (fun c_31 => ?_)
        · replace hf := o_t hf c_31
          refine lv_iload_n hx hb dX4_round_39 rfl (lv_at hl 2 rfl) ?_
          refine lv_iconst (v := 1) hx hb dX4_round_40 (by decide) ?_
          refine lv_iadd hx hb dX4_round_41 ?_
          exact wJX4_round_42 S hf _ _ _ hR hS (lv_sub (l' := [(0, .ref (mo G)), (2, .int x2), (3, .int x3)]) hl [0, 2, 3] rfl)
        · replace hf := o_f hf c_31
          refine lv_ldc hx hb hown (hts _ q2773) dX4_round_34 ?_
          refine lv_goto (tgt := 42) hx hb dX4_round_36 (by decide) ?_
          exact wJX4_round_42 S hf _ _ _ hR hS (lv_sub (l' := [(0, .ref (mo G)), (2, .int x2), (3, .int x3)]) hl [0, 2, 3] rfl)
      · replace hf := o_t hf c_20
        refine lv_bipush (v := -2) hx hb dX4_round_23 (by decide) ?_
        obtain rfl := Option.some.inj hf
        exact m_iret S hR hS rfl dX4_round_25

noncomputable def JX4_packsTo_62 (y1 : Int32) (y4 : Int32) (y5 : Int32) (σ : mS) : Option mS :=
  (mast σ 14 y1 y4).bind (fun σ7 => (mast σ7 15 y1 y5).bind (fun σ8 => some σ8))
noncomputable def JX4_packsTo_25 (y1 : Int32) (y4 : Int32) (z0 : Int32) (z1 : Int32) (σ : mS) : Option mS :=
  (some (z1 + z0)).bind (fun v4 => (mald σ 14 y1).bind (fun v5 => if y4 < v5 then some σ else (mald σ 14 y1).bind (fun v6 => if y4 = v6 then (mald σ 15 y1).bind (fun v9 => if v4 < v9 then JX4_packsTo_62 y1 y4 v4 σ else some σ) else JX4_packsTo_62 y1 y4 v4 σ)))
noncomputable def fX4_packsTo (x1 : Int32) (x2 : Int32) (x3 : Int32) (σ : mS) : Option mS :=
  (mald σ 14 x2).bind (fun v1 => (some (v1 + x3)).bind (fun v2 => (mald σ 15 x2).bind (fun v3 => if x3 = (0 : Int32) then JX4_packsTo_25 x1 v2 (0 : Int32) v3 σ else JX4_packsTo_25 x1 v2 (1 : Int32) v3 σ)))
theorem wi_X4_packsTo : wInfV yX4_packsTo cX4_packsTo 6 (Option.none : Option Jvm.ClassFile.FieldType) 3 := ⟨q2887, qs82, q116, q2888, (by decide +kernel), (by decide +kernel), (by decide +kernel)⟩
set_option maxHeartbeats 4000000 in
set_option maxRecDepth 100000 in
theorem wJX4_packsTo_62 {l : Launch} {G : mG} {p : Program} {e : Env} {s : State} {m : MethodId} {args : Array Value} {below : List Frame} {meth : Method} {c : Code} {y1 : Int32} {y4 : Int32} {y5 : Int32} {σ : mS} {res : mS} (S : mSt G p m c cX4_packsTo 6 s args meth (Option.none : Option Jvm.ClassFile.FieldType)) (hf : JX4_packsTo_62 y1 y4 y5 σ = some res) : ∀ (H : Heap) (locs : List Loc) (ls : Array Slot), mR G σ H → va_S (mA G) s.heap H locs → lv_has ls 6 [(0, .ref (mo G)), (1, .int y1), (4, .int y4), (5, .int y5)] → W p l e (mRm 0 0) s m args below meth c H locs 0 0 (MQ below (mQ G none res) args s 0 0 (mA G)) (F0 m 62 ls []) := by
  replace hf : ((mast σ 14 y1 y4).bind (fun σ7 => (mast σ7 15 y1 y5).bind (fun σ8 => some σ8))) = some res := hf
  obtain ⟨hx, hb, hml, hown, hts⟩ := S.1.1
  intro H locs ls hR hS hl
  refine lv_aload_n hx hb dX4_packsTo_62 rfl (lv_at hl 0 rfl) ?_
  refine m_geta (k := 14) S hR (by decide) (by decide) q2540 dX4_packsTo_63 ?_
  refine lv_iload_n hx hb dX4_packsTo_66 rfl (lv_at hl 1 rfl) ?_
  refine lv_iload hx hb dX4_packsTo_67 (lv_at hl 2 rfl) ?_
  refine k_bind hf (fun σ7 hσ7 hf => ?_)
  refine m_iast S hR hS hσ7 dX4_packsTo_69 (fun H locs hR hS => ?_)
  refine lv_aload_n hx hb dX4_packsTo_70 rfl (lv_at hl 0 rfl) ?_
  refine m_geta (k := 15) S hR (by decide) (by decide) q2541 dX4_packsTo_71 ?_
  refine lv_iload_n hx hb dX4_packsTo_74 rfl (lv_at hl 1 rfl) ?_
  refine lv_iload hx hb dX4_packsTo_75 (lv_at hl 3 rfl) ?_
  refine k_bind hf (fun σ8 hσ8 hf => ?_)
  refine m_iast S hR hS hσ8 dX4_packsTo_77 (fun H locs hR hS => ?_)
  obtain rfl := Option.some.inj hf
  exact m_vret S hR hS dX4_packsTo_78
set_option maxHeartbeats 4000000 in
set_option maxRecDepth 100000 in
theorem wJX4_packsTo_25 {l : Launch} {G : mG} {p : Program} {e : Env} {s : State} {m : MethodId} {args : Array Value} {below : List Frame} {meth : Method} {c : Code} {y1 : Int32} {y4 : Int32} {z0 : Int32} {z1 : Int32} {σ : mS} {res : mS} (S : mSt G p m c cX4_packsTo 6 s args meth (Option.none : Option Jvm.ClassFile.FieldType)) (hf : JX4_packsTo_25 y1 y4 z0 z1 σ = some res) : ∀ (H : Heap) (locs : List Loc) (ls : Array Slot), mR G σ H → va_S (mA G) s.heap H locs → lv_has ls 6 [(0, .ref (mo G)), (1, .int y1), (4, .int y4)] → W p l e (mRm 0 0) s m args below meth c H locs 0 0 (MQ below (mQ G none res) args s 0 0 (mA G)) (F0 m 25 ls [.int z0, .int z1]) := by
  replace hf : ((some (z1 + z0)).bind (fun v4 => (mald σ 14 y1).bind (fun v5 => if y4 < v5 then some σ else (mald σ 14 y1).bind (fun v6 => if y4 = v6 then (mald σ 15 y1).bind (fun v9 => if v4 < v9 then JX4_packsTo_62 y1 y4 v4 σ else some σ) else JX4_packsTo_62 y1 y4 v4 σ)))) = some res := hf
  obtain ⟨hx, hb, hml, hown, hts⟩ := S.1.1
  intro H locs ls hR hS hl
  refine lv_iadd hx hb dX4_packsTo_25 ?_
  refine k_bind hf (fun v4 hv4 hf => ?_)
  refine m_nmi hv4 ?_
  refine lv_istore (lv' := [(5, .int v4), (0, .ref (mo G)), (1, .int y1), (4, .int y4)]) hx hb dX4_packsTo_26 hl (by decide) rfl (fun ls hl => ?_)
  refine lv_iload hx hb dX4_packsTo_28 (lv_at hl 3 rfl) ?_
  refine lv_aload_n hx hb dX4_packsTo_30 rfl (lv_at hl 1 rfl) ?_
  refine m_geta (k := 14) S hR (by decide) (by decide) q2540 dX4_packsTo_31 ?_
  refine lv_iload_n hx hb dX4_packsTo_34 rfl (lv_at hl 2 rfl) ?_
  refine k_bind hf (fun v5 hv5 hf => ?_)
  refine m_iald S hR hv5 dX4_packsTo_35 ?_
  refine lv_icmp_lt (tgt := 61) hx hb dX4_packsTo_36 (by decide) (fun c_36 => ?_) (fun c_36 => ?_)
  · replace hf := o_t hf c_36
    obtain rfl := Option.some.inj hf
    exact m_vret S hR hS dX4_packsTo_61
  · replace hf := o_f hf c_36
    refine lv_iload hx hb dX4_packsTo_39 (lv_at hl 3 rfl) ?_
    refine lv_aload_n hx hb dX4_packsTo_41 rfl (lv_at hl 1 rfl) ?_
    refine m_geta (k := 14) S hR (by decide) (by decide) q2540 dX4_packsTo_42 ?_
    refine lv_iload_n hx hb dX4_packsTo_45 rfl (lv_at hl 2 rfl) ?_
    refine k_bind hf (fun v6 hv6 hf => ?_)
    refine m_iald S hR hv6 dX4_packsTo_46 ?_
    refine lv_icmp_ne (tgt := 62) hx hb dX4_packsTo_47 (by decide) (fun c_47 => ?_) (fun c_47 => ?_)
    · replace hf := o_f hf c_47
      exact wJX4_packsTo_62 S hf _ _ _ hR hS (lv_sub (l' := [(0, .ref (mo G)), (1, .int y1), (4, .int y4), (5, .int v4)]) hl [1, 2, 3, 0] rfl)
    · replace hf := o_t hf c_47
      refine lv_iload hx hb dX4_packsTo_50 (lv_at hl 0 rfl) ?_
      refine lv_aload_n hx hb dX4_packsTo_52 rfl (lv_at hl 1 rfl) ?_
      refine m_geta (k := 15) S hR (by decide) (by decide) q2541 dX4_packsTo_53 ?_
      refine lv_iload_n hx hb dX4_packsTo_56 rfl (lv_at hl 2 rfl) ?_
      refine k_bind hf (fun v9 hv9 hf => ?_)
      refine m_iald S hR hv9 dX4_packsTo_57 ?_
      refine lv_icmp_lt (tgt := 62) hx hb dX4_packsTo_58 (by decide) (fun c_58 => ?_) (fun c_58 => ?_)
      · replace hf := o_t hf c_58
        exact wJX4_packsTo_62 S hf _ _ _ hR hS (lv_sub (l' := [(0, .ref (mo G)), (1, .int y1), (4, .int y4), (5, .int v4)]) hl [1, 2, 3, 0] rfl)
      · replace hf := o_f hf c_58
        obtain rfl := Option.some.inj hf
        exact m_vret S hR hS dX4_packsTo_61
set_option maxHeartbeats 4000000 in
set_option maxRecDepth 100000 in
theorem met_X4_packsTo {l : Launch} {G : mG} {x1 : Int32} {x2 : Int32} {x3 : Int32} {σ : mS} {res : mS} (hf : fX4_packsTo x1 x2 x3 σ = some res) : mMet l yX4_packsTo cX4_packsTo 6 (Option.none : Option Jvm.ClassFile.FieldType) (mRm 0 0) G [.ref (mo G), .int x1, .int x2, .int x3] σ none res := by
  replace hf : ((mald σ 14 x2).bind (fun v1 => (some (v1 + x3)).bind (fun v2 => (mald σ 15 x2).bind (fun v3 => if x3 = (0 : Int32) then JX4_packsTo_25 x1 v2 (0 : Int32) v3 σ else JX4_packsTo_25 x1 v2 (1 : Int32) v3 σ)))) = some res := hf
  refine m_start (by decide) rfl (Nat.le_of_ble_eq_true rfl) ?_
  intro p e s m args below meth c S hR hS ls hl
  obtain ⟨hx, hb, hml, hown, hts⟩ := S.1.1
  have hl : lv_has ls 6 [(0, .ref (mo G)), (1, .int x1), (2, .int x2), (3, .int x3)] := hl
  refine lv_aload_n hx hb dX4_packsTo_0 rfl (lv_at hl 0 rfl) ?_
  refine m_geta (k := 14) S hR (by decide) (by decide) q2540 dX4_packsTo_1 ?_
  refine lv_iload_n hx hb dX4_packsTo_4 rfl (lv_at hl 2 rfl) ?_
  refine k_bind hf (fun v1 hv1 hf => ?_)
  refine m_iald S hR hv1 dX4_packsTo_5 ?_
  refine lv_iload_n hx hb dX4_packsTo_6 rfl (lv_at hl 3 rfl) ?_
  refine lv_iadd hx hb dX4_packsTo_7 ?_
  refine k_bind hf (fun v2 hv2 hf => ?_)
  refine m_nmi hv2 ?_
  refine lv_istore (lv' := [(4, .int v2), (0, .ref (mo G)), (1, .int x1), (2, .int x2), (3, .int x3)]) hx hb dX4_packsTo_8 hl (by decide) rfl (fun ls hl => ?_)
  refine lv_aload_n hx hb dX4_packsTo_10 rfl (lv_at hl 1 rfl) ?_
  refine m_geta (k := 15) S hR (by decide) (by decide) q2541 dX4_packsTo_11 ?_
  refine lv_iload_n hx hb dX4_packsTo_14 rfl (lv_at hl 3 rfl) ?_
  refine k_bind hf (fun v3 hv3 hf => ?_)
  refine m_iald S hR hv3 dX4_packsTo_15 ?_
  refine lv_iload_n hx hb dX4_packsTo_16 rfl (lv_at hl 4 rfl) ?_
  refine lv_if_ne (tgt := 24) hx hb dX4_packsTo_17 (by decide) (fun c_17 => ?_) (fun c_17 => ?_)
  · replace hf := o_f hf c_17
    refine lv_iconst (v := 1) hx hb dX4_packsTo_24 (by decide) ?_
    exact wJX4_packsTo_25 S hf _ _ _ hR hS (lv_sub (l' := [(0, .ref (mo G)), (1, .int x1), (4, .int v2)]) hl [1, 2, 0] rfl)
  · replace hf := o_t hf c_17
    refine lv_iconst (v := 0) hx hb dX4_packsTo_20 (by decide) ?_
    refine lv_goto (tgt := 25) hx hb dX4_packsTo_21 (by decide) ?_
    exact wJX4_packsTo_25 S hf _ _ _ hR hS (lv_sub (l' := [(0, .ref (mo G)), (1, .int x1), (4, .int v2)]) hl [1, 2, 0] rfl)

noncomputable def LX4_pack_118 (y1 : Int32) (y2 : Int32) (y3 : Int32) (y4 : Int32) (y5 : Int32) (q : Int32 × mS) : Option ((Int32 × mS) ⊕ (mS)) :=
  if (q.2.1 0) ≤ q.1 then some (Sum.inr q.2) else (mald q.2 4 y3).bind (fun v11 => (mald q.2 4 y5).bind (fun v12 => if (fX4_has ((y4 &&& v11) &&& v12) q.1) = (0 : Int32) then some (Sum.inl (q.1 + (1 : Int32), q.2)) else (fX4_packsTo y2 (y4 &&& (((ish (1 : Int32) y5) ||| (ish (1 : Int32) q.1)) ^^^ (-1 : Int32))) (2 : Int32) q.2).bind (fun e13 => some (Sum.inl (q.1 + (1 : Int32), e13)))))
noncomputable def LX4_pack_68 (y1 : Int32) (y2 : Int32) (y3 : Int32) (y4 : Int32) (q : Int32 × mS) : Option ((Int32 × mS) ⊕ (mS)) :=
  if (q.2.1 0) ≤ q.1 then some (Sum.inr q.2) else (mald q.2 4 y3).bind (fun v8 => if (fX4_has (y4 &&& v8) q.1) = (0 : Int32) then some (Sum.inl (q.1 + (1 : Int32), q.2)) else (fX4_packsTo y2 (y4 &&& ((ish (1 : Int32) q.1) ^^^ (-1 : Int32))) (1 : Int32) q.2).bind (fun e9 => (some (q.1 + (1 : Int32))).bind (fun v10 => (lpw (LX4_pack_118 y1 y2 y3 y4 q.1) (v10, e9)).bind (fun b14 => some (Sum.inl (q.1 + (1 : Int32), b14))))))
noncomputable def LX4_pack_28 (y1 : Int32) (q : Int32 × mS) : Option ((Int32 × mS) ⊕ (mS)) :=
  if (fX4_all q.2) < q.1 then some (Sum.inr q.2) else (fX4_first q.1).bind (fun v3 => (some (q.1 &&& (q.1 - (1 : Int32)))).bind (fun v4 => (mast q.2 14 q.1 (-1 : Int32)).bind (fun σ5 => (fX4_packsTo q.1 v4 (0 : Int32) σ5).bind (fun e6 => (some (v3 + (1 : Int32))).bind (fun v7 => (lpw (LX4_pack_68 y1 q.1 v3 v4) (v7, e6)).bind (fun b15 => some (Sum.inl (q.1 + (1 : Int32), b15))))))))
noncomputable def fX4_pack (x1 : Int32) (σ : mS) : Option (Int32 × mS) :=
  if (fX4_in x1 (0 : Int32) (1 : Int32)) = (0 : Int32) then some ((-2 : Int32), σ) else (mast σ 14 (0 : Int32) (0 : Int32)).bind (fun σ1 => (mast σ1 15 (0 : Int32) (0 : Int32)).bind (fun σ2 => (lpw (LX4_pack_28 x1) ((1 : Int32), σ2)).bind (fun b16 => if x1 = (0 : Int32) then (mald b16 14 (fX4_all b16)).bind (fun v18 => some (v18, b16)) else (mald b16 15 (fX4_all b16)).bind (fun v17 => some (v17, b16)))))
theorem wi_X4_pack : wInfV yX4_pack cX4_pack 7 (Option.some Jvm.ClassFile.FieldType.int) 1 := ⟨q2882, q2883, q116, q2884, (by decide +kernel), (by decide +kernel), (by decide +kernel)⟩
set_option maxHeartbeats 4000000 in
set_option maxRecDepth 100000 in
theorem wbLX4_pack_118 {l : Launch} {G : mG} {p : Program} {e : Env} {s : State} {m : MethodId} {args : Array Value} {below : List Frame} {meth : Method} {c : Code} {Q : State → Prop} {y1 : Int32} {y2 : Int32} {y3 : Int32} {y4 : Int32} {y5 : Int32} {q : Int32 × mS} {res : (Int32 × mS) ⊕ (mS)} (S : mSt G p m c cX4_pack 7 s args meth (Option.some Jvm.ClassFile.FieldType.int)) (hf : LX4_pack_118 y1 y2 y3 y4 y5 q = some res) (hK : ∀ q, res = Sum.inl q → (∀ (H : Heap) (locs : List Loc) (ls : Array Slot), mR G q.2 H → va_S (mA G) s.heap H locs → lv_has ls 7 [(0, .ref (mo G)), (1, .int y1), (2, .int y2), (3, .int y3), (4, .int y4), (5, .int y5), (6, .int q.1)] → W p l e (mRm 2 42) s m args below meth c H locs 0 0 Q (F0 m 118 ls []))) (hE178 : ∀ b, res = Sum.inr b → (∀ (H : Heap) (locs : List Loc) (ls : Array Slot), mR G b H → va_S (mA G) s.heap H locs → lv_has ls 7 [(0, .ref (mo G)), (1, .int y1), (2, .int y2), (3, .int y3), (4, .int y4), (5, .int y5)] → W p l e (mRm 2 42) s m args below meth c H locs 0 0 Q (F0 m 178 ls []))) : (∀ (H : Heap) (locs : List Loc) (ls : Array Slot), mR G q.2 H → va_S (mA G) s.heap H locs → lv_has ls 7 [(0, .ref (mo G)), (1, .int y1), (2, .int y2), (3, .int y3), (4, .int y4), (5, .int y5), (6, .int q.1)] → W p l e (mRm 2 42) s m args below meth c H locs 0 0 Q (F0 m 118 ls [])) := by
  replace hf : (if (q.2.1 0) ≤ q.1 then some (Sum.inr q.2) else (mald q.2 4 y3).bind (fun v11 => (mald q.2 4 y5).bind (fun v12 => if (fX4_has ((y4 &&& v11) &&& v12) q.1) = (0 : Int32) then some (Sum.inl (q.1 + (1 : Int32), q.2)) else (fX4_packsTo y2 (y4 &&& (((ish (1 : Int32) y5) ||| (ish (1 : Int32) q.1)) ^^^ (-1 : Int32))) (2 : Int32) q.2).bind (fun e13 => some (Sum.inl (q.1 + (1 : Int32), e13)))))) = some res := hf
  obtain ⟨hx, hb, hml, hown, hts⟩ := S.1.1
  intro H locs ls hR hS hl
  refine lv_iload hx hb dX4_pack_118 (lv_at hl 6 rfl) ?_
  refine lv_aload_n hx hb dX4_pack_120 rfl (lv_at hl 0 rfl) ?_
  refine m_geti (k := 0) S hR (by decide) (by decide) q2526 dX4_pack_121 ?_
  refine lv_icmp_ge (tgt := 178) hx hb dX4_pack_124 (by decide) (fun c_124 => ?_) (fun c_124 => ?_)
  · replace hf := o_t hf c_124
    exact hE178 _ (Option.some.inj hf).symm _ _ _ hR hS (lv_sub (l' := [(0, .ref (mo G)), (1, .int y1), (2, .int y2), (3, .int y3), (4, .int y4), (5, .int y5)]) hl [0, 1, 2, 3, 4, 5] rfl)
  · replace hf := o_f hf c_124
    refine lv_iload hx hb dX4_pack_127 (lv_at hl 4 rfl) ?_
    refine lv_aload_n hx hb dX4_pack_129 rfl (lv_at hl 0 rfl) ?_
    refine m_geta (k := 4) S hR (by decide) (by decide) q2530 dX4_pack_130 ?_
    refine lv_iload_n hx hb dX4_pack_133 rfl (lv_at hl 3 rfl) ?_
    refine k_bind hf (fun v11 hv11 hf => ?_)
    refine m_iald S hR hv11 dX4_pack_134 ?_
    refine lv_iand hx hb dX4_pack_135 ?_
    refine lv_aload_n hx hb dX4_pack_136 rfl (lv_at hl 0 rfl) ?_
    refine m_geta (k := 4) S hR (by decide) (by decide) q2530 dX4_pack_137 ?_
    refine lv_iload hx hb dX4_pack_140 (lv_at hl 5 rfl) ?_
    refine k_bind hf (fun v12 hv12 hf => ?_)
    refine m_iald S hR hv12 dX4_pack_142 ?_
    refine lv_iand hx hb dX4_pack_143 ?_
    refine lv_iload hx hb dX4_pack_144 (lv_at hl 6 rfl) ?_
    refine s_call (As := [.int ((y4 &&& v11) &&& v12), .int q.1]) (rest := []) S.1.1 (met_X4_has rfl) wi_X4_has q2750 ⟨rfl, rfl⟩ ⟨Nat.le_of_ble_eq_true rfl, Nat.le_of_ble_eq_true rfl⟩ rfl hl.1 rfl (Nat.le_of_ble_eq_true rfl) dX4_pack_146 ⟨Nat.zero_le _, Nat.zero_le _⟩ ?_
    refine lv_if_eq (tgt := 172) hx hb dX4_pack_149 (by decide) (fun c_149 => ?_) (fun c_149 => ?_)
    · replace hf := o_t hf c_149
      refine lv_iinc (lv' := [(6, .int (q.1 + (1 : Int32))), (0, .ref (mo G)), (1, .int y1), (2, .int y2), (3, .int y3), (4, .int y4), (5, .int y5)]) hx hb dX4_pack_172 hl (k := 6) rfl (m_inc (by decide)) (by decide) rfl (fun ls hl => ?_)
      refine lv_goto (tgt := 118) hx hb dX4_pack_175 (by decide) ?_
      exact hK _ (Option.some.inj hf).symm _ _ _ hR hS (lv_sub (l' := [(0, .ref (mo G)), (1, .int y1), (2, .int y2), (3, .int y3), (4, .int y4), (5, .int y5), (6, .int (q.1 + (1 : Int32)))]) hl [1, 2, 3, 4, 5, 6, 0] rfl)
    · replace hf := o_f hf c_149
      refine lv_aload_n hx hb dX4_pack_152 rfl (lv_at hl 0 rfl) ?_
      refine lv_iload_n hx hb dX4_pack_153 rfl (lv_at hl 2 rfl) ?_
      refine lv_iload hx hb dX4_pack_154 (lv_at hl 4 rfl) ?_
      refine lv_iconst (v := 1) hx hb dX4_pack_156 (by decide) ?_
      refine lv_iload hx hb dX4_pack_157 (lv_at hl 5 rfl) ?_
      refine lv_ishl hx hb dX4_pack_159 ?_
      refine lv_iconst (v := 1) hx hb dX4_pack_160 (by decide) ?_
      refine lv_iload hx hb dX4_pack_161 (lv_at hl 6 rfl) ?_
      refine lv_ishl hx hb dX4_pack_163 ?_
      refine lv_ior hx hb dX4_pack_164 ?_
      refine lv_iconst (v := -1) hx hb dX4_pack_165 (by decide) ?_
      refine lv_ixor hx hb dX4_pack_166 ?_
      refine lv_iand hx hb dX4_pack_167 ?_
      refine lv_iconst (v := 2) hx hb dX4_pack_168 (by decide) ?_
      refine k_bind hf (fun e13 he13 hf => ?_)
      refine m_call (As := [.int y2, .int (y4 &&& (((ish (1 : Int32) y5) ||| (ish (1 : Int32) q.1)) ^^^ (-1 : Int32))), .int (2 : Int32)]) (rest := []) S hR hS (met_X4_packsTo he13) wi_X4_packsTo rfl q2885 ⟨rfl, rfl⟩ ⟨Nat.le_of_ble_eq_true rfl, Nat.le_of_ble_eq_true rfl⟩ rfl hl.1 rfl (Nat.le_of_ble_eq_true rfl) dX4_pack_169 (fun H locs hR hS => ?_)
      refine lv_iinc (lv' := [(6, .int (q.1 + (1 : Int32))), (0, .ref (mo G)), (1, .int y1), (2, .int y2), (3, .int y3), (4, .int y4), (5, .int y5)]) hx hb dX4_pack_172 hl (k := 6) rfl (m_inc (by decide)) (by decide) rfl (fun ls hl => ?_)
      refine lv_goto (tgt := 118) hx hb dX4_pack_175 (by decide) ?_
      exact hK _ (Option.some.inj hf).symm _ _ _ hR hS (lv_sub (l' := [(0, .ref (mo G)), (1, .int y1), (2, .int y2), (3, .int y3), (4, .int y4), (5, .int y5), (6, .int (q.1 + (1 : Int32)))]) hl [1, 2, 3, 4, 5, 6, 0] rfl)
set_option maxHeartbeats 4000000 in
set_option maxRecDepth 100000 in
theorem wLX4_pack_118 {l : Launch} {G : mG} {p : Program} {e : Env} {s : State} {m : MethodId} {args : Array Value} {below : List Frame} {meth : Method} {c : Code} {Q : State → Prop} {y1 : Int32} {y2 : Int32} {y3 : Int32} {y4 : Int32} {y5 : Int32} {q : Int32 × mS} {res : mS} (S : mSt G p m c cX4_pack 7 s args meth (Option.some Jvm.ClassFile.FieldType.int)) (h : lpw (LX4_pack_118 y1 y2 y3 y4 y5) q = some res) (hE178 : ∀ b, res = b → (∀ (H : Heap) (locs : List Loc) (ls : Array Slot), mR G b H → va_S (mA G) s.heap H locs → lv_has ls 7 [(0, .ref (mo G)), (1, .int y1), (2, .int y2), (3, .int y3), (4, .int y4), (5, .int y5)] → W p l e (mRm 2 42) s m args below meth c H locs 0 0 Q (F0 m 178 ls []))) : (∀ (H : Heap) (locs : List Loc) (ls : Array Slot), mR G q.2 H → va_S (mA G) s.heap H locs → lv_has ls 7 [(0, .ref (mo G)), (1, .int y1), (2, .int y2), (3, .int y3), (4, .int y4), (5, .int y5), (6, .int q.1)] → W p l e (mRm 2 42) s m args below meth c H locs 0 0 Q (F0 m 118 ls [])) :=
  lpw_go _ (fun q => (∀ (H : Heap) (locs : List Loc) (ls : Array Slot), mR G q.2 H → va_S (mA G) s.heap H locs → lv_has ls 7 [(0, .ref (mo G)), (1, .int y1), (2, .int y2), (3, .int y3), (4, .int y4), (5, .int y5), (6, .int q.1)] → W p l e (mRm 2 42) s m args below meth c H locs 0 0 Q (F0 m 118 ls []))) (fun b0 => (∀ b, b0 = b → (∀ (H : Heap) (locs : List Loc) (ls : Array Slot), mR G b H → va_S (mA G) s.heap H locs → lv_has ls 7 [(0, .ref (mo G)), (1, .int y1), (2, .int y2), (3, .int y3), (4, .int y4), (5, .int y5)] → W p l e (mRm 2 42) s m args below meth c H locs 0 0 Q (F0 m 178 ls [])))) (fun q x hf hK hX => wbLX4_pack_118 S hf hK (fun b eb => (hX _ eb) b rfl)) q res h hE178
set_option maxHeartbeats 4000000 in
set_option maxRecDepth 100000 in
theorem wbLX4_pack_68 {l : Launch} {G : mG} {p : Program} {e : Env} {s : State} {m : MethodId} {args : Array Value} {below : List Frame} {meth : Method} {c : Code} {Q : State → Prop} {y1 : Int32} {y2 : Int32} {y3 : Int32} {y4 : Int32} {q : Int32 × mS} {res : (Int32 × mS) ⊕ (mS)} (S : mSt G p m c cX4_pack 7 s args meth (Option.some Jvm.ClassFile.FieldType.int)) (hf : LX4_pack_68 y1 y2 y3 y4 q = some res) (hK : ∀ q, res = Sum.inl q → (∀ (H : Heap) (locs : List Loc) (ls : Array Slot), mR G q.2 H → va_S (mA G) s.heap H locs → lv_has ls 7 [(0, .ref (mo G)), (1, .int y1), (2, .int y2), (3, .int y3), (4, .int y4), (5, .int q.1)] → W p l e (mRm 2 42) s m args below meth c H locs 0 0 Q (F0 m 68 ls []))) (hE184 : ∀ b, res = Sum.inr b → (∀ (H : Heap) (locs : List Loc) (ls : Array Slot), mR G b H → va_S (mA G) s.heap H locs → lv_has ls 7 [(0, .ref (mo G)), (1, .int y1), (2, .int y2)] → W p l e (mRm 2 42) s m args below meth c H locs 0 0 Q (F0 m 184 ls []))) : (∀ (H : Heap) (locs : List Loc) (ls : Array Slot), mR G q.2 H → va_S (mA G) s.heap H locs → lv_has ls 7 [(0, .ref (mo G)), (1, .int y1), (2, .int y2), (3, .int y3), (4, .int y4), (5, .int q.1)] → W p l e (mRm 2 42) s m args below meth c H locs 0 0 Q (F0 m 68 ls [])) := by
  replace hf : (if (q.2.1 0) ≤ q.1 then some (Sum.inr q.2) else (mald q.2 4 y3).bind (fun v8 => if (fX4_has (y4 &&& v8) q.1) = (0 : Int32) then some (Sum.inl (q.1 + (1 : Int32), q.2)) else (fX4_packsTo y2 (y4 &&& ((ish (1 : Int32) q.1) ^^^ (-1 : Int32))) (1 : Int32) q.2).bind (fun e9 => (some (q.1 + (1 : Int32))).bind (fun v10 => (lpw (LX4_pack_118 y1 y2 y3 y4 q.1) (v10, e9)).bind (fun b14 => some (Sum.inl (q.1 + (1 : Int32), b14))))))) = some res := hf
  obtain ⟨hx, hb, hml, hown, hts⟩ := S.1.1
  intro H locs ls hR hS hl
  refine lv_iload hx hb dX4_pack_68 (lv_at hl 5 rfl) ?_
  refine lv_aload_n hx hb dX4_pack_70 rfl (lv_at hl 0 rfl) ?_
  refine m_geti (k := 0) S hR (by decide) (by decide) q2526 dX4_pack_71 ?_
  refine lv_icmp_ge (tgt := 184) hx hb dX4_pack_74 (by decide) (fun c_74 => ?_) (fun c_74 => ?_)
  · replace hf := o_t hf c_74
    exact hE184 _ (Option.some.inj hf).symm _ _ _ hR hS (lv_sub (l' := [(0, .ref (mo G)), (1, .int y1), (2, .int y2)]) hl [0, 1, 2] rfl)
  · replace hf := o_f hf c_74
    refine lv_iload hx hb dX4_pack_77 (lv_at hl 4 rfl) ?_
    refine lv_aload_n hx hb dX4_pack_79 rfl (lv_at hl 0 rfl) ?_
    refine m_geta (k := 4) S hR (by decide) (by decide) q2530 dX4_pack_80 ?_
    refine lv_iload_n hx hb dX4_pack_83 rfl (lv_at hl 3 rfl) ?_
    refine k_bind hf (fun v8 hv8 hf => ?_)
    refine m_iald S hR hv8 dX4_pack_84 ?_
    refine lv_iand hx hb dX4_pack_85 ?_
    refine lv_iload hx hb dX4_pack_86 (lv_at hl 5 rfl) ?_
    refine s_call (As := [.int (y4 &&& v8), .int q.1]) (rest := []) S.1.1 (met_X4_has rfl) wi_X4_has q2750 ⟨rfl, rfl⟩ ⟨Nat.le_of_ble_eq_true rfl, Nat.le_of_ble_eq_true rfl⟩ rfl hl.1 rfl (Nat.le_of_ble_eq_true rfl) dX4_pack_88 ⟨Nat.zero_le _, Nat.zero_le _⟩ ?_
    refine lv_if_ne (tgt := 97) hx hb dX4_pack_91 (by decide) (fun c_91 => ?_) (fun c_91 => ?_)
    · replace hf := o_f hf c_91
      refine lv_aload_n hx hb dX4_pack_97 rfl (lv_at hl 0 rfl) ?_
      refine lv_iload_n hx hb dX4_pack_98 rfl (lv_at hl 2 rfl) ?_
      refine lv_iload hx hb dX4_pack_99 (lv_at hl 4 rfl) ?_
      refine lv_iconst (v := 1) hx hb dX4_pack_101 (by decide) ?_
      refine lv_iload hx hb dX4_pack_102 (lv_at hl 5 rfl) ?_
      refine lv_ishl hx hb dX4_pack_104 ?_
      refine lv_iconst (v := -1) hx hb dX4_pack_105 (by decide) ?_
      refine lv_ixor hx hb dX4_pack_106 ?_
      refine lv_iand hx hb dX4_pack_107 ?_
      refine lv_iconst (v := 1) hx hb dX4_pack_108 (by decide) ?_
      refine k_bind hf (fun e9 he9 hf => ?_)
      refine m_call (As := [.int y2, .int (y4 &&& ((ish (1 : Int32) q.1) ^^^ (-1 : Int32))), .int (1 : Int32)]) (rest := []) S hR hS (met_X4_packsTo he9) wi_X4_packsTo rfl q2885 ⟨rfl, rfl⟩ ⟨Nat.le_of_ble_eq_true rfl, Nat.le_of_ble_eq_true rfl⟩ rfl hl.1 rfl (Nat.le_of_ble_eq_true rfl) dX4_pack_109 (fun H locs hR hS => ?_)
      refine lv_iload hx hb dX4_pack_112 (lv_at hl 5 rfl) ?_
      refine lv_iconst (v := 1) hx hb dX4_pack_114 (by decide) ?_
      refine lv_iadd hx hb dX4_pack_115 ?_
      refine k_bind hf (fun v10 hv10 hf => ?_)
      refine m_nmi hv10 ?_
      refine lv_istore (lv' := [(6, .int v10), (0, .ref (mo G)), (1, .int y1), (2, .int y2), (3, .int y3), (4, .int y4), (5, .int q.1)]) hx hb dX4_pack_116 hl (by decide) rfl (fun ls hl => ?_)
      refine k_bind hf (fun b14 hb14 hf => ?_)
      refine wLX4_pack_118 S hb14 ?_ _ _ _ hR hS (lv_sub (l' := [(0, .ref (mo G)), (1, .int y1), (2, .int y2), (3, .int y3), (4, .int y4), (5, .int q.1), (6, .int v10)]) hl [1, 2, 3, 4, 5, 6, 0] rfl)
      · intro b eb; subst eb; intro H locs ls hR hS hl
        refine lv_iinc (lv' := [(5, .int (q.1 + (1 : Int32))), (0, .ref (mo G)), (1, .int y1), (2, .int y2), (3, .int y3), (4, .int y4)]) hx hb dX4_pack_178 hl (k := 5) rfl (m_inc (by decide)) (by decide) rfl (fun ls hl => ?_)
        refine lv_goto (tgt := 68) hx hb dX4_pack_181 (by decide) ?_
        exact hK _ (Option.some.inj hf).symm _ _ _ hR hS (lv_sub (l' := [(0, .ref (mo G)), (1, .int y1), (2, .int y2), (3, .int y3), (4, .int y4), (5, .int (q.1 + (1 : Int32)))]) hl [1, 2, 3, 4, 5, 0] rfl)
    · replace hf := o_t hf c_91
      refine lv_goto (tgt := 178) hx hb dX4_pack_94 (by decide) ?_
      refine lv_iinc (lv' := [(5, .int (q.1 + (1 : Int32))), (0, .ref (mo G)), (1, .int y1), (2, .int y2), (3, .int y3), (4, .int y4)]) hx hb dX4_pack_178 hl (k := 5) rfl (m_inc (by decide)) (by decide) rfl (fun ls hl => ?_)
      refine lv_goto (tgt := 68) hx hb dX4_pack_181 (by decide) ?_
      exact hK _ (Option.some.inj hf).symm _ _ _ hR hS (lv_sub (l' := [(0, .ref (mo G)), (1, .int y1), (2, .int y2), (3, .int y3), (4, .int y4), (5, .int (q.1 + (1 : Int32)))]) hl [1, 2, 3, 4, 5, 0] rfl)
set_option maxHeartbeats 4000000 in
set_option maxRecDepth 100000 in
theorem wLX4_pack_68 {l : Launch} {G : mG} {p : Program} {e : Env} {s : State} {m : MethodId} {args : Array Value} {below : List Frame} {meth : Method} {c : Code} {Q : State → Prop} {y1 : Int32} {y2 : Int32} {y3 : Int32} {y4 : Int32} {q : Int32 × mS} {res : mS} (S : mSt G p m c cX4_pack 7 s args meth (Option.some Jvm.ClassFile.FieldType.int)) (h : lpw (LX4_pack_68 y1 y2 y3 y4) q = some res) (hE184 : ∀ b, res = b → (∀ (H : Heap) (locs : List Loc) (ls : Array Slot), mR G b H → va_S (mA G) s.heap H locs → lv_has ls 7 [(0, .ref (mo G)), (1, .int y1), (2, .int y2)] → W p l e (mRm 2 42) s m args below meth c H locs 0 0 Q (F0 m 184 ls []))) : (∀ (H : Heap) (locs : List Loc) (ls : Array Slot), mR G q.2 H → va_S (mA G) s.heap H locs → lv_has ls 7 [(0, .ref (mo G)), (1, .int y1), (2, .int y2), (3, .int y3), (4, .int y4), (5, .int q.1)] → W p l e (mRm 2 42) s m args below meth c H locs 0 0 Q (F0 m 68 ls [])) :=
  lpw_go _ (fun q => (∀ (H : Heap) (locs : List Loc) (ls : Array Slot), mR G q.2 H → va_S (mA G) s.heap H locs → lv_has ls 7 [(0, .ref (mo G)), (1, .int y1), (2, .int y2), (3, .int y3), (4, .int y4), (5, .int q.1)] → W p l e (mRm 2 42) s m args below meth c H locs 0 0 Q (F0 m 68 ls []))) (fun b0 => (∀ b, b0 = b → (∀ (H : Heap) (locs : List Loc) (ls : Array Slot), mR G b H → va_S (mA G) s.heap H locs → lv_has ls 7 [(0, .ref (mo G)), (1, .int y1), (2, .int y2)] → W p l e (mRm 2 42) s m args below meth c H locs 0 0 Q (F0 m 184 ls [])))) (fun q x hf hK hX => wbLX4_pack_68 S hf hK (fun b eb => (hX _ eb) b rfl)) q res h hE184
set_option maxHeartbeats 4000000 in
set_option maxRecDepth 100000 in
theorem wbLX4_pack_28 {l : Launch} {G : mG} {p : Program} {e : Env} {s : State} {m : MethodId} {args : Array Value} {below : List Frame} {meth : Method} {c : Code} {Q : State → Prop} {y1 : Int32} {q : Int32 × mS} {res : (Int32 × mS) ⊕ (mS)} (S : mSt G p m c cX4_pack 7 s args meth (Option.some Jvm.ClassFile.FieldType.int)) (hf : LX4_pack_28 y1 q = some res) (hK : ∀ q, res = Sum.inl q → (∀ (H : Heap) (locs : List Loc) (ls : Array Slot), mR G q.2 H → va_S (mA G) s.heap H locs → lv_has ls 7 [(0, .ref (mo G)), (1, .int y1), (2, .int q.1)] → W p l e (mRm 2 42) s m args below meth c H locs 0 0 Q (F0 m 28 ls []))) (hE190 : ∀ b, res = Sum.inr b → (∀ (H : Heap) (locs : List Loc) (ls : Array Slot), mR G b H → va_S (mA G) s.heap H locs → lv_has ls 7 [(0, .ref (mo G)), (1, .int y1)] → W p l e (mRm 2 42) s m args below meth c H locs 0 0 Q (F0 m 190 ls []))) : (∀ (H : Heap) (locs : List Loc) (ls : Array Slot), mR G q.2 H → va_S (mA G) s.heap H locs → lv_has ls 7 [(0, .ref (mo G)), (1, .int y1), (2, .int q.1)] → W p l e (mRm 2 42) s m args below meth c H locs 0 0 Q (F0 m 28 ls [])) := by
  replace hf : (if (fX4_all q.2) < q.1 then some (Sum.inr q.2) else (fX4_first q.1).bind (fun v3 => (some (q.1 &&& (q.1 - (1 : Int32)))).bind (fun v4 => (mast q.2 14 q.1 (-1 : Int32)).bind (fun σ5 => (fX4_packsTo q.1 v4 (0 : Int32) σ5).bind (fun e6 => (some (v3 + (1 : Int32))).bind (fun v7 => (lpw (LX4_pack_68 y1 q.1 v3 v4) (v7, e6)).bind (fun b15 => some (Sum.inl (q.1 + (1 : Int32), b15))))))))) = some res := hf
  obtain ⟨hx, hb, hml, hown, hts⟩ := S.1.1
  intro H locs ls hR hS hl
  refine lv_iload_n hx hb dX4_pack_28 rfl (lv_at hl 2 rfl) ?_
  refine lv_aload_n hx hb dX4_pack_29 rfl (lv_at hl 0 rfl) ?_
  refine m_call (As := []) (rest := [.int q.1]) S hR hS (met_X4_all rfl) wi_X4_all rfl q2738 ⟨rfl, rfl⟩ ⟨Nat.le_of_ble_eq_true rfl, Nat.le_of_ble_eq_true rfl⟩ rfl hl.1 rfl (Nat.le_of_ble_eq_true rfl) dX4_pack_30 (fun H locs hR hS => ?_)
  refine lv_icmp_gt (tgt := 190) hx hb dX4_pack_33 (by decide) (fun c_33 => ?_) (fun c_33 => ?_)
  · replace hf := o_t hf c_33
    exact hE190 _ (Option.some.inj hf).symm _ _ _ hR hS (lv_sub (l' := [(0, .ref (mo G)), (1, .int y1)]) hl [0, 1] rfl)
  · replace hf := o_f hf c_33
    refine lv_iload_n hx hb dX4_pack_36 rfl (lv_at hl 2 rfl) ?_
    refine k_bind hf (fun v3 hv3 hf => ?_)
    refine s_call (As := [.int q.1]) (rest := []) S.1.1 (met_X4_first hv3) wi_X4_first q2834 ⟨rfl, rfl⟩ ⟨Nat.le_of_ble_eq_true rfl, Nat.le_of_ble_eq_true rfl⟩ rfl hl.1 rfl (Nat.le_of_ble_eq_true rfl) dX4_pack_37 ⟨Nat.zero_le _, Nat.zero_le _⟩ ?_
    refine lv_istore_n (lv' := [(3, .int v3), (0, .ref (mo G)), (1, .int y1), (2, .int q.1)]) hx hb dX4_pack_40 rfl hl (by decide) rfl (fun ls hl => ?_)
    refine lv_iload_n hx hb dX4_pack_41 rfl (lv_at hl 3 rfl) ?_
    refine lv_iload_n hx hb dX4_pack_42 rfl (lv_at hl 3 rfl) ?_
    refine lv_iconst (v := 1) hx hb dX4_pack_43 (by decide) ?_
    refine lv_isub hx hb dX4_pack_44 ?_
    refine lv_iand hx hb dX4_pack_45 ?_
    refine k_bind hf (fun v4 hv4 hf => ?_)
    refine m_nmi hv4 ?_
    refine lv_istore (lv' := [(4, .int v4), (3, .int v3), (0, .ref (mo G)), (1, .int y1), (2, .int q.1)]) hx hb dX4_pack_46 hl (by decide) rfl (fun ls hl => ?_)
    refine lv_aload_n hx hb dX4_pack_48 rfl (lv_at hl 2 rfl) ?_
    refine m_geta (k := 14) S hR (by decide) (by decide) q2540 dX4_pack_49 ?_
    refine lv_iload_n hx hb dX4_pack_52 rfl (lv_at hl 4 rfl) ?_
    refine lv_iconst (v := -1) hx hb dX4_pack_53 (by decide) ?_
    refine k_bind hf (fun σ5 hσ5 hf => ?_)
    refine m_iast S hR hS hσ5 dX4_pack_54 (fun H locs hR hS => ?_)
    refine lv_aload_n hx hb dX4_pack_55 rfl (lv_at hl 2 rfl) ?_
    refine lv_iload_n hx hb dX4_pack_56 rfl (lv_at hl 4 rfl) ?_
    refine lv_iload hx hb dX4_pack_57 (lv_at hl 0 rfl) ?_
    refine lv_iconst (v := 0) hx hb dX4_pack_59 (by decide) ?_
    refine k_bind hf (fun e6 he6 hf => ?_)
    refine m_call (As := [.int q.1, .int v4, .int (0 : Int32)]) (rest := []) S hR hS (met_X4_packsTo he6) wi_X4_packsTo rfl q2885 ⟨rfl, rfl⟩ ⟨Nat.le_of_ble_eq_true rfl, Nat.le_of_ble_eq_true rfl⟩ rfl hl.1 rfl (Nat.le_of_ble_eq_true rfl) dX4_pack_60 (fun H locs hR hS => ?_)
    refine lv_iload_n hx hb dX4_pack_63 rfl (lv_at hl 1 rfl) ?_
    refine lv_iconst (v := 1) hx hb dX4_pack_64 (by decide) ?_
    refine lv_iadd hx hb dX4_pack_65 ?_
    refine k_bind hf (fun v7 hv7 hf => ?_)
    refine m_nmi hv7 ?_
    refine lv_istore (lv' := [(5, .int v7), (4, .int v4), (3, .int v3), (0, .ref (mo G)), (1, .int y1), (2, .int q.1)]) hx hb dX4_pack_66 hl (by decide) rfl (fun ls hl => ?_)
    refine k_bind hf (fun b15 hb15 hf => ?_)
    refine wLX4_pack_68 S hb15 ?_ _ _ _ hR hS (lv_sub (l' := [(0, .ref (mo G)), (1, .int y1), (2, .int q.1), (3, .int v3), (4, .int v4), (5, .int v7)]) hl [3, 4, 5, 2, 1, 0] rfl)
    · intro b eb; subst eb; intro H locs ls hR hS hl
      refine lv_iinc (lv' := [(2, .int (q.1 + (1 : Int32))), (0, .ref (mo G)), (1, .int y1)]) hx hb dX4_pack_184 hl (k := 2) rfl (m_inc (by decide)) (by decide) rfl (fun ls hl => ?_)
      refine lv_goto (tgt := 28) hx hb dX4_pack_187 (by decide) ?_
      exact hK _ (Option.some.inj hf).symm _ _ _ hR hS (lv_sub (l' := [(0, .ref (mo G)), (1, .int y1), (2, .int (q.1 + (1 : Int32)))]) hl [1, 2, 0] rfl)
set_option maxHeartbeats 4000000 in
set_option maxRecDepth 100000 in
theorem wLX4_pack_28 {l : Launch} {G : mG} {p : Program} {e : Env} {s : State} {m : MethodId} {args : Array Value} {below : List Frame} {meth : Method} {c : Code} {Q : State → Prop} {y1 : Int32} {q : Int32 × mS} {res : mS} (S : mSt G p m c cX4_pack 7 s args meth (Option.some Jvm.ClassFile.FieldType.int)) (h : lpw (LX4_pack_28 y1) q = some res) (hE190 : ∀ b, res = b → (∀ (H : Heap) (locs : List Loc) (ls : Array Slot), mR G b H → va_S (mA G) s.heap H locs → lv_has ls 7 [(0, .ref (mo G)), (1, .int y1)] → W p l e (mRm 2 42) s m args below meth c H locs 0 0 Q (F0 m 190 ls []))) : (∀ (H : Heap) (locs : List Loc) (ls : Array Slot), mR G q.2 H → va_S (mA G) s.heap H locs → lv_has ls 7 [(0, .ref (mo G)), (1, .int y1), (2, .int q.1)] → W p l e (mRm 2 42) s m args below meth c H locs 0 0 Q (F0 m 28 ls [])) :=
  lpw_go _ (fun q => (∀ (H : Heap) (locs : List Loc) (ls : Array Slot), mR G q.2 H → va_S (mA G) s.heap H locs → lv_has ls 7 [(0, .ref (mo G)), (1, .int y1), (2, .int q.1)] → W p l e (mRm 2 42) s m args below meth c H locs 0 0 Q (F0 m 28 ls []))) (fun b0 => (∀ b, b0 = b → (∀ (H : Heap) (locs : List Loc) (ls : Array Slot), mR G b H → va_S (mA G) s.heap H locs → lv_has ls 7 [(0, .ref (mo G)), (1, .int y1)] → W p l e (mRm 2 42) s m args below meth c H locs 0 0 Q (F0 m 190 ls [])))) (fun q x hf hK hX => wbLX4_pack_28 S hf hK (fun b eb => (hX _ eb) b rfl)) q res h hE190
set_option maxHeartbeats 4000000 in
set_option maxRecDepth 100000 in
theorem met_X4_pack {l : Launch} {G : mG} {x1 : Int32} {σ : mS} {res : Int32 × mS} (hf : fX4_pack x1 σ = some res) : mMet l yX4_pack cX4_pack 7 (Option.some Jvm.ClassFile.FieldType.int) (mRm 2 42) G [.ref (mo G), .int x1] σ (some (.int res.1)) res.2 := by
  replace hf : (if (fX4_in x1 (0 : Int32) (1 : Int32)) = (0 : Int32) then some ((-2 : Int32), σ) else (mast σ 14 (0 : Int32) (0 : Int32)).bind (fun σ1 => (mast σ1 15 (0 : Int32) (0 : Int32)).bind (fun σ2 => (lpw (LX4_pack_28 x1) ((1 : Int32), σ2)).bind (fun b16 => if x1 = (0 : Int32) then (mald b16 14 (fX4_all b16)).bind (fun v18 => some (v18, b16)) else (mald b16 15 (fX4_all b16)).bind (fun v17 => some (v17, b16)))))) = some res := hf
  refine m_start (by decide) rfl (Nat.le_of_ble_eq_true rfl) ?_
  intro p e s m args below meth c S hR hS ls hl
  obtain ⟨hx, hb, hml, hown, hts⟩ := S.1.1
  have hl : lv_has ls 7 [(0, .ref (mo G)), (1, .int x1)] := hl
  refine lv_iload_n hx hb dX4_pack_0 rfl (lv_at hl 1 rfl) ?_
  refine lv_iconst (v := 0) hx hb dX4_pack_1 (by decide) ?_
  refine lv_iconst (v := 1) hx hb dX4_pack_2 (by decide) ?_
  refine s_call (As := [.int x1, .int (0 : Int32), .int (1 : Int32)]) (rest := []) S.1.1 (met_X4_in rfl) wi_X4_in q2681 ⟨rfl, rfl⟩ ⟨Nat.le_of_ble_eq_true rfl, Nat.le_of_ble_eq_true rfl⟩ rfl hl.1 rfl (Nat.le_of_ble_eq_true rfl) dX4_pack_3 ⟨Nat.zero_le _, Nat.zero_le _⟩ ?_
  refine lv_if_ne (tgt := 12) hx hb dX4_pack_6 (by decide) (fun c_6 => ?_) (fun c_6 => ?_)
  · replace hf := o_f hf c_6
    refine lv_aload_n hx hb dX4_pack_12 rfl (lv_at hl 0 rfl) ?_
    refine m_geta (k := 14) S hR (by decide) (by decide) q2540 dX4_pack_13 ?_
    refine lv_iconst (v := 0) hx hb dX4_pack_16 (by decide) ?_
    refine lv_iconst (v := 0) hx hb dX4_pack_17 (by decide) ?_
    refine k_bind hf (fun σ1 hσ1 hf => ?_)
    refine m_iast S hR hS hσ1 dX4_pack_18 (fun H locs hR hS => ?_)
    refine lv_aload_n hx hb dX4_pack_19 rfl (lv_at hl 0 rfl) ?_
    refine m_geta (k := 15) S hR (by decide) (by decide) q2541 dX4_pack_20 ?_
    refine lv_iconst (v := 0) hx hb dX4_pack_23 (by decide) ?_
    refine lv_iconst (v := 0) hx hb dX4_pack_24 (by decide) ?_
    refine k_bind hf (fun σ2 hσ2 hf => ?_)
    refine m_iast S hR hS hσ2 dX4_pack_25 (fun H locs hR hS => ?_)
    refine lv_iconst (v := 1) hx hb dX4_pack_26 (by decide) ?_
    refine lv_istore_n (lv' := [(2, .int (1 : Int32)), (0, .ref (mo G)), (1, .int x1)]) hx hb dX4_pack_27 rfl hl (by decide) rfl (fun ls hl => ?_)
    refine k_bind hf (fun b16 hb16 hf => ?_)
    refine wLX4_pack_28 S hb16 ?_ _ _ _ hR hS (lv_sub (l' := [(0, .ref (mo G)), (1, .int x1), (2, .int (1 : Int32))]) hl [1, 2, 0] rfl)
    · intro b eb; subst eb; intro H locs ls hR hS hl
      refine lv_iload_n hx hb dX4_pack_190 rfl (lv_at hl 1 rfl) ?_
      refine lv_if_ne (tgt := 206) hx hb dX4_pack_191 (by decide) (fun c_191 => ?_) (fun c_191 => ?_)
      · replace hf := o_f hf c_191
        refine lv_aload_n hx hb dX4_pack_206 rfl (lv_at hl 0 rfl) ?_
        refine m_geta (k := 15) S hR (by decide) (by decide) q2541 dX4_pack_207 ?_
        refine lv_aload_n hx hb dX4_pack_210 rfl (lv_at hl 0 rfl) ?_
        refine m_call (As := []) (rest := [.ref (mad G 15)]) S hR hS (met_X4_all rfl) wi_X4_all rfl q2738 ⟨rfl, rfl⟩ ⟨Nat.le_of_ble_eq_true rfl, Nat.le_of_ble_eq_true rfl⟩ rfl hl.1 rfl (Nat.le_of_ble_eq_true rfl) dX4_pack_211 (fun H locs hR hS => ?_)
        refine k_bind hf (fun v17 hv17 hf => ?_)
        refine m_iald S hR hv17 dX4_pack_214 ?_
        obtain rfl := Option.some.inj hf
        exact m_iret S hR hS rfl dX4_pack_215
      · replace hf := o_t hf c_191
        refine lv_aload_n hx hb dX4_pack_194 rfl (lv_at hl 0 rfl) ?_
        refine m_geta (k := 14) S hR (by decide) (by decide) q2540 dX4_pack_195 ?_
        refine lv_aload_n hx hb dX4_pack_198 rfl (lv_at hl 0 rfl) ?_
        refine m_call (As := []) (rest := [.ref (mad G 14)]) S hR hS (met_X4_all rfl) wi_X4_all rfl q2738 ⟨rfl, rfl⟩ ⟨Nat.le_of_ble_eq_true rfl, Nat.le_of_ble_eq_true rfl⟩ rfl hl.1 rfl (Nat.le_of_ble_eq_true rfl) dX4_pack_199 (fun H locs hR hS => ?_)
        refine k_bind hf (fun v18 hv18 hf => ?_)
        refine m_iald S hR hv18 dX4_pack_202 ?_
        refine lv_goto (tgt := 215) hx hb dX4_pack_203 (by decide) ?_
        obtain rfl := Option.some.inj hf
        exact m_iret S hR hS rfl dX4_pack_215
  · replace hf := o_t hf c_6
    refine lv_bipush (v := -2) hx hb dX4_pack_9 (by decide) ?_
    obtain rfl := Option.some.inj hf
    exact m_iret S hR hS rfl dX4_pack_11
