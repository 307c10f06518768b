/-! the reference, walked: tree isUnder isMarked treeOf plant -/
noncomputable def JX4_tree_93 (σ : mS) : Option (Int64 × mS) :=
  (mlld σ 34 (0 : Int32)).bind (fun v2 => (mlld σ 35 (0 : Int32)).bind (fun v3 => if (0 : Int32) ≤ (lg_cmp v2 v3) then (mlld σ 35 (0 : Int32)).bind (fun v4 => some (v4, σ)) else (mlld σ 34 (0 : Int32)).bind (fun v5 => some (v5, σ))))
noncomputable def JX4_tree_83 (y1 : Int32) (z0 : Int32) (σ : mS) : Option (Int64 × mS) :=
  if y1 = (0 : Int32) then JX4_tree_93 σ else if y1 = (3 : Int32) then JX4_tree_93 σ else if z0 = (0 : Int32) then (mlld σ 34 (0 : Int32)).bind (fun v6 => (mlld σ 35 (0 : Int32)).bind (fun v7 => if (0 : Int32) ≤ (lg_cmp v6 v7) then (mlld σ 37 (0 : Int32)).bind (fun v8 => some (v8, σ)) else (mlld σ 36 (0 : Int32)).bind (fun v9 => some (v9, σ)))) else (mlld σ 36 (0 : Int32)).bind (fun v10 => (mlld σ 37 (0 : Int32)).bind (fun v11 => some ((v10 + v11), σ)))
noncomputable def JX4_tree_54 (y1 : Int32) (z0 : Int32) (σ : mS) : Option (Int64 × mS) :=
  (fX4_counts z0 σ).bind (fun e1 => if y1 = (1 : Int32) then JX4_tree_83 y1 (1 : Int32) e1 else (mlld e1 34 (0 : Int32)).bind (fun v12 => (mlld e1 35 (0 : Int32)).bind (fun v13 => if (lg_cmp v12 v13) = (0 : Int32) then JX4_tree_83 y1 (1 : Int32) e1 else JX4_tree_83 y1 (0 : Int32) e1)))
noncomputable def fX4_tree (x1 : Int32) (σ : mS) : Option (Int64 × mS) :=
  if (fX4_in x1 (0 : Int32) (5 : Int32)) = (0 : Int32) then some ((-2 : Int64), σ) else if (σ.1 26) = (0 : Int32) then some ((-1 : Int64), σ) else if x1 = (5 : Int32) then (fX4_bareOnes σ).bind (fun e14 => some (e14.1, e14.2)) else if x1 = (1 : Int32) then JX4_tree_54 x1 (2 : Int32) σ else if (3 : Int32) ≤ x1 then JX4_tree_54 x1 (1 : Int32) σ else JX4_tree_54 x1 (0 : Int32) σ
theorem wi_X4_tree : wInfV yX4_tree cX4_tree 3 (Option.some Jvm.ClassFile.FieldType.long) 1 := ⟨q2989, q2990, q116, q2991, (by decide +kernel), (by decide +kernel), (by decide +kernel)⟩
set_option maxHeartbeats 4000000 in
set_option maxRecDepth 100000 in
theorem wJX4_tree_93 {l : Launch} {G : mG} {p : Program} {e : Env} {s : State} {m : MethodId} {args : Array Value} {below : List Frame} {meth : Method} {c : Code} {σ : mS} {res : Int64 × mS} (S : mSt G p m c cX4_tree 3 s args meth (Option.some Jvm.ClassFile.FieldType.long)) (hf : JX4_tree_93 σ = some res) : ∀ (H : Heap) (locs : List Loc) (ls : Array Slot), mR G σ H → va_S (mA G) s.heap H locs → lv_has ls 3 [(0, .ref (mo G))] → W p l e (mRm 3 69) s m args below meth c H locs 0 0 (MQ below (mQ G (some (.long res.1)) res.2) args s 0 0 (mA G)) (F0 m 93 ls []) := by
  replace hf : ((mlld σ 34 (0 : Int32)).bind (fun v2 => (mlld σ 35 (0 : Int32)).bind (fun v3 => if (0 : Int32) ≤ (lg_cmp v2 v3) then (mlld σ 35 (0 : Int32)).bind (fun v4 => some (v4, σ)) else (mlld σ 34 (0 : Int32)).bind (fun v5 => some (v5, σ))))) = some res := hf
  obtain ⟨hx, hb, hml, hown, hts⟩ := S.1.1
  intro H locs ls hR hS hl
  refine lv_aload_n hx hb dX4_tree_93 rfl (lv_at hl 0 rfl) ?_
  refine m_geta (k := 34) S hR (by decide) (by decide) q2560 dX4_tree_94 ?_
  refine lv_iconst (v := 0) hx hb dX4_tree_97 (by decide) ?_
  refine k_bind hf (fun v2 hv2 hf => ?_)
  refine m_lald S hR hv2 dX4_tree_98 ?_
  refine lv_aload_n hx hb dX4_tree_99 rfl (lv_at hl 0 rfl) ?_
  refine m_geta (k := 35) S hR (by decide) (by decide) q2561 dX4_tree_100 ?_
  refine lv_iconst (v := 0) hx hb dX4_tree_103 (by decide) ?_
  refine k_bind hf (fun v3 hv3 hf => ?_)
  refine m_lald S hR hv3 dX4_tree_104 ?_
  refine W.lcmp hx hb dX4_tree_105 ?_
  refine lv_if_ge (tgt := 118) hx hb dX4_tree_106 (by decide) (fun c_106 => ?_) (fun c_106 => ?_)
  · replace hf := o_t hf c_106
    refine lv_aload_n hx hb dX4_tree_118 rfl (lv_at hl 0 rfl) ?_
    refine m_geta (k := 35) S hR (by decide) (by decide) q2561 dX4_tree_119 ?_
    refine lv_iconst (v := 0) hx hb dX4_tree_122 (by decide) ?_
    refine k_bind hf (fun v4 hv4 hf => ?_)
    refine m_lald S hR hv4 dX4_tree_123 ?_
    obtain rfl := Option.some.inj hf
    exact m_lret S hR hS dX4_tree_124
  · replace hf := o_f hf c_106
    refine lv_aload_n hx hb dX4_tree_109 rfl (lv_at hl 0 rfl) ?_
    refine m_geta (k := 34) S hR (by decide) (by decide) q2560 dX4_tree_110 ?_
    refine lv_iconst (v := 0) hx hb dX4_tree_113 (by decide) ?_
    refine k_bind hf (fun v5 hv5 hf => ?_)
    refine m_lald S hR hv5 dX4_tree_114 ?_
    refine lv_goto (tgt := 124) hx hb dX4_tree_115 (by decide) ?_
    obtain rfl := Option.some.inj hf
    exact m_lret S hR hS dX4_tree_124
set_option maxHeartbeats 4000000 in
set_option maxRecDepth 100000 in
theorem wJX4_tree_83 {l : Launch} {G : mG} {p : Program} {e : Env} {s : State} {m : MethodId} {args : Array Value} {below : List Frame} {meth : Method} {c : Code} {y1 : Int32} {z0 : Int32} {σ : mS} {res : Int64 × mS} (S : mSt G p m c cX4_tree 3 s args meth (Option.some Jvm.ClassFile.FieldType.long)) (hf : JX4_tree_83 y1 z0 σ = some res) : ∀ (H : Heap) (locs : List Loc) (ls : Array Slot), mR G σ H → va_S (mA G) s.heap H locs → lv_has ls 3 [(0, .ref (mo G)), (1, .int y1)] → W p l e (mRm 3 69) s m args below meth c H locs 0 0 (MQ below (mQ G (some (.long res.1)) res.2) args s 0 0 (mA G)) (F0 m 83 ls [.int z0]) := by
  replace hf : (if y1 = (0 : Int32) then JX4_tree_93 σ else if y1 = (3 : Int32) then JX4_tree_93 σ else if z0 = (0 : Int32) then (mlld σ 34 (0 : Int32)).bind (fun v6 => (mlld σ 35 (0 : Int32)).bind (fun v7 => if (0 : Int32) ≤ (lg_cmp v6 v7) then (mlld σ 37 (0 : Int32)).bind (fun v8 => some (v8, σ)) else (mlld σ 36 (0 : Int32)).bind (fun v9 => some (v9, σ)))) else (mlld σ 36 (0 : Int32)).bind (fun v10 => (mlld σ 37 (0 : Int32)).bind (fun v11 => some ((v10 + v11), σ)))) = some res := hf
  obtain ⟨hx, hb, hml, hown, hts⟩ := S.1.1
  intro H locs ls hR hS hl
  refine lv_istore_n (lv' := [(2, .int z0), (0, .ref (mo G)), (1, .int y1)]) hx hb dX4_tree_83 rfl hl (by decide) rfl (fun ls hl => ?_)
  refine lv_iload_n hx hb dX4_tree_84 rfl (lv_at hl 2 rfl) ?_
  refine lv_if_eq (tgt := 93) hx hb dX4_tree_85 (by decide) (fun c_85 => ?_) (fun c_85 => ?_)
  · replace hf := o_t hf c_85
    exact wJX4_tree_93 S hf _ _ _ hR hS (lv_sub (l' := [(0, .ref (mo G))]) hl [1] rfl)
  · replace hf := o_f hf c_85
    refine lv_iload_n hx hb dX4_tree_88 rfl (lv_at hl 2 rfl) ?_
    refine lv_iconst (v := 3) hx hb dX4_tree_89 (by decide) ?_
    refine lv_icmp_ne (tgt := 125) hx hb dX4_tree_90 (by decide) (fun c_90 => ?_) (fun c_90 => ?_)
    · replace hf := o_f hf c_90
      refine lv_iload_n hx hb dX4_tree_125 rfl (lv_at hl 0 rfl) ?_
      refine lv_if_eq (tgt := 145) hx hb dX4_tree_126 (by decide) (fun c_126 => ?_) (fun c_126 => ?_)
      · replace hf := o_t hf c_126
        refine lv_aload_n hx hb dX4_tree_145 rfl (lv_at hl 1 rfl) ?_
        refine m_geta (k := 34) S hR (by decide) (by decide) q2560 dX4_tree_146 ?_
        refine lv_iconst (v := 0) hx hb dX4_tree_149 (by decide) ?_
        refine k_bind hf (fun v6 hv6 hf => ?_)
        refine m_lald S hR hv6 dX4_tree_150 ?_
        refine lv_aload_n hx hb dX4_tree_151 rfl (lv_at hl 1 rfl) ?_
        refine m_geta (k := 35) S hR (by decide) (by decide) q2561 dX4_tree_152 ?_
        refine lv_iconst (v := 0) hx hb dX4_tree_155 (by decide) ?_
        refine k_bind hf (fun v7 hv7 hf => ?_)
        refine m_lald S hR hv7 dX4_tree_156 ?_
        refine W.lcmp hx hb dX4_tree_157 ?_
        refine lv_if_ge (tgt := 170) hx hb dX4_tree_158 (by decide) (fun c_158 => ?_) (fun c_158 => ?_)
        · replace hf := o_t hf c_158
          refine lv_aload_n hx hb dX4_tree_170 rfl (lv_at hl 1 rfl) ?_
          refine m_geta (k := 37) S hR (by decide) (by decide) q2563 dX4_tree_171 ?_
          refine lv_iconst (v := 0) hx hb dX4_tree_174 (by decide) ?_
          refine k_bind hf (fun v8 hv8 hf => ?_)
          refine m_lald S hR hv8 dX4_tree_175 ?_
          obtain rfl := Option.some.inj hf
          exact m_lret S hR hS dX4_tree_176
        · replace hf := o_f hf c_158
          refine lv_aload_n hx hb dX4_tree_161 rfl (lv_at hl 1 rfl) ?_
          refine m_geta (k := 36) S hR (by decide) (by decide) q2562 dX4_tree_162 ?_
          refine lv_iconst (v := 0) hx hb dX4_tree_165 (by decide) ?_
          refine k_bind hf (fun v9 hv9 hf => ?_)
          refine m_lald S hR hv9 dX4_tree_166 ?_
          refine lv_goto (tgt := 176) hx hb dX4_tree_167 (by decide) ?_
          obtain rfl := Option.some.inj hf
          exact m_lret S hR hS dX4_tree_176
      · replace hf := o_f hf c_126
        refine lv_aload_n hx hb dX4_tree_129 rfl (lv_at hl 1 rfl) ?_
        refine m_geta (k := 36) S hR (by decide) (by decide) q2562 dX4_tree_130 ?_
        refine lv_iconst (v := 0) hx hb dX4_tree_133 (by decide) ?_
        refine k_bind hf (fun v10 hv10 hf => ?_)
        refine m_lald S hR hv10 dX4_tree_134 ?_
        refine lv_aload_n hx hb dX4_tree_135 rfl (lv_at hl 1 rfl) ?_
        refine m_geta (k := 37) S hR (by decide) (by decide) q2563 dX4_tree_136 ?_
        refine lv_iconst (v := 0) hx hb dX4_tree_139 (by decide) ?_
        refine k_bind hf (fun v11 hv11 hf => ?_)
        refine m_lald S hR hv11 dX4_tree_140 ?_
        refine lv_ladd hx hb dX4_tree_141 ?_
        refine lv_goto (tgt := 176) hx hb dX4_tree_142 (by decide) ?_
        obtain rfl := Option.some.inj hf
        exact m_lret S hR hS dX4_tree_176
    · replace hf := o_t hf c_90
      exact wJX4_tree_93 S hf _ _ _ hR hS (lv_sub (l' := [(0, .ref (mo G))]) hl [1] rfl)
set_option maxHeartbeats 4000000 in
set_option maxRecDepth 100000 in
theorem wJX4_tree_54 {l : Launch} {G : mG} {p : Program} {e : Env} {s : State} {m : MethodId} {args : Array Value} {below : List Frame} {meth : Method} {c : Code} {y1 : Int32} {z0 : Int32} {σ : mS} {res : Int64 × mS} (S : mSt G p m c cX4_tree 3 s args meth (Option.some Jvm.ClassFile.FieldType.long)) (hf : JX4_tree_54 y1 z0 σ = some res) : ∀ (H : Heap) (locs : List Loc) (ls : Array Slot), mR G σ H → va_S (mA G) s.heap H locs → lv_has ls 3 [(0, .ref (mo G)), (1, .int y1)] → W p l e (mRm 3 69) s m args below meth c H locs 0 0 (MQ below (mQ G (some (.long res.1)) res.2) args s 0 0 (mA G)) (F0 m 54 ls [.int z0, .ref (mo G)]) := by
  replace hf : ((fX4_counts z0 σ).bind (fun e1 => if y1 = (1 : Int32) then JX4_tree_83 y1 (1 : Int32) e1 else (mlld e1 34 (0 : Int32)).bind (fun v12 => (mlld e1 35 (0 : Int32)).bind (fun v13 => if (lg_cmp v12 v13) = (0 : Int32) then JX4_tree_83 y1 (1 : Int32) e1 else JX4_tree_83 y1 (0 : Int32) e1)))) = some res := hf
  obtain ⟨hx, hb, hml, hown, hts⟩ := S.1.1
  intro H locs ls hR hS hl
  refine k_bind hf (fun e1 he1 hf => ?_)
  refine m_call (As := [.int z0]) (rest := []) S hR hS (met_X4_counts he1) wi_X4_counts rfl q2997 ⟨rfl, rfl⟩ ⟨Nat.le_of_ble_eq_true rfl, Nat.le_of_ble_eq_true rfl⟩ rfl hl.1 rfl (Nat.le_of_ble_eq_true rfl) dX4_tree_54 (fun H locs hR hS => ?_)
  refine lv_iload_n hx hb dX4_tree_57 rfl (lv_at hl 1 rfl) ?_
  refine lv_iconst (v := 1) hx hb dX4_tree_58 (by decide) ?_
  refine lv_icmp_eq (tgt := 78) hx hb dX4_tree_59 (by decide) (fun c_59 => ?_) (fun c_59 => ?_)
  · replace hf := o_t hf c_59
    refine lv_iconst (v := 1) hx hb dX4_tree_78 (by decide) ?_
    refine lv_goto (tgt := 83) hx hb dX4_tree_79 (by decide) ?_
    exact wJX4_tree_83 S hf _ _ _ hR hS hl
  · replace hf := o_f hf c_59
    refine lv_aload_n hx hb dX4_tree_62 rfl (lv_at hl 0 rfl) ?_
    refine m_geta (k := 34) S hR (by decide) (by decide) q2560 dX4_tree_63 ?_
    refine lv_iconst (v := 0) hx hb dX4_tree_66 (by decide) ?_
    refine k_bind hf (fun v12 hv12 hf => ?_)
    refine m_lald S hR hv12 dX4_tree_67 ?_
    refine lv_aload_n hx hb dX4_tree_68 rfl (lv_at hl 0 rfl) ?_
    refine m_geta (k := 35) S hR (by decide) (by decide) q2561 dX4_tree_69 ?_
    refine lv_iconst (v := 0) hx hb dX4_tree_72 (by decide) ?_
    refine k_bind hf (fun v13 hv13 hf => ?_)
    refine m_lald S hR hv13 dX4_tree_73 ?_
    refine W.lcmp hx hb dX4_tree_74 ?_
    refine lv_if_ne (tgt := 82) hx hb dX4_tree_75 (by decide) (fun c_75 => ?_) (fun c_75 => ?_)
    · replace hf := o_f hf c_75
      refine lv_iconst (v := 0) hx hb dX4_tree_82 (by decide) ?_
      exact wJX4_tree_83 S hf _ _ _ hR hS hl
    · replace hf := o_t hf c_75
      refine lv_iconst (v := 1) hx hb dX4_tree_78 (by decide) ?_
      refine lv_goto (tgt := 83) hx hb dX4_tree_79 (by decide) ?_
      exact wJX4_tree_83 S hf _ _ _ hR hS hl
set_option maxHeartbeats 4000000 in
set_option maxRecDepth 100000 in
theorem met_X4_tree {l : Launch} {G : mG} {x1 : Int32} {σ : mS} {res : Int64 × mS} (hf : fX4_tree x1 σ = some res) : mMet l yX4_tree cX4_tree 3 (Option.some Jvm.ClassFile.FieldType.long) (mRm 3 69) G [.ref (mo G), .int x1] σ (some (.long res.1)) res.2 := by
  replace hf : (if (fX4_in x1 (0 : Int32) (5 : Int32)) = (0 : Int32) then some ((-2 : Int64), σ) else if (σ.1 26) = (0 : Int32) then some ((-1 : Int64), σ) else if x1 = (5 : Int32) then (fX4_bareOnes σ).bind (fun e14 => some (e14.1, e14.2)) else if x1 = (1 : Int32) then JX4_tree_54 x1 (2 : Int32) σ else if (3 : Int32) ≤ x1 then JX4_tree_54 x1 (1 : Int32) σ else JX4_tree_54 x1 (0 : Int32) σ) = some res := hf
  refine m_start (by decide) rfl (Nat.le_of_ble_eq_true rfl) ?_
  intro p e s m args below meth c S hR hS ls hl
  obtain ⟨hx, hb, hml, hown, hts⟩ := S.1.1
  have hl : lv_has ls 3 [(0, .ref (mo G)), (1, .int x1)] := hl
  refine lv_iload_n hx hb dX4_tree_0 rfl (lv_at hl 1 rfl) ?_
  refine lv_iconst (v := 0) hx hb dX4_tree_1 (by decide) ?_
  refine lv_iconst (v := 5) hx hb dX4_tree_2 (by decide) ?_
  refine s_call (As := [.int x1, .int (0 : Int32), .int (5 : Int32)]) (rest := []) S.1.1 (met_X4_in rfl) wi_X4_in q2681 ⟨rfl, rfl⟩ ⟨Nat.le_of_ble_eq_true rfl, Nat.le_of_ble_eq_true rfl⟩ rfl hl.1 rfl (Nat.le_of_ble_eq_true rfl) dX4_tree_3 ⟨Nat.zero_le _, Nat.zero_le _⟩ ?_
  refine lv_if_ne (tgt := 13) hx hb dX4_tree_6 (by decide) (fun c_6 => ?_) (fun c_6 => ?_)
  · replace hf := o_f hf c_6
    refine lv_aload_n hx hb dX4_tree_13 rfl (lv_at hl 0 rfl) ?_
    refine m_geti (k := 26) S hR (by decide) (by decide) q2552 dX4_tree_14 ?_
    refine lv_if_ne (tgt := 24) hx hb dX4_tree_17 (by decide) (fun c_17 => ?_) (fun c_17 => ?_)
    · replace hf := o_f hf c_17
      refine lv_iload_n hx hb dX4_tree_24 rfl (lv_at hl 1 rfl) ?_
      refine lv_iconst (v := 5) hx hb dX4_tree_25 (by decide) ?_
      refine lv_icmp_ne (tgt := 34) hx hb dX4_tree_26 (by decide) (fun c_26 => ?_) (fun c_26 => ?_)
      · replace hf := o_f hf c_26
        refine lv_aload_n hx hb dX4_tree_34 rfl (lv_at hl 0 rfl) ?_
        refine lv_iload_n hx hb dX4_tree_35 rfl (lv_at hl 1 rfl) ?_
        refine lv_iconst (v := 1) hx hb dX4_tree_36 (by decide) ?_
        refine lv_icmp_ne (tgt := 44) hx hb dX4_tree_37 (by decide) (fun c_37 => ?_) (fun c_37 => ?_)
        · replace hf := o_f hf c_37
          refine lv_iload_n hx hb dX4_tree_44 rfl (lv_at hl 1 rfl) ?_
          refine lv_iconst (v := 3) hx hb dX4_tree_45 (by decide) ?_
          refine lv_icmp_ge (tgt := 53) hx hb dX4_tree_46 (by decide) (fun c_46 => ?_) (fun c_46 => ?_)
          · replace hf := o_t hf c_46
            refine lv_iconst (v := 1) hx hb dX4_tree_53 (by decide) ?_
            exact wJX4_tree_54 S hf _ _ _ hR hS hl
          · replace hf := o_f hf c_46
            refine lv_iconst (v := 0) hx hb dX4_tree_49 (by decide) ?_
            refine lv_goto (tgt := 54) hx hb dX4_tree_50 (by decide) ?_
            exact wJX4_tree_54 S hf _ _ _ hR hS hl
        · replace hf := o_t hf c_37
          refine lv_iconst (v := 2) hx hb dX4_tree_40 (by decide) ?_
          refine lv_goto (tgt := 54) hx hb dX4_tree_41 (by decide) ?_
          exact wJX4_tree_54 S hf _ _ _ hR hS hl
      · replace hf := o_t hf c_26
        refine lv_aload_n hx hb dX4_tree_29 rfl (lv_at hl 0 rfl) ?_
        refine k_bind hf (fun e14 he14 hf => ?_)
        refine m_call (As := []) (rest := []) S hR hS (met_X4_bareOnes he14) wi_X4_bareOnes rfl q2993 ⟨rfl, rfl⟩ ⟨Nat.le_of_ble_eq_true rfl, Nat.le_of_ble_eq_true rfl⟩ rfl hl.1 rfl (Nat.le_of_ble_eq_true rfl) dX4_tree_30 (fun H locs hR hS => ?_)
        obtain rfl := Option.some.inj hf
        exact m_lret S hR hS dX4_tree_33
    · replace hf := o_t hf c_17
      refine lv_ldc2 hx hb hown (hts _ q2992) dX4_tree_20 ?_
      obtain rfl := Option.some.inj hf
      exact m_lret S hR hS dX4_tree_23
  · replace hf := o_t hf c_6
    refine lv_ldc2 hx hb hown (hts _ q2786) dX4_tree_9 ?_
    obtain rfl := Option.some.inj hf
    exact m_lret S hR hS dX4_tree_12

noncomputable def LX4_isUnder_7 (y2 : Int32) (σ : mS) (q : Int32) : Option ((Int32) ⊕ (Int32)) :=
  if q = (-1 : Int32) then some (Sum.inr q) else if q = y2 then some (Sum.inr q) else (mald σ 29 q).bind (fun v2 => some (Sum.inl v2))
noncomputable def JX4_isUnder_27 (y2 : Int32) (y3 : Int32) (σ : mS) : Option Int32 :=
  if y3 = y2 then some (1 : Int32) else some (0 : Int32)
noncomputable def fX4_isUnder (x1 : Int32) (x2 : Int32) (σ : mS) : Option Int32 :=
  (mald σ 29 x1).bind (fun v1 => (lpw (LX4_isUnder_7 x2 σ) v1).bind (fun b3 => JX4_isUnder_27 x2 b3 σ))
theorem wi_X4_isUnder : wInfV yX4_isUnder cX4_isUnder 4 (Option.some Jvm.ClassFile.FieldType.boolean) 2 := ⟨q3015, qs98, q116, q3016, (by decide +kernel), (by decide +kernel), (by decide +kernel)⟩
set_option maxHeartbeats 4000000 in
set_option maxRecDepth 100000 in
theorem wbLX4_isUnder_7 {l : Launch} {G : mG} {p : Program} {e : Env} {s : State} {m : MethodId} {args : Array Value} {below : List Frame} {meth : Method} {c : Code} {Q : State → Prop} {y2 : Int32} {σ : mS} {q : Int32} {res : (Int32) ⊕ (Int32)} (S : mSt G p m c cX4_isUnder 4 s args meth (Option.some Jvm.ClassFile.FieldType.boolean)) (hf : LX4_isUnder_7 y2 σ q = some res) (hK : ∀ q, res = Sum.inl q → (∀ (H : Heap) (locs : List Loc) (ls : Array Slot), mR G σ H → va_S (mA G) s.heap H locs → lv_has ls 4 [(0, .ref (mo G)), (2, .int y2), (3, .int q)] → W p l e (mRm 0 0) s m args below meth c H locs 0 0 Q (F0 m 7 ls []))) (hE27 : ∀ b, res = Sum.inr b → (∀ (H : Heap) (locs : List Loc) (ls : Array Slot), mR G σ H → va_S (mA G) s.heap H locs → lv_has ls 4 [(0, .ref (mo G)), (2, .int y2), (3, .int b)] → W p l e (mRm 0 0) s m args below meth c H locs 0 0 Q (F0 m 27 ls []))) : (∀ (H : Heap) (locs : List Loc) (ls : Array Slot), mR G σ H → va_S (mA G) s.heap H locs → lv_has ls 4 [(0, .ref (mo G)), (2, .int y2), (3, .int q)] → W p l e (mRm 0 0) s m args below meth c H locs 0 0 Q (F0 m 7 ls [])) := by
  replace hf : (if q = (-1 : Int32) then some (Sum.inr q) else if q = y2 then some (Sum.inr q) else (mald σ 29 q).bind (fun v2 => some (Sum.inl v2))) = some res := hf
  obtain ⟨hx, hb, hml, hown, hts⟩ := S.1.1
  intro H locs ls hR hS hl
  refine lv_iload_n hx hb dX4_isUnder_7 rfl (lv_at hl 2 rfl) ?_
  refine lv_iconst (v := -1) hx hb dX4_isUnder_8 (by decide) ?_
  refine lv_icmp_eq (tgt := 27) hx hb dX4_isUnder_9 (by decide) (fun c_9 => ?_) (fun c_9 => ?_)
  · replace hf := o_t hf c_9
    exact hE27 _ (Option.some.inj hf).symm _ _ _ hR hS hl
  · replace hf := o_f hf c_9
    refine lv_iload_n hx hb dX4_isUnder_12 rfl (lv_at hl 2 rfl) ?_
    refine lv_iload_n hx hb dX4_isUnder_13 rfl (lv_at hl 1 rfl) ?_
    refine lv_icmp_eq (tgt := 27) hx hb dX4_isUnder_14 (by decide) (fun c_14 => ?_) (fun c_14 => ?_)
    · replace hf := o_t hf c_14
      exact hE27 _ (Option.some.inj hf).symm _ _ _ hR hS hl
    · replace hf := o_f hf c_14
      refine lv_aload_n hx hb dX4_isUnder_17 rfl (lv_at hl 0 rfl) ?_
      refine m_geta (k := 29) S hR (by decide) (by decide) q2555 dX4_isUnder_18 ?_
      refine lv_iload_n hx hb dX4_isUnder_21 rfl (lv_at hl 2 rfl) ?_
      refine k_bind hf (fun v2 hv2 hf => ?_)
      refine m_iald S hR hv2 dX4_isUnder_22 ?_
      refine lv_istore_n (lv' := [(3, .int v2), (0, .ref (mo G)), (2, .int y2)]) hx hb dX4_isUnder_23 rfl hl (by decide) rfl (fun ls hl => ?_)
      refine lv_goto (tgt := 7) hx hb dX4_isUnder_24 (by decide) ?_
      exact hK _ (Option.some.inj hf).symm _ _ _ hR hS (lv_sub (l' := [(0, .ref (mo G)), (2, .int y2), (3, .int v2)]) hl [1, 2, 0] rfl)
set_option maxHeartbeats 4000000 in
set_option maxRecDepth 100000 in
theorem wLX4_isUnder_7 {l : Launch} {G : mG} {p : Program} {e : Env} {s : State} {m : MethodId} {args : Array Value} {below : List Frame} {meth : Method} {c : Code} {Q : State → Prop} {y2 : Int32} {σ : mS} {q : Int32} {res : Int32} (S : mSt G p m c cX4_isUnder 4 s args meth (Option.some Jvm.ClassFile.FieldType.boolean)) (h : lpw (LX4_isUnder_7 y2 σ) q = some res) (hE27 : ∀ b, res = b → (∀ (H : Heap) (locs : List Loc) (ls : Array Slot), mR G σ H → va_S (mA G) s.heap H locs → lv_has ls 4 [(0, .ref (mo G)), (2, .int y2), (3, .int b)] → W p l e (mRm 0 0) s m args below meth c H locs 0 0 Q (F0 m 27 ls []))) : (∀ (H : Heap) (locs : List Loc) (ls : Array Slot), mR G σ H → va_S (mA G) s.heap H locs → lv_has ls 4 [(0, .ref (mo G)), (2, .int y2), (3, .int q)] → W p l e (mRm 0 0) s m args below meth c H locs 0 0 Q (F0 m 7 ls [])) :=
  lpw_go _ (fun q => (∀ (H : Heap) (locs : List Loc) (ls : Array Slot), mR G σ H → va_S (mA G) s.heap H locs → lv_has ls 4 [(0, .ref (mo G)), (2, .int y2), (3, .int q)] → W p l e (mRm 0 0) s m args below meth c H locs 0 0 Q (F0 m 7 ls []))) (fun b0 => (∀ b, b0 = b → (∀ (H : Heap) (locs : List Loc) (ls : Array Slot), mR G σ H → va_S (mA G) s.heap H locs → lv_has ls 4 [(0, .ref (mo G)), (2, .int y2), (3, .int b)] → W p l e (mRm 0 0) s m args below meth c H locs 0 0 Q (F0 m 27 ls [])))) (fun q x hf hK hX => wbLX4_isUnder_7 S hf hK (fun b eb => (hX _ eb) b rfl)) q res h hE27
set_option maxHeartbeats 4000000 in
set_option maxRecDepth 100000 in
theorem wJX4_isUnder_27 {l : Launch} {G : mG} {p : Program} {e : Env} {s : State} {m : MethodId} {args : Array Value} {below : List Frame} {meth : Method} {c : Code} {y2 : Int32} {y3 : Int32} {σ : mS} {res : Int32} (S : mSt G p m c cX4_isUnder 4 s args meth (Option.some Jvm.ClassFile.FieldType.boolean)) (hf : JX4_isUnder_27 y2 y3 σ = some res) : ∀ (H : Heap) (locs : List Loc) (ls : Array Slot), mR G σ H → va_S (mA G) s.heap H locs → lv_has ls 4 [(0, .ref (mo G)), (2, .int y2), (3, .int y3)] → W p l e (mRm 0 0) s m args below meth c H locs 0 0 (MQ below (mQ G (some (.int res)) σ) args s 0 0 (mA G)) (F0 m 27 ls []) := by
  replace hf : (if y3 = y2 then some (1 : Int32) else some (0 : Int32)) = some res := hf
  obtain ⟨hx, hb, hml, hown, hts⟩ := S.1.1
  intro H locs ls hR hS hl
  refine lv_iload_n hx hb dX4_isUnder_27 rfl (lv_at hl 2 rfl) ?_
  refine lv_iload_n hx hb dX4_isUnder_28 rfl (lv_at hl 1 rfl) ?_
  refine lv_icmp_ne (tgt := 36) hx hb dX4_isUnder_29 (by decide) (fun c_29 => ?_) (fun c_29 => ?_)
  · replace hf := o_f hf c_29
    refine lv_iconst (v := 0) hx hb dX4_isUnder_36 (by decide) ?_
    obtain rfl := Option.some.inj hf
    exact m_iret S hR hS rfl dX4_isUnder_37
  · replace hf := o_t hf c_29
    refine lv_iconst (v := 1) hx hb dX4_isUnder_32 (by decide) ?_
    refine lv_goto (tgt := 37) hx hb dX4_isUnder_33 (by decide) ?_
    obtain rfl := Option.some.inj hf
    exact m_iret S hR hS rfl dX4_isUnder_37
set_option maxHeartbeats 4000000 in
set_option maxRecDepth 100000 in
theorem met_X4_isUnder {l : Launch} {G : mG} {x1 : Int32} {x2 : Int32} {σ : mS} {res : Int32} (hf : fX4_isUnder x1 x2 σ = some res) : mMet l yX4_isUnder cX4_isUnder 4 (Option.some Jvm.ClassFile.FieldType.boolean) (mRm 0 0) G [.ref (mo G), .int x1, .int x2] σ (some (.int res)) σ := by
  replace hf : ((mald σ 29 x1).bind (fun v1 => (lpw (LX4_isUnder_7 x2 σ) v1).bind (fun b3 => JX4_isUnder_27 x2 b3 σ))) = some res := hf
  refine m_start (by decide) rfl (Nat.le_of_ble_eq_true rfl) ?_
  intro p e s m args below meth c S hR hS ls hl
  obtain ⟨hx, hb, hml, hown, hts⟩ := S.1.1
  have hl : lv_has ls 4 [(0, .ref (mo G)), (1, .int x1), (2, .int x2)] := hl
  refine lv_aload_n hx hb dX4_isUnder_0 rfl (lv_at hl 0 rfl) ?_
  refine m_geta (k := 29) S hR (by decide) (by decide) q2555 dX4_isUnder_1 ?_
  refine lv_iload_n hx hb dX4_isUnder_4 rfl (lv_at hl 1 rfl) ?_
  refine k_bind hf (fun v1 hv1 hf => ?_)
  refine m_iald S hR hv1 dX4_isUnder_5 ?_
  refine lv_istore_n (lv' := [(3, .int v1), (0, .ref (mo G)), (1, .int x1), (2, .int x2)]) hx hb dX4_isUnder_6 rfl hl (by decide) rfl (fun ls hl => ?_)
  refine k_bind hf (fun b3 hb3 hf => ?_)
  refine wLX4_isUnder_7 S hb3 ?_ _ _ _ hR hS (lv_sub (l' := [(0, .ref (mo G)), (2, .int x2), (3, .int v1)]) hl [1, 3, 0] rfl)
  · intro b eb; subst eb; intro H locs ls hR hS hl
    exact wJX4_isUnder_27 S hf _ _ _ hR hS hl

noncomputable def LX4_isMarked_2 (y1 : Int32) (q : Int32 × mS) : Option ((Int32 × mS) ⊕ (mS)) :=
  if (60 : Int32) ≤ q.1 then some (Sum.inr q.2) else (mzst q.2 39 q.1 (0 : Int32)).bind (fun σ1 => some (Sum.inl (q.1 + (1 : Int32), σ1)))
noncomputable def LX4_isMarked_28 (y1 : Int32) (q : Int32 × mS) : Option ((Int32 × mS) ⊕ (mS)) :=
  if q.1 ≤ (0 : Int32) then some (Sum.inr q.2) else (mzld q.2 39 q.1).bind (fun v4 => if v4 = (0 : Int32) then (mald q.2 29 q.1).bind (fun v6 => (mzld q.2 39 v6).bind (fun v7 => if v7 = (0 : Int32) then (mald q.2 29 q.1).bind (fun v9 => (mzst q.2 39 v9 (1 : Int32)).bind (fun σ10 => (some (q.1 + (-1 : Int32))).bind (fun v11 => some (Sum.inl (v11, σ10))))) else (some (q.1 + (-1 : Int32))).bind (fun v8 => some (Sum.inl (v8, q.2))))) else (some (q.1 + (-1 : Int32))).bind (fun v5 => some (Sum.inl (v5, q.2))))
noncomputable def fX4_isMarked (x1 : Int32) (σ : mS) : Option (Int32 × mS) :=
  (lpw (LX4_isMarked_2 x1) ((0 : Int32), σ)).bind (fun b2 => (some ((b2.1 26) - (1 : Int32))).bind (fun v3 => (lpw (LX4_isMarked_28 x1) (v3, b2)).bind (fun b12 => (mzld b12 39 x1).bind (fun v13 => some ((v13 &&& 1), b12)))))
theorem wi_X4_isMarked : wInfV yX4_isMarked cX4_isMarked 3 (Option.some Jvm.ClassFile.FieldType.boolean) 1 := ⟨q3019, qs99, q116, q3020, (by decide +kernel), (by decide +kernel), (by decide +kernel)⟩
set_option maxHeartbeats 4000000 in
set_option maxRecDepth 100000 in
theorem wbLX4_isMarked_2 {l : Launch} {G : mG} {p : Program} {e : Env} {s : State} {m : MethodId} {args : Array Value} {below : List Frame} {meth : Method} {c : Code} {Q : State → Prop} {y1 : Int32} {q : Int32 × mS} {res : (Int32 × mS) ⊕ (mS)} (S : mSt G p m c cX4_isMarked 3 s args meth (Option.some Jvm.ClassFile.FieldType.boolean)) (hf : LX4_isMarked_2 y1 q = some res) (hK : ∀ q, res = Sum.inl q → (∀ (H : Heap) (locs : List Loc) (ls : Array Slot), mR G q.2 H → va_S (mA G) s.heap H locs → lv_has ls 3 [(0, .ref (mo G)), (1, .int y1), (2, .int q.1)] → W p l e (mRm 0 0) s m args below meth c H locs 0 0 Q (F0 m 2 ls []))) (hE21 : ∀ b, res = Sum.inr b → (∀ (H : Heap) (locs : List Loc) (ls : Array Slot), mR G b H → va_S (mA G) s.heap H locs → lv_has ls 3 [(0, .ref (mo G)), (1, .int y1)] → W p l e (mRm 0 0) s m args below meth c H locs 0 0 Q (F0 m 21 ls []))) : (∀ (H : Heap) (locs : List Loc) (ls : Array Slot), mR G q.2 H → va_S (mA G) s.heap H locs → lv_has ls 3 [(0, .ref (mo G)), (1, .int y1), (2, .int q.1)] → W p l e (mRm 0 0) s m args below meth c H locs 0 0 Q (F0 m 2 ls [])) := by
  replace hf : (if (60 : Int32) ≤ q.1 then some (Sum.inr q.2) else (mzst q.2 39 q.1 (0 : Int32)).bind (fun σ1 => some (Sum.inl (q.1 + (1 : Int32), σ1)))) = some res := hf
  obtain ⟨hx, hb, hml, hown, hts⟩ := S.1.1
  intro H locs ls hR hS hl
  refine lv_iload_n hx hb dX4_isMarked_2 rfl (lv_at hl 2 rfl) ?_
  refine lv_bipush (v := 60) hx hb dX4_isMarked_3 (by decide) ?_
  refine lv_icmp_ge (tgt := 21) hx hb dX4_isMarked_5 (by decide) (fun c_5 => ?_) (fun c_5 => ?_)
  · replace hf := o_t hf c_5
    exact hE21 _ (Option.some.inj hf).symm _ _ _ hR hS (lv_sub (l' := [(0, .ref (mo G)), (1, .int y1)]) hl [0, 1] rfl)
  · replace hf := o_f hf c_5
    refine lv_aload_n hx hb dX4_isMarked_8 rfl (lv_at hl 0 rfl) ?_
    refine m_geta (k := 39) S hR (by decide) (by decide) q2565 dX4_isMarked_9 ?_
    refine lv_iload_n hx hb dX4_isMarked_12 rfl (lv_at hl 2 rfl) ?_
    refine lv_iconst (v := 0) hx hb dX4_isMarked_13 (by decide) ?_
    refine k_bind hf (fun σ1 hσ1 hf => ?_)
    refine m_zast S hR hS hσ1 dX4_isMarked_14 (fun H locs hR hS => ?_)
    refine lv_iinc (lv' := [(2, .int (q.1 + (1 : Int32))), (0, .ref (mo G)), (1, .int y1)]) hx hb dX4_isMarked_15 hl (k := 2) rfl (m_inc (by decide)) (by decide) rfl (fun ls hl => ?_)
    refine lv_goto (tgt := 2) hx hb dX4_isMarked_18 (by decide) ?_
    exact hK _ (Option.some.inj hf).symm _ _ _ hR hS (lv_sub (l' := [(0, .ref (mo G)), (1, .int y1), (2, .int (q.1 + (1 : Int32)))]) hl [1, 2, 0] rfl)
set_option maxHeartbeats 4000000 in
set_option maxRecDepth 100000 in
theorem wLX4_isMarked_2 {l : Launch} {G : mG} {p : Program} {e : Env} {s : State} {m : MethodId} {args : Array Value} {below : List Frame} {meth : Method} {c : Code} {Q : State → Prop} {y1 : Int32} {q : Int32 × mS} {res : mS} (S : mSt G p m c cX4_isMarked 3 s args meth (Option.some Jvm.ClassFile.FieldType.boolean)) (h : lpw (LX4_isMarked_2 y1) q = some res) (hE21 : ∀ b, res = b → (∀ (H : Heap) (locs : List Loc) (ls : Array Slot), mR G b H → va_S (mA G) s.heap H locs → lv_has ls 3 [(0, .ref (mo G)), (1, .int y1)] → W p l e (mRm 0 0) s m args below meth c H locs 0 0 Q (F0 m 21 ls []))) : (∀ (H : Heap) (locs : List Loc) (ls : Array Slot), mR G q.2 H → va_S (mA G) s.heap H locs → lv_has ls 3 [(0, .ref (mo G)), (1, .int y1), (2, .int q.1)] → W p l e (mRm 0 0) s m args below meth c H locs 0 0 Q (F0 m 2 ls [])) :=
  lpw_go _ (fun q => (∀ (H : Heap) (locs : List Loc) (ls : Array Slot), mR G q.2 H → va_S (mA G) s.heap H locs → lv_has ls 3 [(0, .ref (mo G)), (1, .int y1), (2, .int q.1)] → W p l e (mRm 0 0) s m args below meth c H locs 0 0 Q (F0 m 2 ls []))) (fun b0 => (∀ b, b0 = b → (∀ (H : Heap) (locs : List Loc) (ls : Array Slot), mR G b H → va_S (mA G) s.heap H locs → lv_has ls 3 [(0, .ref (mo G)), (1, .int y1)] → W p l e (mRm 0 0) s m args below meth c H locs 0 0 Q (F0 m 21 ls [])))) (fun q x hf hK hX => wbLX4_isMarked_2 S hf hK (fun b eb => (hX _ eb) b rfl)) q res h hE21
set_option maxHeartbeats 4000000 in
set_option maxRecDepth 100000 in
theorem wbLX4_isMarked_28 {l : Launch} {G : mG} {p : Program} {e : Env} {s : State} {m : MethodId} {args : Array Value} {below : List Frame} {meth : Method} {c : Code} {Q : State → Prop} {y1 : Int32} {q : Int32 × mS} {res : (Int32 × mS) ⊕ (mS)} (S : mSt G p m c cX4_isMarked 3 s args meth (Option.some Jvm.ClassFile.FieldType.boolean)) (hf : LX4_isMarked_28 y1 q = some res) (hK : ∀ q, res = Sum.inl q → (∀ (H : Heap) (locs : List Loc) (ls : Array Slot), mR G q.2 H → va_S (mA G) s.heap H locs → lv_has ls 3 [(0, .ref (mo G)), (1, .int y1), (2, .int q.1)] → W p l e (mRm 0 0) s m args below meth c H locs 0 0 Q (F0 m 28 ls []))) (hE73 : ∀ b, res = Sum.inr b → (∀ (H : Heap) (locs : List Loc) (ls : Array Slot), mR G b H → va_S (mA G) s.heap H locs → lv_has ls 3 [(0, .ref (mo G)), (1, .int y1)] → W p l e (mRm 0 0) s m args below meth c H locs 0 0 Q (F0 m 73 ls []))) : (∀ (H : Heap) (locs : List Loc) (ls : Array Slot), mR G q.2 H → va_S (mA G) s.heap H locs → lv_has ls 3 [(0, .ref (mo G)), (1, .int y1), (2, .int q.1)] → W p l e (mRm 0 0) s m args below meth c H locs 0 0 Q (F0 m 28 ls [])) := by
  replace hf : (if q.1 ≤ (0 : Int32) then some (Sum.inr q.2) else (mzld q.2 39 q.1).bind (fun v4 => if v4 = (0 : Int32) then (mald q.2 29 q.1).bind (fun v6 => (mzld q.2 39 v6).bind (fun v7 => if v7 = (0 : Int32) then (mald q.2 29 q.1).bind (fun v9 => (mzst q.2 39 v9 (1 : Int32)).bind (fun σ10 => (some (q.1 + (-1 : Int32))).bind (fun v11 => some (Sum.inl (v11, σ10))))) else (some (q.1 + (-1 : Int32))).bind (fun v8 => some (Sum.inl (v8, q.2))))) else (some (q.1 + (-1 : Int32))).bind (fun v5 => some (Sum.inl (v5, q.2))))) = some res := hf
  obtain ⟨hx, hb, hml, hown, hts⟩ := S.1.1
  intro H locs ls hR hS hl
  refine lv_iload_n hx hb dX4_isMarked_28 rfl (lv_at hl 2 rfl) ?_
  refine lv_if_le (tgt := 73) hx hb dX4_isMarked_29 (by decide) (fun c_29 => ?_) (fun c_29 => ?_)
  · replace hf := o_t hf c_29
    exact hE73 _ (Option.some.inj hf).symm _ _ _ hR hS (lv_sub (l' := [(0, .ref (mo G)), (1, .int y1)]) hl [0, 1] rfl)
  · replace hf := o_f hf c_29
    refine lv_aload_n hx hb dX4_isMarked_32 rfl (lv_at hl 0 rfl) ?_
    refine m_geta (k := 39) S hR (by decide) (by decide) q2565 dX4_isMarked_33 ?_
    refine lv_iload_n hx hb dX4_isMarked_36 rfl (lv_at hl 2 rfl) ?_
    refine k_bind hf (fun v4 hv4 hf => ?_)
    refine m_zald S hR hv4 dX4_isMarked_37 ?_
    refine lv_if_ne (tgt := 67) hx hb dX4_isMarked_38 (by decide) (fun c_38 => ?_) (fun c_38 => ?_)
    · replace hf := o_f hf c_38
      refine k_bind hf (fun v5 hv5 hf => ?_)
      refine lv_iinc (lv' := [(2, .int v5), (0, .ref (mo G)), (1, .int y1)]) hx hb dX4_isMarked_67 hl (k := 2) rfl ((m_inc (by decide)).trans (Option.some.inj hv5)) (by decide) rfl (fun ls hl => ?_)
      refine lv_goto (tgt := 28) hx hb dX4_isMarked_70 (by decide) ?_
      exact hK _ (Option.some.inj hf).symm _ _ _ hR hS (lv_sub (l' := [(0, .ref (mo G)), (1, .int y1), (2, .int v5)]) hl [1, 2, 0] rfl)
    · replace hf := o_t hf c_38
      refine lv_aload_n hx hb dX4_isMarked_41 rfl (lv_at hl 0 rfl) ?_
      refine m_geta (k := 39) S hR (by decide) (by decide) q2565 dX4_isMarked_42 ?_
      refine lv_aload_n hx hb dX4_isMarked_45 rfl (lv_at hl 0 rfl) ?_
      refine m_geta (k := 29) S hR (by decide) (by decide) q2555 dX4_isMarked_46 ?_
      refine lv_iload_n hx hb dX4_isMarked_49 rfl (lv_at hl 2 rfl) ?_
      refine k_bind hf (fun v6 hv6 hf => ?_)
      refine m_iald S hR hv6 dX4_isMarked_50 ?_
      refine k_bind hf (fun v7 hv7 hf => ?_)
      refine m_zald S hR hv7 dX4_isMarked_51 ?_
      refine lv_if_ne (tgt := 67) hx hb dX4_isMarked_52 (by decide) (fun c_52 => ?_) (fun c_52 => ?_)
      · replace hf := o_f hf c_52
        refine k_bind hf (fun v8 hv8 hf => ?_)
        refine lv_iinc (lv' := [(2, .int v8), (0, .ref (mo G)), (1, .int y1)]) hx hb dX4_isMarked_67 hl (k := 2) rfl ((m_inc (by decide)).trans (Option.some.inj hv8)) (by decide) rfl (fun ls hl => ?_)
        refine lv_goto (tgt := 28) hx hb dX4_isMarked_70 (by decide) ?_
        exact hK _ (Option.some.inj hf).symm _ _ _ hR hS (lv_sub (l' := [(0, .ref (mo G)), (1, .int y1), (2, .int v8)]) hl [1, 2, 0] rfl)
      · replace hf := o_t hf c_52
        refine lv_aload_n hx hb dX4_isMarked_55 rfl (lv_at hl 0 rfl) ?_
        refine m_geta (k := 39) S hR (by decide) (by decide) q2565 dX4_isMarked_56 ?_
        refine lv_aload_n hx hb dX4_isMarked_59 rfl (lv_at hl 0 rfl) ?_
        refine m_geta (k := 29) S hR (by decide) (by decide) q2555 dX4_isMarked_60 ?_
        refine lv_iload_n hx hb dX4_isMarked_63 rfl (lv_at hl 2 rfl) ?_
        refine k_bind hf (fun v9 hv9 hf => ?_)
        refine m_iald S hR hv9 dX4_isMarked_64 ?_
        refine lv_iconst (v := 1) hx hb dX4_isMarked_65 (by decide) ?_
        refine k_bind hf (fun σ10 hσ10 hf => ?_)
        refine m_zast S hR hS hσ10 dX4_isMarked_66 (fun H locs hR hS => ?_)
        refine k_bind hf (fun v11 hv11 hf => ?_)
        refine lv_iinc (lv' := [(2, .int v11), (0, .ref (mo G)), (1, .int y1)]) hx hb dX4_isMarked_67 hl (k := 2) rfl ((m_inc (by decide)).trans (Option.some.inj hv11)) (by decide) rfl (fun ls hl => ?_)
        refine lv_goto (tgt := 28) hx hb dX4_isMarked_70 (by decide) ?_
        exact hK _ (Option.some.inj hf).symm _ _ _ hR hS (lv_sub (l' := [(0, .ref (mo G)), (1, .int y1), (2, .int v11)]) hl [1, 2, 0] rfl)
set_option maxHeartbeats 4000000 in
set_option maxRecDepth 100000 in
theorem wLX4_isMarked_28 {l : Launch} {G : mG} {p : Program} {e : Env} {s : State} {m : MethodId} {args : Array Value} {below : List Frame} {meth : Method} {c : Code} {Q : State → Prop} {y1 : Int32} {q : Int32 × mS} {res : mS} (S : mSt G p m c cX4_isMarked 3 s args meth (Option.some Jvm.ClassFile.FieldType.boolean)) (h : lpw (LX4_isMarked_28 y1) q = some res) (hE73 : ∀ b, res = b → (∀ (H : Heap) (locs : List Loc) (ls : Array Slot), mR G b H → va_S (mA G) s.heap H locs → lv_has ls 3 [(0, .ref (mo G)), (1, .int y1)] → W p l e (mRm 0 0) s m args below meth c H locs 0 0 Q (F0 m 73 ls []))) : (∀ (H : Heap) (locs : List Loc) (ls : Array Slot), mR G q.2 H → va_S (mA G) s.heap H locs → lv_has ls 3 [(0, .ref (mo G)), (1, .int y1), (2, .int q.1)] → W p l e (mRm 0 0) s m args below meth c H locs 0 0 Q (F0 m 28 ls [])) :=
  lpw_go _ (fun q => (∀ (H : Heap) (locs : List Loc) (ls : Array Slot), mR G q.2 H → va_S (mA G) s.heap H locs → lv_has ls 3 [(0, .ref (mo G)), (1, .int y1), (2, .int q.1)] → W p l e (mRm 0 0) s m args below meth c H locs 0 0 Q (F0 m 28 ls []))) (fun b0 => (∀ b, b0 = b → (∀ (H : Heap) (locs : List Loc) (ls : Array Slot), mR G b H → va_S (mA G) s.heap H locs → lv_has ls 3 [(0, .ref (mo G)), (1, .int y1)] → W p l e (mRm 0 0) s m args below meth c H locs 0 0 Q (F0 m 73 ls [])))) (fun q x hf hK hX => wbLX4_isMarked_28 S hf hK (fun b eb => (hX _ eb) b rfl)) q res h hE73
set_option maxHeartbeats 4000000 in
set_option maxRecDepth 100000 in
theorem met_X4_isMarked {l : Launch} {G : mG} {x1 : Int32} {σ : mS} {res : Int32 × mS} (hf : fX4_isMarked x1 σ = some res) : mMet l yX4_isMarked cX4_isMarked 3 (Option.some Jvm.ClassFile.FieldType.boolean) (mRm 0 0) G [.ref (mo G), .int x1] σ (some (.int res.1)) res.2 := by
  replace hf : ((lpw (LX4_isMarked_2 x1) ((0 : Int32), σ)).bind (fun b2 => (some ((b2.1 26) - (1 : Int32))).bind (fun v3 => (lpw (LX4_isMarked_28 x1) (v3, b2)).bind (fun b12 => (mzld b12 39 x1).bind (fun v13 => some ((v13 &&& 1), b12)))))) = some res := hf
  refine m_start (by decide) rfl (Nat.le_of_ble_eq_true rfl) ?_
  intro p e s m args below meth c S hR hS ls hl
  obtain ⟨hx, hb, hml, hown, hts⟩ := S.1.1
  have hl : lv_has ls 3 [(0, .ref (mo G)), (1, .int x1)] := hl
  refine lv_iconst (v := 0) hx hb dX4_isMarked_0 (by decide) ?_
  refine lv_istore_n (lv' := [(2, .int (0 : Int32)), (0, .ref (mo G)), (1, .int x1)]) hx hb dX4_isMarked_1 rfl hl (by decide) rfl (fun ls hl => ?_)
  refine k_bind hf (fun b2 hb2 hf => ?_)
  refine wLX4_isMarked_2 S hb2 ?_ _ _ _ hR hS (lv_sub (l' := [(0, .ref (mo G)), (1, .int x1), (2, .int (0 : Int32))]) hl [1, 2, 0] rfl)
  · intro b eb; subst eb; intro H locs ls hR hS hl
    refine lv_aload_n hx hb dX4_isMarked_21 rfl (lv_at hl 0 rfl) ?_
    refine m_geti (k := 26) S hR (by decide) (by decide) q2552 dX4_isMarked_22 ?_
    refine lv_iconst (v := 1) hx hb dX4_isMarked_25 (by decide) ?_
    refine lv_isub hx hb dX4_isMarked_26 ?_
    refine k_bind hf (fun v3 hv3 hf => ?_)
    refine m_nmi hv3 ?_
    refine lv_istore_n (lv' := [(2, .int v3), (0, .ref (mo G)), (1, .int x1)]) hx hb dX4_isMarked_27 rfl hl (by decide) rfl (fun ls hl => ?_)
    refine k_bind hf (fun b12 hb12 hf => ?_)
    refine wLX4_isMarked_28 S hb12 ?_ _ _ _ hR hS (lv_sub (l' := [(0, .ref (mo G)), (1, .int x1), (2, .int v3)]) hl [1, 2, 0] rfl)
    · intro b eb; subst eb; intro H locs ls hR hS hl
      refine lv_aload_n hx hb dX4_isMarked_73 rfl (lv_at hl 0 rfl) ?_
      refine m_geta (k := 39) S hR (by decide) (by decide) q2565 dX4_isMarked_74 ?_
      refine lv_iload_n hx hb dX4_isMarked_77 rfl (lv_at hl 1 rfl) ?_
      refine k_bind hf (fun v13 hv13 hf => ?_)
      refine m_zald S hR hv13 dX4_isMarked_78 ?_
      obtain rfl := Option.some.inj hf
      exact m_iret S hR hS rfl dX4_isMarked_79

noncomputable def LX4_treeOf_31 (y1 : Int32) (y2 : Int32) (σ : mS) (q : Int32 × Int32) : Option ((Int32 × Int32) ⊕ (Int32)) :=
  if (σ.1 26) ≤ q.2 then some (Sum.inr q.1) else if q.2 = y1 then (some (q.1 + (0 : Int32))).bind (fun v1 => some (Sum.inl (v1, q.2 + (1 : Int32)))) else (fX4_isUnder q.2 y1 σ).bind (fun v2 => if v2 = (0 : Int32) then (some (q.1 + (0 : Int32))).bind (fun v3 => some (Sum.inl (v3, q.2 + (1 : Int32)))) else (some (q.1 + (1 : Int32))).bind (fun v4 => some (Sum.inl (v4, q.2 + (1 : Int32)))))
noncomputable def fX4_treeOf (x1 : Int32) (x2 : Int32) (σ : mS) : Option (Int32 × mS) :=
  if (fX4_in x1 (0 : Int32) ((σ.1 26) - (1 : Int32))) = (0 : Int32) then some ((-2 : Int32), σ) else if (fX4_in x2 (0 : Int32) (5 : Int32)) = (0 : Int32) then some ((-2 : Int32), σ) else (lpw (LX4_treeOf_31 x1 x2 σ) ((0 : Int32), (0 : Int32))).bind (fun b5 => if x2 = (0 : Int32) then (mald σ 27 x1).bind (fun v6 => some (v6, σ)) else if x2 = (1 : Int32) then (mald σ 28 x1).bind (fun v7 => some (v7, σ)) else if x2 = (2 : Int32) then (mald σ 29 x1).bind (fun v8 => some (v8, σ)) else if x2 = (3 : Int32) then some (b5, σ) else if x2 = (4 : Int32) then (fX4_costIn x1 σ).bind (fun v9 => some (v9, σ)) else (fX4_isMarked x1 σ).bind (fun e10 => if e10.1 = (0 : Int32) then some ((0 : Int32), e10.2) else some ((1 : Int32), e10.2)))
theorem wi_X4_treeOf : wInfV yX4_treeOf cX4_treeOf 5 (Option.some Jvm.ClassFile.FieldType.int) 2 := ⟨q3010, q3011, q116, q3012, (by decide +kernel), (by decide +kernel), (by decide +kernel)⟩
set_option maxHeartbeats 4000000 in
set_option maxRecDepth 100000 in
theorem wbLX4_treeOf_31 {l : Launch} {G : mG} {p : Program} {e : Env} {s : State} {m : MethodId} {args : Array Value} {below : List Frame} {meth : Method} {c : Code} {Q : State → Prop} {y1 : Int32} {y2 : Int32} {σ : mS} {q : Int32 × Int32} {res : (Int32 × Int32) ⊕ (Int32)} (S : mSt G p m c cX4_treeOf 5 s args meth (Option.some Jvm.ClassFile.FieldType.int)) (hf : LX4_treeOf_31 y1 y2 σ q = some res) (hK : ∀ q, res = Sum.inl q → (∀ (H : Heap) (locs : List Loc) (ls : Array Slot), mR G σ H → va_S (mA G) s.heap H locs → lv_has ls 5 [(0, .ref (mo G)), (1, .int y1), (2, .int y2), (3, .int q.1), (4, .int q.2)] → W p l e (mRm 2 45) s m args below meth c H locs 0 0 Q (F0 m 31 ls []))) (hE70 : ∀ b, res = Sum.inr b → (∀ (H : Heap) (locs : List Loc) (ls : Array Slot), mR G σ H → va_S (mA G) s.heap H locs → lv_has ls 5 [(0, .ref (mo G)), (1, .int y1), (2, .int y2), (3, .int b)] → W p l e (mRm 2 45) s m args below meth c H locs 0 0 Q (F0 m 70 ls []))) : (∀ (H : Heap) (locs : List Loc) (ls : Array Slot), mR G σ H → va_S (mA G) s.heap H locs → lv_has ls 5 [(0, .ref (mo G)), (1, .int y1), (2, .int y2), (3, .int q.1), (4, .int q.2)] → W p l e (mRm 2 45) s m args below meth c H locs 0 0 Q (F0 m 31 ls [])) := by
  replace hf : (if (σ.1 26) ≤ q.2 then some (Sum.inr q.1) else if q.2 = y1 then (some (q.1 + (0 : Int32))).bind (fun v1 => some (Sum.inl (v1, q.2 + (1 : Int32)))) else (fX4_isUnder q.2 y1 σ).bind (fun v2 => if v2 = (0 : Int32) then (some (q.1 + (0 : Int32))).bind (fun v3 => some (Sum.inl (v3, q.2 + (1 : Int32)))) else (some (q.1 + (1 : Int32))).bind (fun v4 => some (Sum.inl (v4, q.2 + (1 : Int32)))))) = some res := hf
  obtain ⟨hx, hb, hml, hown, hts⟩ := S.1.1
  intro H locs ls hR hS hl
  refine lv_iload hx hb dX4_treeOf_31 (lv_at hl 4 rfl) ?_
  refine lv_aload_n hx hb dX4_treeOf_33 rfl (lv_at hl 0 rfl) ?_
  refine m_geti (k := 26) S hR (by decide) (by decide) q2552 dX4_treeOf_34 ?_
  refine lv_icmp_ge (tgt := 70) hx hb dX4_treeOf_37 (by decide) (fun c_37 => ?_) (fun c_37 => ?_)
  · replace hf := o_t hf c_37
    exact hE70 _ (Option.some.inj hf).symm _ _ _ hR hS (lv_sub (l' := [(0, .ref (mo G)), (1, .int y1), (2, .int y2), (3, .int q.1)]) hl [0, 1, 2, 3] rfl)
  · replace hf := o_f hf c_37
    refine lv_iload_n hx hb dX4_treeOf_40 rfl (lv_at hl 3 rfl) ?_
    refine lv_iload hx hb dX4_treeOf_41 (lv_at hl 4 rfl) ?_
    refine lv_iload_n hx hb dX4_treeOf_43 rfl (lv_at hl 1 rfl) ?_
    refine lv_icmp_eq (tgt := 61) hx hb dX4_treeOf_44 (by decide) (fun c_44 => ?_) (fun c_44 => ?_)
    · replace hf := o_t hf c_44
      refine lv_iconst (v := 0) hx hb dX4_treeOf_61 (by decide) ?_
      refine lv_iadd hx hb dX4_treeOf_62 ?_
      refine k_bind hf (fun v1 hv1 hf => ?_)
      refine m_nmi hv1 ?_
      refine lv_istore_n (lv' := [(3, .int v1), (0, .ref (mo G)), (1, .int y1), (2, .int y2), (4, .int q.2)]) hx hb dX4_treeOf_63 rfl hl (by decide) rfl (fun ls hl => ?_)
      refine lv_iinc (lv' := [(4, .int (q.2 + (1 : Int32))), (3, .int v1), (0, .ref (mo G)), (1, .int y1), (2, .int y2)]) hx hb dX4_treeOf_64 hl (k := 4) rfl (m_inc (by decide)) (by decide) rfl (fun ls hl => ?_)
      refine lv_goto (tgt := 31) hx hb dX4_treeOf_67 (by decide) ?_
      exact hK _ (Option.some.inj hf).symm _ _ _ hR hS (lv_sub (l' := [(0, .ref (mo G)), (1, .int y1), (2, .int y2), (3, .int v1), (4, .int (q.2 + (1 : Int32)))]) hl [2, 3, 4, 1, 0] rfl)
    · replace hf := o_f hf c_44
      refine lv_aload_n hx hb dX4_treeOf_47 rfl (lv_at hl 0 rfl) ?_
      refine lv_iload hx hb dX4_treeOf_48 (lv_at hl 4 rfl) ?_
      refine lv_iload_n hx hb dX4_treeOf_50 rfl (lv_at hl 1 rfl) ?_
      refine k_bind hf (fun v2 hv2 hf => ?_)
      refine m_call (As := [.int q.2, .int y1]) (rest := [.int q.1]) S hR hS (met_X4_isUnder hv2) wi_X4_isUnder rfl q3013 ⟨rfl, rfl⟩ ⟨Nat.le_of_ble_eq_true rfl, Nat.le_of_ble_eq_true rfl⟩ rfl hl.1 rfl (Nat.le_of_ble_eq_true rfl) dX4_treeOf_51 (fun H locs hR hS => ?_)
      refine lv_if_eq (tgt := 61) hx hb dX4_treeOf_54 (by decide) (fun c_54 => ?_) (fun c_54 => ?_)
      · replace hf := o_t hf c_54
        refine lv_iconst (v := 0) hx hb dX4_treeOf_61 (by decide) ?_
        refine lv_iadd hx hb dX4_treeOf_62 ?_
        refine k_bind hf (fun v3 hv3 hf => ?_)
        refine m_nmi hv3 ?_
        refine lv_istore_n (lv' := [(3, .int v3), (0, .ref (mo G)), (1, .int y1), (2, .int y2), (4, .int q.2)]) hx hb dX4_treeOf_63 rfl hl (by decide) rfl (fun ls hl => ?_)
        refine lv_iinc (lv' := [(4, .int (q.2 + (1 : Int32))), (3, .int v3), (0, .ref (mo G)), (1, .int y1), (2, .int y2)]) hx hb dX4_treeOf_64 hl (k := 4) rfl (m_inc (by decide)) (by decide) rfl (fun ls hl => ?_)
        refine lv_goto (tgt := 31) hx hb dX4_treeOf_67 (by decide) ?_
        exact hK _ (Option.some.inj hf).symm _ _ _ hR hS (lv_sub (l' := [(0, .ref (mo G)), (1, .int y1), (2, .int y2), (3, .int v3), (4, .int (q.2 + (1 : Int32)))]) hl [2, 3, 4, 1, 0] rfl)
      · replace hf := o_f hf c_54
        refine lv_iconst (v := 1) hx hb dX4_treeOf_57 (by decide) ?_
        refine lv_goto (tgt := 62) hx hb dX4_treeOf_58 (by decide) ?_
        refine lv_iadd hx hb dX4_treeOf_62 ?_
        refine k_bind hf (fun v4 hv4 hf => ?_)
        refine m_nmi hv4 ?_
        refine lv_istore_n (lv' := [(3, .int v4), (0, .ref (mo G)), (1, .int y1), (2, .int y2), (4, .int q.2)]) hx hb dX4_treeOf_63 rfl hl (by decide) rfl (fun ls hl => ?_)
        refine lv_iinc (lv' := [(4, .int (q.2 + (1 : Int32))), (3, .int v4), (0, .ref (mo G)), (1, .int y1), (2, .int y2)]) hx hb dX4_treeOf_64 hl (k := 4) rfl (m_inc (by decide)) (by decide) rfl (fun ls hl => ?_)
        refine lv_goto (tgt := 31) hx hb dX4_treeOf_67 (by decide) ?_
        exact hK _ (Option.some.inj hf).symm _ _ _ hR hS (lv_sub (l' := [(0, .ref (mo G)), (1, .int y1), (2, .int y2), (3, .int v4), (4, .int (q.2 + (1 : Int32)))]) hl [2, 3, 4, 1, 0] rfl)
set_option maxHeartbeats 4000000 in
set_option maxRecDepth 100000 in
theorem wLX4_treeOf_31 {l : Launch} {G : mG} {p : Program} {e : Env} {s : State} {m : MethodId} {args : Array Value} {below : List Frame} {meth : Method} {c : Code} {Q : State → Prop} {y1 : Int32} {y2 : Int32} {σ : mS} {q : Int32 × Int32} {res : Int32} (S : mSt G p m c cX4_treeOf 5 s args meth (Option.some Jvm.ClassFile.FieldType.int)) (h : lpw (LX4_treeOf_31 y1 y2 σ) q = some res) (hE70 : ∀ b, res = b → (∀ (H : Heap) (locs : List Loc) (ls : Array Slot), mR G σ H → va_S (mA G) s.heap H locs → lv_has ls 5 [(0, .ref (mo G)), (1, .int y1), (2, .int y2), (3, .int b)] → W p l e (mRm 2 45) s m args below meth c H locs 0 0 Q (F0 m 70 ls []))) : (∀ (H : Heap) (locs : List Loc) (ls : Array Slot), mR G σ H → va_S (mA G) s.heap H locs → lv_has ls 5 [(0, .ref (mo G)), (1, .int y1), (2, .int y2), (3, .int q.1), (4, .int q.2)] → W p l e (mRm 2 45) s m args below meth c H locs 0 0 Q (F0 m 31 ls [])) :=
  lpw_go _ (fun q => (∀ (H : Heap) (locs : List Loc) (ls : Array Slot), mR G σ H → va_S (mA G) s.heap H locs → lv_has ls 5 [(0, .ref (mo G)), (1, .int y1), (2, .int y2), (3, .int q.1), (4, .int q.2)] → W p l e (mRm 2 45) s m args below meth c H locs 0 0 Q (F0 m 31 ls []))) (fun b0 => (∀ b, b0 = b → (∀ (H : Heap) (locs : List Loc) (ls : Array Slot), mR G σ H → va_S (mA G) s.heap H locs → lv_has ls 5 [(0, .ref (mo G)), (1, .int y1), (2, .int y2), (3, .int b)] → W p l e (mRm 2 45) s m args below meth c H locs 0 0 Q (F0 m 70 ls [])))) (fun q x hf hK hX => wbLX4_treeOf_31 S hf hK (fun b eb => (hX _ eb) b rfl)) q res h hE70
set_option maxHeartbeats 4000000 in
set_option maxRecDepth 100000 in
theorem met_X4_treeOf {l : Launch} {G : mG} {x1 : Int32} {x2 : Int32} {σ : mS} {res : Int32 × mS} (hf : fX4_treeOf x1 x2 σ = some res) : mMet l yX4_treeOf cX4_treeOf 5 (Option.some Jvm.ClassFile.FieldType.int) (mRm 2 45) G [.ref (mo G), .int x1, .int x2] σ (some (.int res.1)) res.2 := by
  replace hf : (if (fX4_in x1 (0 : Int32) ((σ.1 26) - (1 : Int32))) = (0 : Int32) then some ((-2 : Int32), σ) else if (fX4_in x2 (0 : Int32) (5 : Int32)) = (0 : Int32) then some ((-2 : Int32), σ) else (lpw (LX4_treeOf_31 x1 x2 σ) ((0 : Int32), (0 : Int32))).bind (fun b5 => if x2 = (0 : Int32) then (mald σ 27 x1).bind (fun v6 => some (v6, σ)) else if x2 = (1 : Int32) then (mald σ 28 x1).bind (fun v7 => some (v7, σ)) else if x2 = (2 : Int32) then (mald σ 29 x1).bind (fun v8 => some (v8, σ)) else if x2 = (3 : Int32) then some (b5, σ) else if x2 = (4 : Int32) then (fX4_costIn x1 σ).bind (fun v9 => some (v9, σ)) else (fX4_isMarked x1 σ).bind (fun e10 => if e10.1 = (0 : Int32) then some ((0 : Int32), e10.2) else some ((1 : Int32), e10.2)))) = some res := hf
  refine m_start (by decide) rfl (Nat.le_of_ble_eq_true rfl) ?_
  intro p e s m args below meth c S hR hS ls hl
  obtain ⟨hx, hb, hml, hown, hts⟩ := S.1.1
  have hl : lv_has ls 5 [(0, .ref (mo G)), (1, .int x1), (2, .int x2)] := hl
  refine lv_iload_n hx hb dX4_treeOf_0 rfl (lv_at hl 1 rfl) ?_
  refine lv_iconst (v := 0) hx hb dX4_treeOf_1 (by decide) ?_
  refine lv_aload_n hx hb dX4_treeOf_2 rfl (lv_at hl 0 rfl) ?_
  refine m_geti (k := 26) S hR (by decide) (by decide) q2552 dX4_treeOf_3 ?_
  refine lv_iconst (v := 1) hx hb dX4_treeOf_6 (by decide) ?_
  refine lv_isub hx hb dX4_treeOf_7 ?_
  refine s_call (As := [.int x1, .int (0 : Int32), .int ((σ.1 26) - (1 : Int32))]) (rest := []) S.1.1 (met_X4_in rfl) wi_X4_in q2681 ⟨rfl, rfl⟩ ⟨Nat.le_of_ble_eq_true rfl, Nat.le_of_ble_eq_true rfl⟩ rfl hl.1 rfl (Nat.le_of_ble_eq_true rfl) dX4_treeOf_8 ⟨Nat.zero_le _, Nat.zero_le _⟩ ?_
  refine lv_if_eq (tgt := 23) hx hb dX4_treeOf_11 (by decide) (fun c_11 => ?_) (fun c_11 => ?_)
  · replace hf := o_t hf c_11
    refine lv_bipush (v := -2) hx hb dX4_treeOf_23 (by decide) ?_
    obtain rfl := Option.some.inj hf
    exact m_iret S hR hS rfl dX4_treeOf_25
  · replace hf := o_f hf c_11
    refine lv_iload_n hx hb dX4_treeOf_14 rfl (lv_at hl 2 rfl) ?_
    refine lv_iconst (v := 0) hx hb dX4_treeOf_15 (by decide) ?_
    refine lv_iconst (v := 5) hx hb dX4_treeOf_16 (by decide) ?_
    refine s_call (As := [.int x2, .int (0 : Int32), .int (5 : Int32)]) (rest := []) S.1.1 (met_X4_in rfl) wi_X4_in q2681 ⟨rfl, rfl⟩ ⟨Nat.le_of_ble_eq_true rfl, Nat.le_of_ble_eq_true rfl⟩ rfl hl.1 rfl (Nat.le_of_ble_eq_true rfl) dX4_treeOf_17 ⟨Nat.zero_le _, Nat.zero_le _⟩ ?_
    refine lv_if_ne (tgt := 26) hx hb dX4_treeOf_20 (by decide) (fun c_20 => ?_) (fun c_20 => ?_)
    · replace hf := o_f hf c_20
      refine lv_iconst (v := 0) hx hb dX4_treeOf_26 (by decide) ?_
      refine lv_istore_n (lv' := [(3, .int (0 : Int32)), (0, .ref (mo G)), (1, .int x1), (2, .int x2)]) hx hb dX4_treeOf_27 rfl hl (by decide) rfl (fun ls hl => ?_)
      refine lv_iconst (v := 0) hx hb dX4_treeOf_28 (by decide) ?_
      refine lv_istore (lv' := [(4, .int (0 : Int32)), (3, .int (0 : Int32)), (0, .ref (mo G)), (1, .int x1), (2, .int x2)]) hx hb dX4_treeOf_29 hl (by decide) rfl (fun ls hl => ?_)
      refine k_bind hf (fun b5 hb5 hf => ?_)
      refine wLX4_treeOf_31 S hb5 ?_ _ _ _ hR hS (lv_sub (l' := [(0, .ref (mo G)), (1, .int x1), (2, .int x2), (3, .int (0 : Int32)), (4, .int (0 : Int32))]) hl [2, 3, 4, 1, 0] rfl)
      · intro b eb; subst eb; intro H locs ls hR hS hl
        refine lv_iload_n hx hb dX4_treeOf_70 rfl (lv_at hl 2 rfl) ?_
        by_cases c_71_0 : x2 = (0 : Int32)
        · replace hf := o_t hf c_71_0
          refine lv_tableIn (tgt := 104) hx hb dX4_treeOf_71 (by rw [c_71_0]; decide) (by rw [c_71_0]; decide) (by rw [c_71_0]; rfl) (by decide) ?_
          refine lv_aload_n hx hb dX4_treeOf_104 rfl (lv_at hl 0 rfl) ?_
          refine m_geta (k := 27) S hR (by decide) (by decide) q2553 dX4_treeOf_105 ?_
          refine lv_iload_n hx hb dX4_treeOf_108 rfl (lv_at hl 1 rfl) ?_
          refine k_bind hf (fun v6 hv6 hf => ?_)
          refine m_iald S hR hv6 dX4_treeOf_109 ?_
          obtain rfl := Option.some.inj hf
          exact m_iret S hR hS rfl dX4_treeOf_110
        replace hf := o_f hf c_71_0
        by_cases c_71_1 : x2 = (1 : Int32)
        · replace hf := o_t hf c_71_1
          refine lv_tableIn (tgt := 111) hx hb dX4_treeOf_71 (by rw [c_71_1]; decide) (by rw [c_71_1]; decide) (by rw [c_71_1]; rfl) (by decide) ?_
          refine lv_aload_n hx hb dX4_treeOf_111 rfl (lv_at hl 0 rfl) ?_
          refine m_geta (k := 28) S hR (by decide) (by decide) q2554 dX4_treeOf_112 ?_
          refine lv_iload_n hx hb dX4_treeOf_115 rfl (lv_at hl 1 rfl) ?_
          refine k_bind hf (fun v7 hv7 hf => ?_)
          refine m_iald S hR hv7 dX4_treeOf_116 ?_
          obtain rfl := Option.some.inj hf
          exact m_iret S hR hS rfl dX4_treeOf_117
        replace hf := o_f hf c_71_1
        by_cases c_71_2 : x2 = (2 : Int32)
        · replace hf := o_t hf c_71_2
          refine lv_tableIn (tgt := 118) hx hb dX4_treeOf_71 (by rw [c_71_2]; decide) (by rw [c_71_2]; decide) (by rw [c_71_2]; rfl) (by decide) ?_
          refine lv_aload_n hx hb dX4_treeOf_118 rfl (lv_at hl 0 rfl) ?_
          refine m_geta (k := 29) S hR (by decide) (by decide) q2555 dX4_treeOf_119 ?_
          refine lv_iload_n hx hb dX4_treeOf_122 rfl (lv_at hl 1 rfl) ?_
          refine k_bind hf (fun v8 hv8 hf => ?_)
          refine m_iald S hR hv8 dX4_treeOf_123 ?_
          obtain rfl := Option.some.inj hf
          exact m_iret S hR hS rfl dX4_treeOf_124
        replace hf := o_f hf c_71_2
        by_cases c_71_3 : x2 = (3 : Int32)
        · replace hf := o_t hf c_71_3
          refine lv_tableIn (tgt := 125) hx hb dX4_treeOf_71 (by rw [c_71_3]; decide) (by rw [c_71_3]; decide) (by rw [c_71_3]; rfl) (by decide) ?_
          refine lv_iload_n hx hb dX4_treeOf_125 rfl (lv_at hl 3 rfl) ?_
          obtain rfl := Option.some.inj hf
          exact m_iret S hR hS rfl dX4_treeOf_126
        replace hf := o_f hf c_71_3
        by_cases c_71_4 : x2 = (4 : Int32)
        · replace hf := o_t hf c_71_4
          refine lv_tableIn (tgt := 127) hx hb dX4_treeOf_71 (by rw [c_71_4]; decide) (by rw [c_71_4]; decide) (by rw [c_71_4]; rfl) (by decide) ?_
          refine lv_aload_n hx hb dX4_treeOf_127 rfl (lv_at hl 0 rfl) ?_
          refine lv_iload_n hx hb dX4_treeOf_128 rfl (lv_at hl 1 rfl) ?_
          refine k_bind hf (fun v9 hv9 hf => ?_)
          refine m_call (As := [.int x1]) (rest := []) S hR hS (met_X4_costIn hv9) wi_X4_costIn rfl q3001 ⟨rfl, rfl⟩ ⟨Nat.le_of_ble_eq_true rfl, Nat.le_of_ble_eq_true rfl⟩ rfl hl.1 rfl (Nat.le_of_ble_eq_true rfl) dX4_treeOf_129 (fun H locs hR hS => ?_)
          obtain rfl := Option.some.inj hf
          exact m_iret S hR hS rfl dX4_treeOf_132
        replace hf := o_f hf c_71_4
        refine lv_tableOut (tgt := 133) hx hb dX4_treeOf_71 (by have t0 := lv_neT c_71_0 (a := 0) rfl; have t1 := lv_neT c_71_1 (a := 1) rfl; have t2 := lv_neT c_71_2 (a := 2) rfl; have t3 := lv_neT c_71_3 (a := 3) rfl; have t4 := lv_neT c_71_4 (a := 4) rfl; omega) (by decide) ?_
        refine lv_aload_n hx hb dX4_treeOf_133 rfl (lv_at hl 0 rfl) ?_
        refine lv_iload_n hx hb dX4_treeOf_134 rfl (lv_at hl 1 rfl) ?_
        refine k_bind hf (fun e10 he10 hf => ?_)
        refine m_call (As := [.int x1]) (rest := []) S hR hS (met_X4_isMarked he10) wi_X4_isMarked rfl q3017 ⟨rfl, rfl⟩ ⟨Nat.le_of_ble_eq_true rfl, Nat.le_of_ble_eq_true rfl⟩ rfl hl.1 rfl (Nat.le_of_ble_eq_true rfl) dX4_treeOf_135 (fun H locs hR hS => ?_)
        refine lv_if_eq (tgt := 145) hx hb dX4_treeOf_138 (by decide) (fun c_138 => ?_) (fun c_138 => ?_)
        · replace hf := o_t hf c_138
          refine lv_iconst (v := 0) hx hb dX4_treeOf_145 (by decide) ?_
          obtain rfl := Option.some.inj hf
          exact m_iret S hR hS rfl dX4_treeOf_146
        · replace hf := o_f hf c_138
          refine lv_iconst (v := 1) hx hb dX4_treeOf_141 (by decide) ?_
          refine lv_goto (tgt := 146) hx hb dX4_treeOf_142 (by decide) ?_
          obtain rfl := Option.some.inj hf
          exact m_iret S hR hS rfl dX4_treeOf_146
    · replace hf := o_t hf c_20
      refine lv_bipush (v := -2) hx hb dX4_treeOf_23 (by decide) ?_
      obtain rfl := Option.some.inj hf
      exact m_iret S hR hS rfl dX4_treeOf_25

noncomputable def LX4_plant_28 (q : Int32 × mS) : Option ((Int32 × mS) ⊕ (mS)) :=
  if (q.2.1 26) ≤ q.1 then some (Sum.inr q.2) else (mald q.2 27 q.1).bind (fun v2 => (mald q.2 28 q.1).bind (fun v3 => (fX4_comes v2 v3 q.2).bind (fun e4 => if q.1 ≤ (0 : Int32) then some (Sum.inl (q.1 + (1 : Int32), e4)) else (mald e4 29 q.1).bind (fun v5 => (fX4_lays q.1 v5 (1 : Int32) e4).bind (fun e6 => some (Sum.inl (q.1 + (1 : Int32), e6)))))))
noncomputable def fX4_plant (σ : mS) : Option (Int32 × mS) :=
  if (σ.1 26) = (0 : Int32) then some ((-1 : Int32), σ) else if (σ.1 26) ≤ (12 : Int32) then (mput σ 0 (0 : Int32)).bind (fun σ1 => (lpw (LX4_plant_28) ((0 : Int32), σ1)).bind (fun b7 => some ((b7.1 0), b7))) else some ((-3 : Int32), σ)
theorem wi_X4_plant : wInfV yX4_plant cX4_plant 2 (Option.some Jvm.ClassFile.FieldType.int) 0 := ⟨q3022, q3023, q116, q3024, (by decide +kernel), (by decide +kernel), (by decide +kernel)⟩
set_option maxHeartbeats 4000000 in
set_option maxRecDepth 100000 in
theorem wbLX4_plant_28 {l : Launch} {G : mG} {p : Program} {e : Env} {s : State} {m : MethodId} {args : Array Value} {below : List Frame} {meth : Method} {c : Code} {Q : State → Prop} {q : Int32 × mS} {res : (Int32 × mS) ⊕ (mS)} (S : mSt G p m c cX4_plant 2 s args meth (Option.some Jvm.ClassFile.FieldType.int)) (hf : LX4_plant_28 q = some res) (hK : ∀ q, res = Sum.inl q → (∀ (H : Heap) (locs : List Loc) (ls : Array Slot), mR G q.2 H → va_S (mA G) s.heap H locs → lv_has ls 2 [(0, .ref (mo G)), (1, .int q.1)] → W p l e (mRm 1 23) s m args below meth c H locs 0 0 Q (F0 m 28 ls []))) (hE74 : ∀ b, res = Sum.inr b → (∀ (H : Heap) (locs : List Loc) (ls : Array Slot), mR G b H → va_S (mA G) s.heap H locs → lv_has ls 2 [(0, .ref (mo G))] → W p l e (mRm 1 23) s m args below meth c H locs 0 0 Q (F0 m 74 ls []))) : (∀ (H : Heap) (locs : List Loc) (ls : Array Slot), mR G q.2 H → va_S (mA G) s.heap H locs → lv_has ls 2 [(0, .ref (mo G)), (1, .int q.1)] → W p l e (mRm 1 23) s m args below meth c H locs 0 0 Q (F0 m 28 ls [])) := by
  replace hf : (if (q.2.1 26) ≤ q.1 then some (Sum.inr q.2) else (mald q.2 27 q.1).bind (fun v2 => (mald q.2 28 q.1).bind (fun v3 => (fX4_comes v2 v3 q.2).bind (fun e4 => if q.1 ≤ (0 : Int32) then some (Sum.inl (q.1 + (1 : Int32), e4)) else (mald e4 29 q.1).bind (fun v5 => (fX4_lays q.1 v5 (1 : Int32) e4).bind (fun e6 => some (Sum.inl (q.1 + (1 : Int32), e6)))))))) = some res := hf
  obtain ⟨hx, hb, hml, hown, hts⟩ := S.1.1
  intro H locs ls hR hS hl
  refine lv_iload_n hx hb dX4_plant_28 rfl (lv_at hl 1 rfl) ?_
  refine lv_aload_n hx hb dX4_plant_29 rfl (lv_at hl 0 rfl) ?_
  refine m_geti (k := 26) S hR (by decide) (by decide) q2552 dX4_plant_30 ?_
  refine lv_icmp_ge (tgt := 74) hx hb dX4_plant_33 (by decide) (fun c_33 => ?_) (fun c_33 => ?_)
  · replace hf := o_t hf c_33
    exact hE74 _ (Option.some.inj hf).symm _ _ _ hR hS (lv_sub (l' := [(0, .ref (mo G))]) hl [0] rfl)
  · replace hf := o_f hf c_33
    refine lv_aload_n hx hb dX4_plant_36 rfl (lv_at hl 0 rfl) ?_
    refine lv_aload_n hx hb dX4_plant_37 rfl (lv_at hl 0 rfl) ?_
    refine m_geta (k := 27) S hR (by decide) (by decide) q2553 dX4_plant_38 ?_
    refine lv_iload_n hx hb dX4_plant_41 rfl (lv_at hl 1 rfl) ?_
    refine k_bind hf (fun v2 hv2 hf => ?_)
    refine m_iald S hR hv2 dX4_plant_42 ?_
    refine lv_aload_n hx hb dX4_plant_43 rfl (lv_at hl 0 rfl) ?_
    refine m_geta (k := 28) S hR (by decide) (by decide) q2554 dX4_plant_44 ?_
    refine lv_iload_n hx hb dX4_plant_47 rfl (lv_at hl 1 rfl) ?_
    refine k_bind hf (fun v3 hv3 hf => ?_)
    refine m_iald S hR hv3 dX4_plant_48 ?_
    refine k_bind hf (fun e4 he4 hf => ?_)
    refine m_call (As := [.int v2, .int v3]) (rest := []) S hR hS (met_X4_comes he4) wi_X4_comes rfl q2684 ⟨rfl, rfl⟩ ⟨Nat.le_of_ble_eq_true rfl, Nat.le_of_ble_eq_true rfl⟩ rfl hl.1 rfl (Nat.le_of_ble_eq_true rfl) dX4_plant_49 (fun H locs hR hS => ?_)
    refine lv_iload_n hx hb dX4_plant_52 rfl (lv_at hl 1 rfl) ?_
    refine lv_if_le (tgt := 68) hx hb dX4_plant_53 (by decide) (fun c_53 => ?_) (fun c_53 => ?_)
    · replace hf := o_t hf c_53
      refine lv_iinc (lv' := [(1, .int (q.1 + (1 : Int32))), (0, .ref (mo G))]) hx hb dX4_plant_68 hl (k := 1) rfl (m_inc (by decide)) (by decide) rfl (fun ls hl => ?_)
      refine lv_goto (tgt := 28) hx hb dX4_plant_71 (by decide) ?_
      exact hK _ (Option.some.inj hf).symm _ _ _ hR hS (lv_sub (l' := [(0, .ref (mo G)), (1, .int (q.1 + (1 : Int32)))]) hl [1, 0] rfl)
    · replace hf := o_f hf c_53
      refine lv_aload_n hx hb dX4_plant_56 rfl (lv_at hl 0 rfl) ?_
      refine lv_iload_n hx hb dX4_plant_57 rfl (lv_at hl 1 rfl) ?_
      refine lv_aload_n hx hb dX4_plant_58 rfl (lv_at hl 0 rfl) ?_
      refine m_geta (k := 29) S hR (by decide) (by decide) q2555 dX4_plant_59 ?_
      refine lv_iload_n hx hb dX4_plant_62 rfl (lv_at hl 1 rfl) ?_
      refine k_bind hf (fun v5 hv5 hf => ?_)
      refine m_iald S hR hv5 dX4_plant_63 ?_
      refine lv_iconst (v := 1) hx hb dX4_plant_64 (by decide) ?_
      refine k_bind hf (fun e6 he6 hf => ?_)
      refine m_call (As := [.int q.1, .int v5, .int (1 : Int32)]) (rest := []) S hR hS (met_X4_lays he6) wi_X4_lays rfl q2700 ⟨rfl, rfl⟩ ⟨Nat.le_of_ble_eq_true rfl, Nat.le_of_ble_eq_true rfl⟩ rfl hl.1 rfl (Nat.le_of_ble_eq_true rfl) dX4_plant_65 (fun H locs hR hS => ?_)
      refine lv_iinc (lv' := [(1, .int (q.1 + (1 : Int32))), (0, .ref (mo G))]) hx hb dX4_plant_68 hl (k := 1) rfl (m_inc (by decide)) (by decide) rfl (fun ls hl => ?_)
      refine lv_goto (tgt := 28) hx hb dX4_plant_71 (by decide) ?_
      exact hK _ (Option.some.inj hf).symm _ _ _ hR hS (lv_sub (l' := [(0, .ref (mo G)), (1, .int (q.1 + (1 : Int32)))]) hl [1, 0] rfl)
set_option maxHeartbeats 4000000 in
set_option maxRecDepth 100000 in
theorem wLX4_plant_28 {l : Launch} {G : mG} {p : Program} {e : Env} {s : State} {m : MethodId} {args : Array Value} {below : List Frame} {meth : Method} {c : Code} {Q : State → Prop} {q : Int32 × mS} {res : mS} (S : mSt G p m c cX4_plant 2 s args meth (Option.some Jvm.ClassFile.FieldType.int)) (h : lpw (LX4_plant_28) q = some res) (hE74 : ∀ b, res = b → (∀ (H : Heap) (locs : List Loc) (ls : Array Slot), mR G b H → va_S (mA G) s.heap H locs → lv_has ls 2 [(0, .ref (mo G))] → W p l e (mRm 1 23) s m args below meth c H locs 0 0 Q (F0 m 74 ls []))) : (∀ (H : Heap) (locs : List Loc) (ls : Array Slot), mR G q.2 H → va_S (mA G) s.heap H locs → lv_has ls 2 [(0, .ref (mo G)), (1, .int q.1)] → W p l e (mRm 1 23) s m args below meth c H locs 0 0 Q (F0 m 28 ls [])) :=
  lpw_go _ (fun q => (∀ (H : Heap) (locs : List Loc) (ls : Array Slot), mR G q.2 H → va_S (mA G) s.heap H locs → lv_has ls 2 [(0, .ref (mo G)), (1, .int q.1)] → W p l e (mRm 1 23) s m args below meth c H locs 0 0 Q (F0 m 28 ls []))) (fun b0 => (∀ b, b0 = b → (∀ (H : Heap) (locs : List Loc) (ls : Array Slot), mR G b H → va_S (mA G) s.heap H locs → lv_has ls 2 [(0, .ref (mo G))] → W p l e (mRm 1 23) s m args below meth c H locs 0 0 Q (F0 m 74 ls [])))) (fun q x hf hK hX => wbLX4_plant_28 S hf hK (fun b eb => (hX _ eb) b rfl)) q res h hE74
set_option maxHeartbeats 4000000 in
set_option maxRecDepth 100000 in
theorem met_X4_plant {l : Launch} {G : mG} {σ : mS} {res : Int32 × mS} (hf : fX4_plant σ = some res) : mMet l yX4_plant cX4_plant 2 (Option.some Jvm.ClassFile.FieldType.int) (mRm 1 23) G [.ref (mo G)] σ (some (.int res.1)) res.2 := by
  replace hf : (if (σ.1 26) = (0 : Int32) then some ((-1 : Int32), σ) else if (σ.1 26) ≤ (12 : Int32) then (mput σ 0 (0 : Int32)).bind (fun σ1 => (lpw (LX4_plant_28) ((0 : Int32), σ1)).bind (fun b7 => some ((b7.1 0), b7))) else some ((-3 : Int32), σ)) = some res := hf
  refine m_start (by decide) rfl (Nat.le_of_ble_eq_true rfl) ?_
  intro p e s m args below meth c S hR hS ls hl
  obtain ⟨hx, hb, hml, hown, hts⟩ := S.1.1
  have hl : lv_has ls 2 [(0, .ref (mo G))] := hl
  refine lv_aload_n hx hb dX4_plant_0 rfl (lv_at hl 0 rfl) ?_
  refine m_geti (k := 26) S hR (by decide) (by decide) q2552 dX4_plant_1 ?_
  refine lv_if_ne (tgt := 9) hx hb dX4_plant_4 (by decide) (fun c_4 => ?_) (fun c_4 => ?_)
  · replace hf := o_f hf c_4
    refine lv_aload_n hx hb dX4_plant_9 rfl (lv_at hl 0 rfl) ?_
    refine m_geti (k := 26) S hR (by decide) (by decide) q2552 dX4_plant_10 ?_
    refine lv_bipush (v := 12) hx hb dX4_plant_13 (by decide) ?_
    refine lv_icmp_le (tgt := 21) hx hb dX4_plant_15 (by decide) (fun c_15 => ?_) (fun c_15 => ?_)
    · replace hf := o_t hf c_15
      refine lv_aload_n hx hb dX4_plant_21 rfl (lv_at hl 0 rfl) ?_
      refine lv_iconst (v := 0) hx hb dX4_plant_22 (by decide) ?_
      refine k_bind hf (fun σ1 hσ1 hf => ?_)
      refine m_puti (k := 0) S hR hS hσ1 (by decide) (by decide) rfl rfl rfl rfl q2526 dX4_plant_23 (fun H locs hR hS => ?_)
      refine lv_iconst (v := 0) hx hb dX4_plant_26 (by decide) ?_
      refine lv_istore_n (lv' := [(1, .int (0 : Int32)), (0, .ref (mo G))]) hx hb dX4_plant_27 rfl hl (by decide) rfl (fun ls hl => ?_)
      refine k_bind hf (fun b7 hb7 hf => ?_)
      refine wLX4_plant_28 S hb7 ?_ _ _ _ hR hS (lv_sub (l' := [(0, .ref (mo G)), (1, .int (0 : Int32))]) hl [1, 0] rfl)
      · intro b eb; subst eb; intro H locs ls hR hS hl
        refine lv_aload_n hx hb dX4_plant_74 rfl (lv_at hl 0 rfl) ?_
        refine m_geti (k := 0) S hR (by decide) (by decide) q2526 dX4_plant_75 ?_
        obtain rfl := Option.some.inj hf
        exact m_iret S hR hS rfl dX4_plant_78
    · replace hf := o_f hf c_15
      refine lv_bipush (v := -3) hx hb dX4_plant_18 (by decide) ?_
      obtain rfl := Option.some.inj hf
      exact m_iret S hR hS rfl dX4_plant_20
  · replace hf := o_t hf c_4
    refine lv_iconst (v := -1) hx hb dX4_plant_7 (by decide) ?_
    obtain rfl := Option.some.inj hf
    exact m_iret S hR hS rfl dX4_plant_8
