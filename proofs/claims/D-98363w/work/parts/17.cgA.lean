set_option maxRecDepth 100000
theorem ph_null {p : Program} {l : Launch} {e : Env} {R : Room} {s : State} {m : MethodId} {args : Array Value} {below : List Frame} {meth : Method} {c : Code} {H : Heap} {locs : List Loc} {cells slots : Nat} {Q : State → Prop} {cc : ByteArray} {nL pc : Nat} {ret : Option FieldType} {ls : Array Slot} {rest : List Value} {D : va_G} {dA : Nat → ClassId} {ad : Nat → Nat} {A : Nat → Prop} {own : String} (X : CX p s m args c meth cc nL ret own D dA ad A) (hdg : decode cc pc = .ok (.aconst_null, 1)) (k : W p l e R s m args below meth c H locs cells slots Q (F0 m (pc + 1) ls (rv ad 0 :: rest))) : W p l e R s m args below meth c H locs cells slots Q (F0 m pc ls rest) := lv_null X.1 X.2.1 hdg k
section CGA
variable {p : Program} {l : Launch} {e : Env} {s : State} {m : MethodId} {args : Array Value} {below : List Frame} {meth : Method} {c : Code} {D : va_G} {dA : Nat → ClassId} {ad : Nat → Nat} {A : Nat → Prop} {g : GT}
def P_J14_checkIndex (g : GT) (a0 : Int32) (a1 : Int32) (a2 : Nat) (ι : S) (Q : Int32 → S → Prop) : Prop := (¬ a0 < 0 ∧ (a0 < a1 ∧ (Q a0 ι)))
set_option maxHeartbeats 2000000 in
theorem met_J14_checkIndex (l : Launch) (D : va_G) (dA : Nat → ClassId) (ad : Nat → Nat) (g : GT) (ι : S) (sz : Nat) {a0 : Int32} {a1 : Int32} {a2 : Nat} {Q : Int32 → S → Prop} (hF : P_J14_checkIndex g a0 a1 a2 ι Q) : CGi l yJ14_checkIndex cJ14_checkIndex 3 .int ({ frames := 0, cells := 0, slots := 0, locals := 0 } : Room) D dA ad g ι sz [iX a0, iX a1, pX a2] Q := by
  unfold P_J14_checkIndex at hF
  refine ph_enter [iX a0, iX a1, pX a2] (Qc := fun A => va_Qi (GQi g Q) (CB D dA ad A) A) (by decide +kernel) (Nat.le_of_ble_eq_true rfl) ?_
  intro p e s m args below meth c A ls X hP hl hnm
  have hl : LH ad ls 3 [(0, iX a0), (1, iX a1), (2, pX a2)] := hl
  refine ph_iload_n (n := 0) X hl dJ14_checkIndex_0 rfl rfl ?_
  obtain ⟨hq2, hF⟩ := hF
  refine lv_if_lt (tgt := 9) X.1 X.2.1 dJ14_checkIndex_1 (by decide) (fun c1 => absurd c1 hq2) (fun c1 => ?_)
  refine ph_iload_n (n := 0) X hl dJ14_checkIndex_4 rfl rfl ?_
  refine ph_iload_n (n := 1) X hl dJ14_checkIndex_5 rfl rfl ?_
  obtain ⟨hq4, hF⟩ := hF
  refine lv_icmp_lt (tgt := 16) X.1 X.2.1 dJ14_checkIndex_6 (by decide) (fun c3 => ?_) (fun c3 => absurd hq4 c3)
  refine ph_iload_n (n := 0) X hl dJ14_checkIndex_16 rfl rfl ?_
  exact cg_iret X hP hF dJ14_checkIndex_17
def P_J18_checkIndex (g : GT) (a0 : Int32) (a1 : Int32) (ι : S) (Q : Int32 → S → Prop) : Prop := (P_J14_checkIndex g a0 a1 0 ι (fun r1 ι2 => (Q r1 ι2)))
set_option maxHeartbeats 2000000 in
theorem met_J18_checkIndex (l : Launch) (D : va_G) (dA : Nat → ClassId) (ad : Nat → Nat) (g : GT) (ι : S) (sz : Nat) {a0 : Int32} {a1 : Int32} {Q : Int32 → S → Prop} (hF : P_J18_checkIndex g a0 a1 ι Q) : CGi l yJ18_checkIndex cJ18_checkIndex 2 .int ({ frames := 1, cells := 0, slots := 0, locals := 22 } : Room) D dA ad g ι sz [iX a0, iX a1] Q := by
  unfold P_J18_checkIndex at hF
  refine ph_enter [iX a0, iX a1] (Qc := fun A => va_Qi (GQi g Q) (CB D dA ad A) A) (by decide +kernel) (Nat.le_of_ble_eq_true rfl) ?_
  intro p e s m args below meth c A ls X hP hl hnm
  have hl : LH ad ls 2 [(0, iX a0), (1, iX a1)] := hl
  refine ph_iload_n (n := 0) X hl dJ18_checkIndex_0 rfl rfl ?_
  refine ph_iload_n (n := 1) X hl dJ18_checkIndex_1 rfl rfl ?_
  refine ph_null X dJ18_checkIndex_2 ?_
  refine cg_callSi [iX a0, iX a1, pX 0] X hP (met_J14_checkIndex l D dA ad g _ _ hF) (va_cwS 3 X.2.2.2.2.1 (lw_S q784 q785 q115 q786) rfl rfl rfl (by decide +kernel) ⟨Nat.le_of_ble_eq_true rfl, Nat.le_of_ble_eq_true rfl⟩) rfl hl (k8 := 0) (cs0 (k := 0)) (by decide) ⟨Nat.le_refl _, Nat.le_refl _⟩ dJ18_checkIndex_3 rfl (fun r1 ι2 H locs hF hP => ?_)
  exact cg_iret X hP hF dJ18_checkIndex_6
def P_J2_size (g : GT) (a0 : Nat) (ι : S) (Q : Int32 → S → Prop) : Prop := (gK g a0 = 18 ∧ (Q (ι a0 2) ι))
set_option maxHeartbeats 2000000 in
theorem met_J2_size (l : Launch) (D : va_G) (dA : Nat → ClassId) (ad : Nat → Nat) (g : GT) (ι : S) (sz : Nat) {a0 : Nat} {Q : Int32 → S → Prop} (hF : P_J2_size g a0 ι Q) : CGi l yJ2_size cJ2_size 1 .int ({ frames := 0, cells := 0, slots := 0, locals := 0 } : Room) D dA ad g ι sz [pX a0] Q := by
  unfold P_J2_size at hF
  refine ph_enter [pX a0] (Qc := fun A => va_Qi (GQi g Q) (CB D dA ad A) A) (by decide +kernel) (Nat.le_of_ble_eq_true rfl) ?_
  intro p e s m args below meth c A ls X hP hl hnm
  have hl : LH ad ls 1 [(0, pX a0)] := hl
  refine ph_aload_n (n := 0) X hl dJ2_size_0 rfl rfl ?_
  obtain ⟨hm1, hF⟩ := hF
  refine cg_geti 17 2 X in_J2 hP hm1 q483 dJ2_size_1 ?_
  exact cg_iret X hP hF dJ2_size_4
def P_J2_elementData (g : GT) (a0 : Nat) (a1 : Int32) (ι : S) (Q : Nat → S → Prop) : Prop := (gK g a0 = 18 ∧ (gK g (gR g a0 1) = 110 ∧ (vp_in a1 (gL g (gR g a0 1)) ∧ (Q (gR g (gR g a0 1) a1.toNatClampNeg) ι))))
set_option maxHeartbeats 2000000 in
theorem met_J2_elementData (l : Launch) (D : va_G) (dA : Nat → ClassId) (ad : Nat → Nat) (g : GT) (ι : S) (sz : Nat) {a0 : Nat} {a1 : Int32} {Q : Nat → S → Prop} (hF : P_J2_elementData g a0 a1 ι Q) : CGq l yJ2_elementData cJ2_elementData 2 (.object "java/lang/Object") ({ frames := 0, cells := 0, slots := 0, locals := 0 } : Room) D dA ad g ι sz [pX a0, iX a1] Q := by
  unfold P_J2_elementData at hF
  refine ph_enter [pX a0, iX a1] (Qc := fun A => va_Qq (fun (r : Option Nat) (u : HT) => ∃ v, r = ro ad v ∧ v < 200 + hN u ∧ GQq g Q v u) (CB D dA ad A) A) (by decide +kernel) (Nat.le_of_ble_eq_true rfl) ?_
  intro p e s m args below meth c A ls X hP hl hnm
  have hl : LH ad ls 2 [(0, pX a0), (1, iX a1)] := hl
  refine ph_aload_n (n := 0) X hl dJ2_elementData_0 rfl rfl ?_
  obtain ⟨hm1, hF⟩ := hF
  refine cg_getr 17 1 X in_J2 hP hm1 q482 dJ2_elementData_1 ?_
  refine ph_iload_n (n := 1) X hl dJ2_elementData_4 rfl rfl ?_
  obtain ⟨hm2, hF⟩ := hF
  obtain ⟨hr3, hF⟩ := hF
  refine cg_aaldO X hP hm2 hr3 (k := a1.toNatClampNeg) rfl dJ2_elementData_5 ?_
  exact cg_aret X hP (Or.inl ⟨_, rfl⟩) (gR_lt hP _ _) hF dJ2_elementData_6
def P_J2_get (g : GT) (a0 : Nat) (a1 : Int32) (ι : S) (Q : Nat → S → Prop) : Prop := (gK g a0 = 18 ∧ (P_J18_checkIndex g a1 (ι a0 2) ι (fun r2 ι3 => (P_J2_elementData g a0 a1 ι3 (fun r5 ι6 => (Q r5 ι6))))))
set_option maxHeartbeats 2000000 in
theorem met_J2_get (l : Launch) (D : va_G) (dA : Nat → ClassId) (ad : Nat → Nat) (g : GT) (ι : S) (sz : Nat) {a0 : Nat} {a1 : Int32} {Q : Nat → S → Prop} (hF : P_J2_get g a0 a1 ι Q) : CGq l yJ2_get cJ2_get 2 (.object "java/lang/Object") ({ frames := 2, cells := 0, slots := 0, locals := 43 } : Room) D dA ad g ι sz [pX a0, iX a1] Q := by
  unfold P_J2_get at hF
  refine ph_enter [pX a0, iX a1] (Qc := fun A => va_Qq (fun (r : Option Nat) (u : HT) => ∃ v, r = ro ad v ∧ v < 200 + hN u ∧ GQq g Q v u) (CB D dA ad A) A) (by decide +kernel) (Nat.le_of_ble_eq_true rfl) ?_
  intro p e s m args below meth c A ls X hP hl hnm
  have hl : LH ad ls 2 [(0, pX a0), (1, iX a1)] := hl
  refine ph_iload_n (n := 1) X hl dJ2_get_0 rfl rfl ?_
  refine ph_aload_n (n := 0) X hl dJ2_get_1 rfl rfl ?_
  obtain ⟨hm1, hF⟩ := hF
  refine cg_geti 17 2 X in_J2 hP hm1 q483 dJ2_get_2 ?_
  refine cg_callSi [iX a1, iX (ι a0 2)] X hP (met_J18_checkIndex l D dA ad g _ _ hF) (va_cwS 2 X.2.2.2.2.1 (lw_S q781 q782 q125 q783) rfl rfl rfl (by decide +kernel) ⟨Nat.le_of_ble_eq_true rfl, Nat.le_of_ble_eq_true rfl⟩) rfl hl (k8 := 0) (cs0 (k := 0)) (by decide) ⟨Nat.le_refl _, Nat.le_refl _⟩ dJ2_get_5 rfl (fun r2 ι3 H locs hF hP => ?_)
  refine lv_pop X.1 X.2.1 dJ2_get_8 rfl ?_
  refine ph_aload_n (n := 0) X hl dJ2_get_9 rfl rfl ?_
  refine ph_iload_n (n := 1) X hl dJ2_get_10 rfl rfl ?_
  refine cg_callVq 17 [iX a1] X hP hm1 (met_J2_elementData l D dA ad g _ _ hF) (cwV 1 X.2.2.2.2.1 (lw_V q787 q788 q789 q102 q790) rfl rfl rfl (by decide +kernel) ⟨Nat.le_of_ble_eq_true rfl, Nat.le_of_ble_eq_true rfl⟩) rfl hl (k8 := 0) (cs0 (k := 0)) (by decide) ⟨Nat.le_refl _, Nat.le_refl _⟩ dJ2_get_11 rfl (fun r5 ι6 H locs hF hv7 hP => ?_)
  exact cg_aret X hP (Or.inl ⟨_, rfl⟩) hv7 hF dJ2_get_14
def P_J16_bitCount (g : GT) (a0 : Int32) (ι : S) (Q : Int32 → S → Prop) : Prop := (Q ((((((((a0 - (((a0.toUInt32 >>> ((1 : Int32).toUInt32 &&& Int32.toUInt32 31)).toInt32) &&& 1431655765)) &&& 858993459) + ((((a0 - (((a0.toUInt32 >>> ((1 : Int32).toUInt32 &&& Int32.toUInt32 31)).toInt32) &&& 1431655765)).toUInt32 >>> ((2 : Int32).toUInt32 &&& Int32.toUInt32 31)).toInt32) &&& 858993459)) + (((((a0 - (((a0.toUInt32 >>> ((1 : Int32).toUInt32 &&& Int32.toUInt32 31)).toInt32) &&& 1431655765)) &&& 858993459) + ((((a0 - (((a0.toUInt32 >>> ((1 : Int32).toUInt32 &&& Int32.toUInt32 31)).toInt32) &&& 1431655765)).toUInt32 >>> ((2 : Int32).toUInt32 &&& Int32.toUInt32 31)).toInt32) &&& 858993459)).toUInt32 >>> ((4 : Int32).toUInt32 &&& Int32.toUInt32 31)).toInt32)) &&& 252645135) + (((((((a0 - (((a0.toUInt32 >>> ((1 : Int32).toUInt32 &&& Int32.toUInt32 31)).toInt32) &&& 1431655765)) &&& 858993459) + ((((a0 - (((a0.toUInt32 >>> ((1 : Int32).toUInt32 &&& Int32.toUInt32 31)).toInt32) &&& 1431655765)).toUInt32 >>> ((2 : Int32).toUInt32 &&& Int32.toUInt32 31)).toInt32) &&& 858993459)) + (((((a0 - (((a0.toUInt32 >>> ((1 : Int32).toUInt32 &&& Int32.toUInt32 31)).toInt32) &&& 1431655765)) &&& 858993459) + ((((a0 - (((a0.toUInt32 >>> ((1 : Int32).toUInt32 &&& Int32.toUInt32 31)).toInt32) &&& 1431655765)).toUInt32 >>> ((2 : Int32).toUInt32 &&& Int32.toUInt32 31)).toInt32) &&& 858993459)).toUInt32 >>> ((4 : Int32).toUInt32 &&& Int32.toUInt32 31)).toInt32)) &&& 252645135).toUInt32 >>> ((8 : Int32).toUInt32 &&& Int32.toUInt32 31)).toInt32)) + ((((((((a0 - (((a0.toUInt32 >>> ((1 : Int32).toUInt32 &&& Int32.toUInt32 31)).toInt32) &&& 1431655765)) &&& 858993459) + ((((a0 - (((a0.toUInt32 >>> ((1 : Int32).toUInt32 &&& Int32.toUInt32 31)).toInt32) &&& 1431655765)).toUInt32 >>> ((2 : Int32).toUInt32 &&& Int32.toUInt32 31)).toInt32) &&& 858993459)) + (((((a0 - (((a0.toUInt32 >>> ((1 : Int32).toUInt32 &&& Int32.toUInt32 31)).toInt32) &&& 1431655765)) &&& 858993459) + ((((a0 - (((a0.toUInt32 >>> ((1 : Int32).toUInt32 &&& Int32.toUInt32 31)).toInt32) &&& 1431655765)).toUInt32 >>> ((2 : Int32).toUInt32 &&& Int32.toUInt32 31)).toInt32) &&& 858993459)).toUInt32 >>> ((4 : Int32).toUInt32 &&& Int32.toUInt32 31)).toInt32)) &&& 252645135) + (((((((a0 - (((a0.toUInt32 >>> ((1 : Int32).toUInt32 &&& Int32.toUInt32 31)).toInt32) &&& 1431655765)) &&& 858993459) + ((((a0 - (((a0.toUInt32 >>> ((1 : Int32).toUInt32 &&& Int32.toUInt32 31)).toInt32) &&& 1431655765)).toUInt32 >>> ((2 : Int32).toUInt32 &&& Int32.toUInt32 31)).toInt32) &&& 858993459)) + (((((a0 - (((a0.toUInt32 >>> ((1 : Int32).toUInt32 &&& Int32.toUInt32 31)).toInt32) &&& 1431655765)) &&& 858993459) + ((((a0 - (((a0.toUInt32 >>> ((1 : Int32).toUInt32 &&& Int32.toUInt32 31)).toInt32) &&& 1431655765)).toUInt32 >>> ((2 : Int32).toUInt32 &&& Int32.toUInt32 31)).toInt32) &&& 858993459)).toUInt32 >>> ((4 : Int32).toUInt32 &&& Int32.toUInt32 31)).toInt32)) &&& 252645135).toUInt32 >>> ((8 : Int32).toUInt32 &&& Int32.toUInt32 31)).toInt32)).toUInt32 >>> ((16 : Int32).toUInt32 &&& Int32.toUInt32 31)).toInt32)) &&& 63) ι)
set_option maxHeartbeats 2000000 in
theorem met_J16_bitCount (l : Launch) (D : va_G) (dA : Nat → ClassId) (ad : Nat → Nat) (g : GT) (ι : S) (sz : Nat) {a0 : Int32} {Q : Int32 → S → Prop} (hF : P_J16_bitCount g a0 ι Q) : CGi l yJ16_bitCount cJ16_bitCount 1 .int ({ frames := 0, cells := 0, slots := 0, locals := 0 } : Room) D dA ad g ι sz [iX a0] Q := by
  unfold P_J16_bitCount at hF
  refine ph_enter [iX a0] (Qc := fun A => va_Qi (GQi g Q) (CB D dA ad A) A) (by decide +kernel) (Nat.le_of_ble_eq_true rfl) ?_
  intro p e s m args below meth c A ls X hP hl hnm
  have hl : LH ad ls 1 [(0, iX a0)] := hl
  refine ph_iload_n (n := 0) X hl dJ16_bitCount_0 rfl rfl ?_
  refine ph_iload_n (n := 0) X hl dJ16_bitCount_1 rfl rfl ?_
  refine lv_iconst (v := 1) X.1 X.2.1 dJ16_bitCount_2 (by decide) ?_
  refine lv_iushr X.1 X.2.1 dJ16_bitCount_3 rfl ?_
  refine lv_ldcw (v := 1431655765) X.1 X.2.1 X.2.2.2.1 (X.2.2.2.2.1 _ q1671) dJ16_bitCount_4 ?_
  refine lv_iand X.1 X.2.1 dJ16_bitCount_7 ?_
  refine lv_isub X.1 X.2.1 dJ16_bitCount_8 ?_
  refine ph_istore_n X hl dJ16_bitCount_9 rfl (by decide) rfl (fun ls hl => ?_)
  refine ph_iload_n (n := 0) X hl dJ16_bitCount_10 rfl rfl ?_
  refine lv_ldcw (v := 858993459) X.1 X.2.1 X.2.2.2.1 (X.2.2.2.2.1 _ q1672) dJ16_bitCount_11 ?_
  refine lv_iand X.1 X.2.1 dJ16_bitCount_14 ?_
  refine ph_iload_n (n := 0) X hl dJ16_bitCount_15 rfl rfl ?_
  refine lv_iconst (v := 2) X.1 X.2.1 dJ16_bitCount_16 (by decide) ?_
  refine lv_iushr X.1 X.2.1 dJ16_bitCount_17 rfl ?_
  refine lv_ldcw (v := 858993459) X.1 X.2.1 X.2.2.2.1 (X.2.2.2.2.1 _ q1672) dJ16_bitCount_18 ?_
  refine lv_iand X.1 X.2.1 dJ16_bitCount_21 ?_
  refine lv_iadd X.1 X.2.1 dJ16_bitCount_22 ?_
  refine ph_istore_n X hl dJ16_bitCount_23 rfl (by decide) rfl (fun ls hl => ?_)
  refine ph_iload_n (n := 0) X hl dJ16_bitCount_24 rfl rfl ?_
  refine ph_iload_n (n := 0) X hl dJ16_bitCount_25 rfl rfl ?_
  refine lv_iconst (v := 4) X.1 X.2.1 dJ16_bitCount_26 (by decide) ?_
  refine lv_iushr X.1 X.2.1 dJ16_bitCount_27 rfl ?_
  refine lv_iadd X.1 X.2.1 dJ16_bitCount_28 ?_
  refine lv_ldcw (v := 252645135) X.1 X.2.1 X.2.2.2.1 (X.2.2.2.2.1 _ q1673) dJ16_bitCount_29 ?_
  refine lv_iand X.1 X.2.1 dJ16_bitCount_32 ?_
  refine ph_istore_n X hl dJ16_bitCount_33 rfl (by decide) rfl (fun ls hl => ?_)
  refine ph_iload_n (n := 0) X hl dJ16_bitCount_34 rfl rfl ?_
  refine ph_iload_n (n := 0) X hl dJ16_bitCount_35 rfl rfl ?_
  refine lv_bipush (v := 8) X.1 X.2.1 dJ16_bitCount_36 (by decide) ?_
  refine lv_iushr X.1 X.2.1 dJ16_bitCount_38 rfl ?_
  refine lv_iadd X.1 X.2.1 dJ16_bitCount_39 ?_
  refine ph_istore_n X hl dJ16_bitCount_40 rfl (by decide) rfl (fun ls hl => ?_)
  refine ph_iload_n (n := 0) X hl dJ16_bitCount_41 rfl rfl ?_
  refine ph_iload_n (n := 0) X hl dJ16_bitCount_42 rfl rfl ?_
  refine lv_bipush (v := 16) X.1 X.2.1 dJ16_bitCount_43 (by decide) ?_
  refine lv_iushr X.1 X.2.1 dJ16_bitCount_45 rfl ?_
  refine lv_iadd X.1 X.2.1 dJ16_bitCount_46 ?_
  refine ph_istore_n X hl dJ16_bitCount_47 rfl (by decide) rfl (fun ls hl => ?_)
  refine ph_iload_n (n := 0) X hl dJ16_bitCount_48 rfl rfl ?_
  refine lv_bipush (v := 63) X.1 X.2.1 dJ16_bitCount_49 (by decide) ?_
  refine lv_iand X.1 X.2.1 dJ16_bitCount_51 ?_
  exact cg_iret X hP hF dJ16_bitCount_52
def P_X16_kind (g : GT) (a0 : Nat) (ι : S) (Q : Int32 → S → Prop) : Prop := (Q 0 ι)
set_option maxHeartbeats 2000000 in
theorem met_X16_kind (l : Launch) (D : va_G) (dA : Nat → ClassId) (ad : Nat → Nat) (g : GT) (ι : S) (sz : Nat) {a0 : Nat} {Q : Int32 → S → Prop} (hF : P_X16_kind g a0 ι Q) : CGi l yX16_kind cX16_kind 1 .int ({ frames := 0, cells := 0, slots := 0, locals := 0 } : Room) D dA ad g ι sz [pX a0] Q := by
  unfold P_X16_kind at hF
  refine ph_enter [pX a0] (Qc := fun A => va_Qi (GQi g Q) (CB D dA ad A) A) (by decide +kernel) (Nat.le_of_ble_eq_true rfl) ?_
  intro p e s m args below meth c A ls X hP hl hnm
  have hl : LH ad ls 1 [(0, pX a0)] := hl
  refine lv_iconst (v := 0) X.1 X.2.1 dX16_kind_0 (by decide) ?_
  exact cg_iret X hP hF dX16_kind_1
def P_X16_isSore_16 (g : GT) (Q : Int32 → S → Prop) (y0 : Int32) (y1 : Int32) (ι : S) : Prop := ((y0 < y1 → (Q 0 ι)) ∧ (¬ y0 < y1 → (Q 1 ι)))
def P_X16_isSore (g : GT) (a0 : Nat) (a1 : Int32) (a2 : Int32) (ι : S) (Q : Int32 → S → Prop) : Prop := ((¬ a1 = 0 → (isSl (gK g a0) ∧ (P_X16_isSore_16 g Q a2 (ι a0 1) ι))) ∧ (a1 = 0 → (isSl (gK g a0) ∧ (P_X16_isSore_16 g Q a2 (ι a0 0) ι))))
set_option maxHeartbeats 2000000 in
theorem w_X16_isSore_16 (X : CX p s m args c meth cX16_isSore 3 (some .boolean) RX16 D dA ad A) {Q : Int32 → S → Prop} : ∀ (y0 : Int32) (y1 : Int32) (ι : S) (H : Heap) (locs : List Loc) (ls : Array Slot), P_X16_isSore_16 g Q y0 y1 ι → PW D dA A s.heap ad (HS g ι) H locs → LH ad ls 3 [] → WGi p l e ({ frames := 0, cells := 0, slots := 0, locals := 0 } : Room) s m args below meth c D dA ad A g Q H locs (F0 m 16 ls [.int y1, .int y0]) := by
  intro y0 y1 ι H locs ls hF hP hl
  unfold P_X16_isSore_16 at hF
  refine lv_icmp_lt (tgt := 23) X.1 X.2.1 dX16_isSore_16 (by decide) (fun c1 => ?_) (fun c1 => ?_)
  · have hF := hF.1 c1
    refine lv_iconst (v := 0) X.1 X.2.1 dX16_isSore_23 (by decide) ?_
    exact cg_zret X hP isB_0 hF dX16_isSore_24
  · have hF := hF.2 c1
    refine lv_iconst (v := 1) X.1 X.2.1 dX16_isSore_19 (by decide) ?_
    refine lv_goto (tgt := 24) X.1 X.2.1 dX16_isSore_20 (by decide) ?_
    exact cg_zret X hP isB_1 hF dX16_isSore_24
set_option maxHeartbeats 2000000 in
theorem met_X16_isSore (l : Launch) (D : va_G) (dA : Nat → ClassId) (ad : Nat → Nat) (g : GT) (ι : S) (sz : Nat) {a0 : Nat} {a1 : Int32} {a2 : Int32} {Q : Int32 → S → Prop} (hF : P_X16_isSore g a0 a1 a2 ι Q) : CGi l yX16_isSore cX16_isSore 3 .boolean ({ frames := 0, cells := 0, slots := 0, locals := 0 } : Room) D dA ad g ι sz [pX a0, iX a1, iX a2] Q := by
  unfold P_X16_isSore at hF
  refine ph_enter [pX a0, iX a1, iX a2] (Qc := fun A => va_Qi (GQi g Q) (CB D dA ad A) A) (by decide +kernel) (Nat.le_of_ble_eq_true rfl) ?_
  intro p e s m args below meth c A ls X hP hl hnm
  have hl : LH ad ls 3 [(0, pX a0), (1, iX a1), (2, iX a2)] := hl
  refine ph_iload_n (n := 2) X hl dX16_isSore_0 rfl rfl ?_
  refine ph_iload_n (n := 1) X hl dX16_isSore_1 rfl rfl ?_
  refine lv_if_ne (tgt := 12) X.1 X.2.1 dX16_isSore_2 (by decide) (fun c4 => ?_) (fun c4 => ?_)
  · have hF := hF.1 c4
    refine ph_aload_n (n := 0) X hl dX16_isSore_12 rfl rfl ?_
    obtain ⟨hm2, hF⟩ := hF
    refine cg_getSl 1 X hP hm2 q1491 dX16_isSore_13 ?_
    exact w_X16_isSore_16 X _ _ _ _ _ _ hF hP (lh_sub hl [] rfl)
  · have hF := hF.2 c4
    refine ph_aload_n (n := 0) X hl dX16_isSore_5 rfl rfl ?_
    obtain ⟨hm3, hF⟩ := hF
    refine cg_getSl 0 X hP hm3 q1489 dX16_isSore_6 ?_
    refine lv_goto (tgt := 16) X.1 X.2.1 dX16_isSore_9 (by decide) ?_
    exact w_X16_isSore_16 X _ _ _ _ _ _ hF hP (lh_sub hl [] rfl)
def P_X16_isTurned (g : GT) (a0 : Nat) (ι : S) (Q : Int32 → S → Prop) : Prop := (Q 1 ι)
set_option maxHeartbeats 2000000 in
theorem met_X16_isTurned (l : Launch) (D : va_G) (dA : Nat → ClassId) (ad : Nat → Nat) (g : GT) (ι : S) (sz : Nat) {a0 : Nat} {Q : Int32 → S → Prop} (hF : P_X16_isTurned g a0 ι Q) : CGi l yX16_isTurned cX16_isTurned 1 .boolean ({ frames := 0, cells := 0, slots := 0, locals := 0 } : Room) D dA ad g ι sz [pX a0] Q := by
  unfold P_X16_isTurned at hF
  refine ph_enter [pX a0] (Qc := fun A => va_Qi (GQi g Q) (CB D dA ad A) A) (by decide +kernel) (Nat.le_of_ble_eq_true rfl) ?_
  intro p e s m args below meth c A ls X hP hl hnm
  have hl : LH ad ls 1 [(0, pX a0)] := hl
  refine lv_iconst (v := 1) X.1 X.2.1 dX16_isTurned_0 (by decide) ?_
  exact cg_zret X hP isB_1 hF dX16_isTurned_1
def P_X16_isWoken (g : GT) (a0 : Nat) (ι : S) (Q : Int32 → S → Prop) : Prop := (Q 1 ι)
set_option maxHeartbeats 2000000 in
theorem met_X16_isWoken (l : Launch) (D : va_G) (dA : Nat → ClassId) (ad : Nat → Nat) (g : GT) (ι : S) (sz : Nat) {a0 : Nat} {Q : Int32 → S → Prop} (hF : P_X16_isWoken g a0 ι Q) : CGi l yX16_isWoken cX16_isWoken 1 .boolean ({ frames := 0, cells := 0, slots := 0, locals := 0 } : Room) D dA ad g ι sz [pX a0] Q := by
  unfold P_X16_isWoken at hF
  refine ph_enter [pX a0] (Qc := fun A => va_Qi (GQi g Q) (CB D dA ad A) A) (by decide +kernel) (Nat.le_of_ble_eq_true rfl) ?_
  intro p e s m args below meth c A ls X hP hl hnm
  have hl : LH ad ls 1 [(0, pX a0)] := hl
  refine lv_iconst (v := 1) X.1 X.2.1 dX16_isWoken_0 (by decide) ?_
  exact cg_zret X hP isB_1 hF dX16_isWoken_1
def P_X16_isSnoring (g : GT) (a0 : Nat) (ι : S) (Q : Int32 → S → Prop) : Prop := (Q 0 ι)
set_option maxHeartbeats 2000000 in
theorem met_X16_isSnoring (l : Launch) (D : va_G) (dA : Nat → ClassId) (ad : Nat → Nat) (g : GT) (ι : S) (sz : Nat) {a0 : Nat} {Q : Int32 → S → Prop} (hF : P_X16_isSnoring g a0 ι Q) : CGi l yX16_isSnoring cX16_isSnoring 1 .boolean ({ frames := 0, cells := 0, slots := 0, locals := 0 } : Room) D dA ad g ι sz [pX a0] Q := by
  unfold P_X16_isSnoring at hF
  refine ph_enter [pX a0] (Qc := fun A => va_Qi (GQi g Q) (CB D dA ad A) A) (by decide +kernel) (Nat.le_of_ble_eq_true rfl) ?_
  intro p e s m args below meth c A ls X hP hl hnm
  have hl : LH ad ls 1 [(0, pX a0)] := hl
  refine lv_iconst (v := 0) X.1 X.2.1 dX16_isSnoring_0 (by decide) ?_
  exact cg_zret X hP isB_0 hF dX16_isSnoring_1
def P_X17_kind (g : GT) (a0 : Nat) (ι : S) (Q : Int32 → S → Prop) : Prop := (Q 1 ι)
set_option maxHeartbeats 2000000 in
theorem met_X17_kind (l : Launch) (D : va_G) (dA : Nat → ClassId) (ad : Nat → Nat) (g : GT) (ι : S) (sz : Nat) {a0 : Nat} {Q : Int32 → S → Prop} (hF : P_X17_kind g a0 ι Q) : CGi l yX17_kind cX17_kind 1 .int ({ frames := 0, cells := 0, slots := 0, locals := 0 } : Room) D dA ad g ι sz [pX a0] Q := by
  unfold P_X17_kind at hF
  refine ph_enter [pX a0] (Qc := fun A => va_Qi (GQi g Q) (CB D dA ad A) A) (by decide +kernel) (Nat.le_of_ble_eq_true rfl) ?_
  intro p e s m args below meth c A ls X hP hl hnm
  have hl : LH ad ls 1 [(0, pX a0)] := hl
  refine lv_iconst (v := 1) X.1 X.2.1 dX17_kind_0 (by decide) ?_
  exact cg_iret X hP hF dX17_kind_1
def P_X19_kind (g : GT) (a0 : Nat) (ι : S) (Q : Int32 → S → Prop) : Prop := (Q 2 ι)
set_option maxHeartbeats 2000000 in
theorem met_X19_kind (l : Launch) (D : va_G) (dA : Nat → ClassId) (ad : Nat → Nat) (g : GT) (ι : S) (sz : Nat) {a0 : Nat} {Q : Int32 → S → Prop} (hF : P_X19_kind g a0 ι Q) : CGi l yX19_kind cX19_kind 1 .int ({ frames := 0, cells := 0, slots := 0, locals := 0 } : Room) D dA ad g ι sz [pX a0] Q := by
  unfold P_X19_kind at hF
  refine ph_enter [pX a0] (Qc := fun A => va_Qi (GQi g Q) (CB D dA ad A) A) (by decide +kernel) (Nat.le_of_ble_eq_true rfl) ?_
  intro p e s m args below meth c A ls X hP hl hnm
  have hl : LH ad ls 1 [(0, pX a0)] := hl
  refine lv_iconst (v := 2) X.1 X.2.1 dX19_kind_0 (by decide) ?_
  exact cg_iret X hP hF dX19_kind_1
def P_X17_isWoken (g : GT) (a0 : Nat) (ι : S) (Q : Int32 → S → Prop) : Prop := (gK g a0 = 15 ∧ (P_X16_isWoken g a0 ι (fun r1 ι2 => ((¬ r1 = 0 → (Q 0 ι2)) ∧ (r1 = 0 → (Q 1 ι2))))))
set_option maxHeartbeats 2000000 in
theorem met_X17_isWoken (l : Launch) (D : va_G) (dA : Nat → ClassId) (ad : Nat → Nat) (g : GT) (ι : S) (sz : Nat) {a0 : Nat} {Q : Int32 → S → Prop} (hF : P_X17_isWoken g a0 ι Q) : CGi l yX17_isWoken cX17_isWoken 1 .boolean ({ frames := 1, cells := 0, slots := 0, locals := 20 } : Room) D dA ad g ι sz [pX a0] Q := by
  unfold P_X17_isWoken at hF
  refine ph_enter [pX a0] (Qc := fun A => va_Qi (GQi g Q) (CB D dA ad A) A) (by decide +kernel) (Nat.le_of_ble_eq_true rfl) ?_
  intro p e s m args below meth c A ls X hP hl hnm
  have hl : LH ad ls 1 [(0, pX a0)] := hl
  refine ph_aload_n (n := 0) X hl dX17_isWoken_0 rfl rfl ?_
  obtain ⟨hm4, hF⟩ := hF
  refine cg_callZi 14 [] X hP hm4 (met_X16_isWoken l D dA ad g _ _ hF) (va_cwSU 0 X.2.2.2.2.1 (lw_SU q1013 q1009 q999 q1007 q135 q1014) rfl rfl rfl (by decide +kernel) ⟨Nat.le_of_ble_eq_true rfl, Nat.le_of_ble_eq_true rfl⟩) rfl hl (k8 := 0) (cs0 (k := 0)) (by decide) ⟨Nat.le_refl _, Nat.le_refl _⟩ dX17_isWoken_1 rfl (fun r1 ι2 H locs hF hP => ?_)
  refine lv_if_ne (tgt := 11) X.1 X.2.1 dX17_isWoken_4 (by decide) (fun c5 => ?_) (fun c5 => ?_)
  · have hF := hF.1 c5
    refine lv_iconst (v := 0) X.1 X.2.1 dX17_isWoken_11 (by decide) ?_
    exact cg_zret X hP isB_0 hF dX17_isWoken_12
  · have hF := hF.2 c5
    refine lv_iconst (v := 1) X.1 X.2.1 dX17_isWoken_7 (by decide) ?_
    refine lv_goto (tgt := 12) X.1 X.2.1 dX17_isWoken_8 (by decide) ?_
    exact cg_zret X hP isB_1 hF dX17_isWoken_12
def P_X19_isSnoring (g : GT) (a0 : Nat) (ι : S) (Q : Int32 → S → Prop) : Prop := (gK g a0 = 17 ∧ (P_X16_isSnoring g a0 ι (fun r1 ι2 => ((¬ r1 = 0 → (Q 0 ι2)) ∧ (r1 = 0 → (Q 1 ι2))))))
set_option maxHeartbeats 2000000 in
theorem met_X19_isSnoring (l : Launch) (D : va_G) (dA : Nat → ClassId) (ad : Nat → Nat) (g : GT) (ι : S) (sz : Nat) {a0 : Nat} {Q : Int32 → S → Prop} (hF : P_X19_isSnoring g a0 ι Q) : CGi l yX19_isSnoring cX19_isSnoring 1 .boolean ({ frames := 1, cells := 0, slots := 0, locals := 20 } : Room) D dA ad g ι sz [pX a0] Q := by
  unfold P_X19_isSnoring at hF
  refine ph_enter [pX a0] (Qc := fun A => va_Qi (GQi g Q) (CB D dA ad A) A) (by decide +kernel) (Nat.le_of_ble_eq_true rfl) ?_
  intro p e s m args below meth c A ls X hP hl hnm
  have hl : LH ad ls 1 [(0, pX a0)] := hl
  refine ph_aload_n (n := 0) X hl dX19_isSnoring_0 rfl rfl ?_
  obtain ⟨hm4, hF⟩ := hF
  refine cg_callZi 16 [] X hP hm4 (met_X16_isSnoring l D dA ad g _ _ hF) (va_cwSU 0 X.2.2.2.2.1 (lw_SU q1061 q1055 q1062 q1053 q135 q1063) rfl rfl rfl (by decide +kernel) ⟨Nat.le_of_ble_eq_true rfl, Nat.le_of_ble_eq_true rfl⟩) rfl hl (k8 := 0) (cs0 (k := 0)) (by decide) ⟨Nat.le_refl _, Nat.le_refl _⟩ dX19_isSnoring_1 rfl (fun r1 ι2 H locs hF hP => ?_)
  refine lv_if_ne (tgt := 11) X.1 X.2.1 dX19_isSnoring_4 (by decide) (fun c5 => ?_) (fun c5 => ?_)
  · have hF := hF.1 c5
    refine lv_iconst (v := 0) X.1 X.2.1 dX19_isSnoring_11 (by decide) ?_
    exact cg_zret X hP isB_0 hF dX19_isSnoring_12
  · have hF := hF.2 c5
    refine lv_iconst (v := 1) X.1 X.2.1 dX19_isSnoring_7 (by decide) ?_
    refine lv_goto (tgt := 12) X.1 X.2.1 dX19_isSnoring_8 (by decide) ?_
    exact cg_zret X hP isB_1 hF dX19_isSnoring_12
def P_X18_kind (g : GT) (a0 : Nat) (ι : S) (Q : Int32 → S → Prop) : Prop := (gK g a0 = 16 ∧ (P_X17_kind g a0 ι (fun r1 ι2 => (Q (r1 + 2) ι2))))
set_option maxHeartbeats 2000000 in
theorem met_X18_kind (l : Launch) (D : va_G) (dA : Nat → ClassId) (ad : Nat → Nat) (g : GT) (ι : S) (sz : Nat) {a0 : Nat} {Q : Int32 → S → Prop} (hF : P_X18_kind g a0 ι Q) : CGi l yX18_kind cX18_kind 1 .int ({ frames := 1, cells := 0, slots := 0, locals := 20 } : Room) D dA ad g ι sz [pX a0] Q := by
  unfold P_X18_kind at hF
  refine ph_enter [pX a0] (Qc := fun A => va_Qi (GQi g Q) (CB D dA ad A) A) (by decide +kernel) (Nat.le_of_ble_eq_true rfl) ?_
  intro p e s m args below meth c A ls X hP hl hnm
  have hl : LH ad ls 1 [(0, pX a0)] := hl
  refine ph_aload_n (n := 0) X hl dX18_kind_0 rfl rfl ?_
  obtain ⟨hm4, hF⟩ := hF
  refine cg_callZi 15 [] X hP hm4 (met_X17_kind l D dA ad g _ _ hF) (va_cwSU 0 X.2.2.2.2.1 (lw_SU q1595 q2395 q998 q1590 q136 q1591) rfl rfl rfl (by decide +kernel) ⟨Nat.le_of_ble_eq_true rfl, Nat.le_of_ble_eq_true rfl⟩) rfl hl (k8 := 0) (cs0 (k := 0)) (by decide) ⟨Nat.le_refl _, Nat.le_refl _⟩ dX18_kind_1 rfl (fun r1 ι2 H locs hF hP => ?_)
  refine lv_iconst (v := 2) X.1 X.2.1 dX18_kind_4 (by decide) ?_
  refine lv_iadd X.1 X.2.1 dX18_kind_5 ?_
  exact cg_iret X hP hF dX18_kind_6
def P_X18_isTurned (g : GT) (a0 : Nat) (ι : S) (Q : Int32 → S → Prop) : Prop := (gK g a0 = 16 ∧ (P_X16_isTurned g a0 ι (fun r1 ι2 => ((¬ r1 = 0 → (Q 0 ι2)) ∧ (r1 = 0 → (Q 1 ι2))))))
set_option maxHeartbeats 2000000 in
theorem met_X18_isTurned (l : Launch) (D : va_G) (dA : Nat → ClassId) (ad : Nat → Nat) (g : GT) (ι : S) (sz : Nat) {a0 : Nat} {Q : Int32 → S → Prop} (hF : P_X18_isTurned g a0 ι Q) : CGi l yX18_isTurned cX18_isTurned 1 .boolean ({ frames := 1, cells := 0, slots := 0, locals := 20 } : Room) D dA ad g ι sz [pX a0] Q := by
  unfold P_X18_isTurned at hF
  refine ph_enter [pX a0] (Qc := fun A => va_Qi (GQi g Q) (CB D dA ad A) A) (by decide +kernel) (Nat.le_of_ble_eq_true rfl) ?_
  intro p e s m args below meth c A ls X hP hl hnm
  have hl : LH ad ls 1 [(0, pX a0)] := hl
  refine ph_aload_n (n := 0) X hl dX18_isTurned_0 rfl rfl ?_
  obtain ⟨hm4, hF⟩ := hF
  refine cg_callY (nA := 0) 15 [] X hP hm4 (met_X16_isTurned l D dA ad g _ _ hF) rfl rfl ⟨Nat.le_of_ble_eq_true rfl, Nat.le_of_ble_eq_true rfl⟩ q995 q996 q998 q999 ⟨rfl, rfl⟩ q988 q135 q1000 (by decide +kernel) rfl hl (k8 := 0) (cs0 (k := 0)) (by decide) ⟨Nat.le_refl _, Nat.le_refl _⟩ dX18_isTurned_1 rfl (fun r1 ι2 H locs hF hP => ?_)
  refine lv_if_ne (tgt := 11) X.1 X.2.1 dX18_isTurned_4 (by decide) (fun c5 => ?_) (fun c5 => ?_)
  · have hF := hF.1 c5
    refine lv_iconst (v := 0) X.1 X.2.1 dX18_isTurned_11 (by decide) ?_
    exact cg_zret X hP isB_0 hF dX18_isTurned_12
  · have hF := hF.2 c5
    refine lv_iconst (v := 1) X.1 X.2.1 dX18_isTurned_7 (by decide) ?_
    refine lv_goto (tgt := 12) X.1 X.2.1 dX18_isTurned_8 (by decide) ?_
    exact cg_zret X hP isB_1 hF dX18_isTurned_12
def P_X18_isSore (g : GT) (a0 : Nat) (a1 : Int32) (a2 : Int32) (ι : S) (Q : Int32 → S → Prop) : Prop := (gK g a0 = 16 ∧ (P_X18_isTurned g a0 ι (fun r1 ι2 => ((r1 = 0 → (Q 0 ι2)) ∧ (¬ r1 = 0 → (P_X16_isSore g a0 a1 a2 ι2 (fun r5 ι6 => ((r5 = 0 → (Q 0 ι6)) ∧ (¬ r5 = 0 → (Q 1 ι6))))))))))
set_option maxHeartbeats 2000000 in
theorem met_X18_isSore (l : Launch) (D : va_G) (dA : Nat → ClassId) (ad : Nat → Nat) (g : GT) (ι : S) (sz : Nat) {a0 : Nat} {a1 : Int32} {a2 : Int32} {Q : Int32 → S → Prop} (hF : P_X18_isSore g a0 a1 a2 ι Q) : CGi l yX18_isSore cX18_isSore 3 .boolean ({ frames := 2, cells := 0, slots := 0, locals := 40 } : Room) D dA ad g ι sz [pX a0, iX a1, iX a2] Q := by
  unfold P_X18_isSore at hF
  refine ph_enter [pX a0, iX a1, iX a2] (Qc := fun A => va_Qi (GQi g Q) (CB D dA ad A) A) (by decide +kernel) (Nat.le_of_ble_eq_true rfl) ?_
  intro p e s m args below meth c A ls X hP hl hnm
  have hl : LH ad ls 3 [(0, pX a0), (1, iX a1), (2, iX a2)] := hl
  refine ph_aload_n (n := 0) X hl dX18_isSore_0 rfl rfl ?_
  obtain ⟨hm4, hF⟩ := hF
  refine cg_callVi 15 [] X hP hm4 (met_X18_isTurned l D dA ad g _ _ hF) (cwV 0 X.2.2.2.2.1 (lw_V q1106 q993 q2392 q137 q994) rfl rfl rfl (by decide +kernel) ⟨Nat.le_of_ble_eq_true rfl, Nat.le_of_ble_eq_true rfl⟩) rfl hl (k8 := 0) (cs0 (k := 0)) (by decide) ⟨Nat.le_refl _, Nat.le_refl _⟩ dX18_isSore_1 rfl (fun r1 ι2 H locs hF hP => ?_)
  refine lv_if_eq (tgt := 20) X.1 X.2.1 dX18_isSore_4 (by decide) (fun c9 => ?_) (fun c9 => ?_)
  · have hF := hF.1 c9
    refine lv_iconst (v := 0) X.1 X.2.1 dX18_isSore_20 (by decide) ?_
    exact cg_zret X hP isB_0 hF dX18_isSore_21
  · have hF := hF.2 c9
    refine ph_aload_n (n := 0) X hl dX18_isSore_7 rfl rfl ?_
    refine ph_iload_n (n := 1) X hl dX18_isSore_8 rfl rfl ?_
    refine ph_iload_n (n := 2) X hl dX18_isSore_9 rfl rfl ?_
    refine cg_callY (nA := 2) 15 [iX a1, iX a2] X hP hm4 (met_X16_isSore l D dA ad g _ _ hF) rfl rfl ⟨Nat.le_of_ble_eq_true rfl, Nat.le_of_ble_eq_true rfl⟩ q1107 q1108 q998 q999 ⟨rfl, rfl⟩ q1099 q135 q1110 (by decide +kernel) rfl hl (k8 := 0) (cs0 (k := 0)) (by decide) ⟨Nat.le_refl _, Nat.le_refl _⟩ dX18_isSore_10 rfl (fun r5 ι6 H locs hF hP => ?_)
    refine lv_if_eq (tgt := 20) X.1 X.2.1 dX18_isSore_13 (by decide) (fun c8 => ?_) (fun c8 => ?_)
    · have hF := hF.1 c8
      refine lv_iconst (v := 0) X.1 X.2.1 dX18_isSore_20 (by decide) ?_
      exact cg_zret X hP isB_0 hF dX18_isSore_21
    · have hF := hF.2 c8
      refine lv_iconst (v := 1) X.1 X.2.1 dX18_isSore_16 (by decide) ?_
      refine lv_goto (tgt := 21) X.1 X.2.1 dX18_isSore_17 (by decide) ?_
      exact cg_zret X hP isB_1 hF dX18_isSore_21
def P_X17_isWokenD (g : GT) (a0 : Nat) (ι : S) (Q : Int32 → S → Prop) : Prop := (gK g a0 = 16 ∧ (P_X16_isWoken g a0 ι (fun r1 ι2 => ((¬ r1 = 0 → (Q 0 ι2)) ∧ (r1 = 0 → (Q 1 ι2))))))
set_option maxHeartbeats 2000000 in
theorem met_X17_isWokenD (l : Launch) (D : va_G) (dA : Nat → ClassId) (ad : Nat → Nat) (g : GT) (ι : S) (sz : Nat) {a0 : Nat} {Q : Int32 → S → Prop} (hF : P_X17_isWokenD g a0 ι Q) : CGi l yX17_isWoken cX17_isWoken 1 .boolean ({ frames := 1, cells := 0, slots := 0, locals := 20 } : Room) D dA ad g ι sz [pX a0] Q := by
  unfold P_X17_isWokenD at hF
  refine ph_enter [pX a0] (Qc := fun A => va_Qi (GQi g Q) (CB D dA ad A) A) (by decide +kernel) (Nat.le_of_ble_eq_true rfl) ?_
  intro p e s m args below meth c A ls X hP hl hnm
  have hl : LH ad ls 1 [(0, pX a0)] := hl
  refine ph_aload_n (n := 0) X hl dX17_isWoken_0 rfl rfl ?_
  obtain ⟨hm4, hF⟩ := hF
  refine cg_callZi 15 [] X hP hm4 (met_X16_isWoken l D dA ad g _ _ hF) (va_cwSU 0 X.2.2.2.2.1 (lw_SU q1013 q1009 q999 q1007 q135 q1014) rfl rfl rfl (by decide +kernel) ⟨Nat.le_of_ble_eq_true rfl, Nat.le_of_ble_eq_true rfl⟩) rfl hl (k8 := 0) (cs0 (k := 0)) (by decide) ⟨Nat.le_refl _, Nat.le_refl _⟩ dX17_isWoken_1 rfl (fun r1 ι2 H locs hF hP => ?_)
  refine lv_if_ne (tgt := 11) X.1 X.2.1 dX17_isWoken_4 (by decide) (fun c5 => ?_) (fun c5 => ?_)
  · have hF := hF.1 c5
    refine lv_iconst (v := 0) X.1 X.2.1 dX17_isWoken_11 (by decide) ?_
    exact cg_zret X hP isB_0 hF dX17_isWoken_12
  · have hF := hF.2 c5
    refine lv_iconst (v := 1) X.1 X.2.1 dX17_isWoken_7 (by decide) ?_
    refine lv_goto (tgt := 12) X.1 X.2.1 dX17_isWoken_8 (by decide) ?_
    exact cg_zret X hP isB_1 hF dX17_isWoken_12
end CGA
