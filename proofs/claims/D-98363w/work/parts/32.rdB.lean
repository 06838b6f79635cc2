set_option maxRecDepth 100000
section HGA
variable {p : Program} {l : Launch} {e : Env} {s : State} {m : MethodId} {args : Array Value} {below : List Frame} {meth : Method} {c : Code} {D : va_G} {dA : Nat → ClassId} {ad0 : Nat → Nat} {A : Nat → Prop} {g0 : GT}
def P_X4_values (BC BS : Nat)  (g : GT) (ι : S) (Q : Nat → GT → S → Prop) : Prop := ((1 ≤ BC ∧ 7 ≤ BS) ∧ (∀ g2 ι3, g2 = newgr g 112 7 (fun k => if k < 7 then 105 + k else 0) → ι3 = newi g ι → (Q (200 + gN g) g2 ι3)))
set_option maxHeartbeats 2000000 in
theorem we_X4_values (hnm : meth.name = "values") {BC BS : Nat} {Q : Nat → GT → S → Prop} : ∀  (g : GT) (ι : S) (ad : Nat → Nat) (H : Heap) (locs : List Loc) (ls : Array Slot), P_X4_values BC BS  g ι Q → CX p s m args c meth cX4_values 0 (some (.array (.object "SpoonRow$Value"))) RX4 D dA ad A → PW D dA A s.heap ad (HS g ι) H locs → HA ad0 g0 ad g → LH ad ls 0 [] → WHq p l e ({ frames := 1, cells := BC, slots := BS, locals := 30 } : Room) s m args below meth c D dA ad0 g0 A Q BC BS H locs (0) (0) (F0 m 0 ls []) := by
  intro  g ι ad H locs ls hF X hP hag hl
  unfold P_X4_values at hF
  refine cg_getsA X hP q503 dX4_values_0 ?_
  obtain ⟨hd1, hF⟩ := hF
  refine hg_cloneV [] X hP hag hl ltln ltsn q505 q506 q279 q280 q507 q508 (k8 := 0) (cs0 (k := 0)) (by decide) ⟨Nat.le_of_ble_eq_true rfl, Nat.le_of_ble_eq_true rfl⟩ hd1 dX4_values_3 rfl hF (fun H ad g2 ι3 X hP hag he4 hk5 hl hF => ?_)
  show WHq p l e ({ frames := 1, cells := BC, slots := BS, locals := 30 } : Room) s m args below meth c D dA ad0 g0 A Q BC BS H locs (1) (7) (F0 m 6 ls [rv ad (200 + gN g)])
  refine cg_castA112 X hP hk5.1 q510 dX4_values_6 ?_
  exact hg_aret X hP hag (Or.inr ⟨_, rfl⟩) (ltw he4) hF hd1.1 hd1.2 dX4_values_9
set_option maxHeartbeats 2000000 in
theorem met_X4_values (l : Launch) (D : va_G) (dA : Nat → ClassId) (ad : Nat → Nat) (BC BS : Nat) (g : GT) (ι : S) (sz : Nat) {Q : Nat → GT → S → Prop} (hF : P_X4_values BC BS  g ι Q) : CHq l yX4_values cX4_values 0 (.array (.object "SpoonRow$Value")) ({ frames := 1, cells := BC, slots := BS, locals := 30 } : Room) D dA ad g ι sz [] Q BC BS := by
  refine ph_enter [] (Qc := fun A => HPq D dA ad g A Q) (by decide +kernel) (Nat.le_of_ble_eq_true rfl) ?_
  intro p e s m args below meth c A ls X hP hl hnm
  have hnm : meth.name = "values" := hnm
  exact we_X4_values hnm _ _ _ _ _ _ hF X hP HA.rf hl
def P_X3_init (BC BS : Nat) (a0 : Nat) (g : GT) (ι : S) (Q : GT → S → Prop) : Prop := (gK g a0 = 4 ∧ (a0 < 200 + gN g ∧ ((1 ≤ BC ∧ 7 ≤ BS) ∧ (P_X4_values 1 7 g ι (fun r7 g4 ι5 => (gK g4 r7 = 112 ∧ (¬ (nI (gL g4 r7)) < 0 ∧ ((nI (gL g4 r7)).toNatClampNeg ≤ 100000000 ∧ ((2 ≤ BC ∧ 7 + (nI (gL g4 r7)).toNatClampNeg ≤ BS) ∧ (∀ g13 ι14, g13 = newg g4 100 ((nI (gL g4 r7)).toNatClampNeg) → ι14 = newi g4 ι5 → (gK g13 a0 = 4 ∧ (∀ g18, g18 = setg g13 a0 0 (200 + gN g4) → (Q g18 ι14)))))))))))))
set_option maxHeartbeats 2000000 in
theorem we_X3_init (hnm : meth.name = "<init>") {BC BS : Nat} {Q : GT → S → Prop} : ∀ (a0 : Nat) (g : GT) (ι : S) (ad : Nat → Nat) (H : Heap) (locs : List Loc) (ls : Array Slot), P_X3_init BC BS a0 g ι Q → CX p s m args c meth cX3_init 1 none RX3 D dA ad A → PW D dA A s.heap ad (HS g ι) H locs → HA ad0 g0 ad g → LH ad ls 1 [(0, pX a0)] → WHv p l e ({ frames := 2, cells := BC, slots := BS, locals := 49 } : Room) s m args below meth c D dA ad0 g0 A Q BC BS H locs (0) (0) (F0 m 0 ls []) := by
  intro a0 g ι ad H locs ls hF X hP hag hl
  unfold P_X3_init at hF
  refine ph_aload_n (n := 0) X hl dX3_init_0 rfl rfl ?_
  obtain ⟨hm1, hF⟩ := hF
  refine hg_obj X hl (cg_nz hP hm1 (by decide)) q499 q146 (k8 := 0) (cs0 (k := 0)) (by decide) ⟨Nat.le_of_ble_eq_true rfl, Nat.le_of_ble_eq_true rfl⟩ dX3_init_1 ?_
  refine ph_aload_n (n := 0) X hl dX3_init_4 rfl rfl ?_
  obtain ⟨hx2, hF⟩ := hF
  obtain ⟨hd3, hF⟩ := hF
  have hl : LH ad ls 1 [] := lh_sub hl [] rfl
  refine hg_callSq [] [pX a0] X hP (met_X4_values l D dA ad _ _ _ _ _ hF) (va_cwS 0 X.2.2.2.2.1 (lw_S q500 q501 q121 q502) rfl rfl rfl (by decide +kernel) ⟨Nat.le_of_ble_eq_true rfl, Nat.le_of_ble_eq_true rfl⟩) rfl hag hl ltln (ltsp hx2 ltsn) (k8 := 1) (csr (cs0 (k := 0))) (by decide) hd3 dX3_init_5 rfl (fun r7 ad g4 ι5 H locs hF hv8 X hP hag he6 hl => ?_)
  show WHv p l e ({ frames := 2, cells := BC, slots := BS, locals := 49 } : Room) s m args below meth c D dA ad0 g0 A Q BC BS H locs (1) (7) (F0 m 8 ls [rv ad r7, rv ad a0])
  obtain ⟨hm9, hF⟩ := hF
  refine cg_alenV X hP hm9 dX3_init_8 ?_
  obtain ⟨hn10, hF⟩ := hF
  obtain ⟨hn11, hF⟩ := hF
  obtain ⟨hd12, hF⟩ := hF
  refine hg_newaI [pX a0] X hP hag hl ltln (ltsp (ltm hx2 he6) ltsn) q516 hn10 rfl hn11 hd12 dX3_init_9 rfl hF (fun H ad g13 ι14 X hP hag he15 hk16 hl hF => ?_)
  show WHv p l e ({ frames := 2, cells := BC, slots := BS, locals := 49 } : Room) s m args below meth c D dA ad0 g0 A Q BC BS H locs (2) (7 + (nI (gL g4 r7)).toNatClampNeg) (F0 m 11 ls [rv ad (200 + gN g4), rv ad a0])
  obtain ⟨hm17, hF⟩ := hF
  refine hg_putrF 3 0 X in_X3 tyX3 tyX3_ok nmX3 hP hm17 q511 hnm dX3_init_11 (ltw he15) hF (fun H locs g18 hP he19 hF => ?_) (Or.inr ⟨_, rfl⟩)
  have hag : HA ad0 g0 ad g18 := ⟨by rw [he19.1]; exact hag.1, hag.2⟩
  exact hg_vret X hP hag hF hd12.1 hd12.2 dX3_init_14
set_option maxHeartbeats 2000000 in
theorem met_X3_init (l : Launch) (D : va_G) (dA : Nat → ClassId) (ad : Nat → Nat) (BC BS : Nat) (g : GT) (ι : S) (sz : Nat) {a0 : Nat} {Q : GT → S → Prop} (hF : P_X3_init BC BS a0 g ι Q) : CHv l yX3_init cX3_init 1 ({ frames := 2, cells := BC, slots := BS, locals := 49 } : Room) D dA ad g ι sz [pX a0] Q BC BS := by
  refine ph_enter [pX a0] (Qc := fun A => HPv D dA ad g A Q) (by decide +kernel) (Nat.le_of_ble_eq_true rfl) ?_
  intro p e s m args below meth c A ls X hP hl hnm
  have hnm : meth.name = "<init>" := hnm
  exact we_X3_init hnm _ _ _ _ _ _ _ hF X hP HA.rf hl
def P_X2_init (BC BS : Nat) (a0 : Nat) (g : GT) (ι : S) (Q : GT → S → Prop) : Prop := (gK g a0 = 3 ∧ (∀ ι2, ι2 = up2 ι a0 0 20 → (∀ ι3, ι3 = up2 ι2 a0 1 3 → (∀ ι4, ι4 = up2 ι3 a0 2 480 → (∀ ι5, ι5 = up2 ι4 a0 3 15 → (a0 < 200 + gN g ∧ ((1 ≤ BC ∧ 3 ≤ BS) ∧ (∀ g8 ι9, g8 = newg g 18 0 → ι9 = newi g ι5 → (∃ b12 d13, ((1 + b12 ≤ BC ∧ 3 + d13 ≤ BS) ∧ (P_J2_init b12 d13 (200 + gN g) 1 g8 ι9 (fun g15 ι16 => (gK g15 a0 = 3 ∧ (∀ g21, g21 = setg g15 a0 6 (200 + gN g) → ((1 + b12 + 1 ≤ BC ∧ 3 + d13 + 7 ≤ BS) ∧ (∀ g24 ι25, g24 = newg g21 100 7 → ι25 = newi g21 ι16 → (∀ g28, g28 = setg g24 a0 7 (200 + gN g21) → ((1 + b12 + 2 ≤ BC ∧ 3 + d13 + 8 ≤ BS) ∧ (∀ g31 ι32, g31 = newg g28 4 0 → ι32 = newi g28 ι25 → ((1 + b12 + 4 ≤ BC ∧ 3 + d13 + 22 ≤ BS) ∧ (P_X3_init 2 14 (200 + gN g28) g31 ι32 (fun g37 ι38 => (gK g37 a0 = 3 ∧ (∀ g43, g43 = setg g37 a0 9 (200 + gN g28) → (Q g43 ι38)))))))))))))))))))))))))
set_option maxHeartbeats 2000000 in
theorem we_X2_init (hnm : meth.name = "<init>") {BC BS : Nat} {Q : GT → S → Prop} : ∀ (a0 : Nat) (g : GT) (ι : S) (ad : Nat → Nat) (H : Heap) (locs : List Loc) (ls : Array Slot), P_X2_init BC BS a0 g ι Q → CX p s m args c meth cX2_init 1 none RX2 D dA ad A → PW D dA A s.heap ad (HS g ι) H locs → HA ad0 g0 ad g → LH ad ls 1 [(0, pX a0)] → WHv p l e ({ frames := 4, cells := BC, slots := BS, locals := 81 } : Room) s m args below meth c D dA ad0 g0 A Q BC BS H locs (0) (0) (F0 m 0 ls []) := by
  intro a0 g ι ad H locs ls hF X hP hag hl
  unfold P_X2_init at hF
  refine ph_aload_n (n := 0) X hl dX2_init_0 rfl rfl ?_
  obtain ⟨hm1, hF⟩ := hF
  refine hg_obj X hl (cg_nz hP hm1 (by decide)) q153 q146 (k8 := 0) (cs0 (k := 0)) (by decide) ⟨Nat.le_of_ble_eq_true rfl, Nat.le_of_ble_eq_true rfl⟩ dX2_init_1 ?_
  refine ph_aload_n (n := 0) X hl dX2_init_4 rfl rfl ?_
  refine lv_bipush (v := 20) X.1 X.2.1 dX2_init_5 (by decide) ?_
  refine hg_puti 2 0 X in_X2 tyX2 tyX2_ok nmX2 hP hm1 q517 dX2_init_7 rfl rfl hF (fun H locs ι2 hP hF => ?_)
  refine ph_aload_n (n := 0) X hl dX2_init_10 rfl rfl ?_
  refine lv_iconst (v := 3) X.1 X.2.1 dX2_init_11 (by decide) ?_
  refine hg_puti 2 1 X in_X2 tyX2 tyX2_ok nmX2 hP hm1 q520 dX2_init_12 rfl rfl hF (fun H locs ι3 hP hF => ?_)
  refine ph_aload_n (n := 0) X hl dX2_init_15 rfl rfl ?_
  refine lv_sipush (v := 480) X.1 X.2.1 dX2_init_16 (by decide) ?_
  refine hg_puti 2 2 X in_X2 tyX2 tyX2_ok nmX2 hP hm1 q523 dX2_init_19 rfl rfl hF (fun H locs ι4 hP hF => ?_)
  refine ph_aload_n (n := 0) X hl dX2_init_22 rfl rfl ?_
  refine lv_bipush (v := 15) X.1 X.2.1 dX2_init_23 (by decide) ?_
  refine hg_puti 2 3 X in_X2 tyX2 tyX2_ok nmX2 hP hm1 q527 dX2_init_25 rfl rfl hF (fun H locs ι5 hP hF => ?_)
  refine ph_aload_n (n := 0) X hl dX2_init_28 rfl rfl ?_
  obtain ⟨hx6, hF⟩ := hF
  obtain ⟨hd7, hF⟩ := hF
  refine hg_new 17 [pX a0] X hP hag hl (ltlp hx6 ltln) (ltsp hx6 ltsn) in_J2 tyJ2 tyJ2_ok (by decide +kernel) q154 q155 q102 hd7 dX2_init_29 rfl hF (fun H ad g8 ι9 X hP hag he10 hk11 hl hF => ?_)
  show WHv p l e ({ frames := 4, cells := BC, slots := BS, locals := 81 } : Room) s m args below meth c D dA ad0 g0 A Q BC BS H locs (1) (3) (F0 m 32 ls [rv ad (200 + gN g), rv ad a0])
  refine ph_dup_r X dX2_init_32 ?_
  refine lv_iconst (v := 1) X.1 X.2.1 dX2_init_33 (by decide) ?_
  obtain ⟨b12, d13, hF⟩ := hF
  obtain ⟨hd14, hF⟩ := hF
  refine hg_callI [iX 1] [pX (200 + gN g), pX a0] X hP (cg_nz hP hk11.1 (by decide)) (met_J2_init l D dA ad _ _ _ _ _ hF) (cwI 1 X.2.2.2.2.1 (lw_meth q158) rfl rfl rfl (X.2.2.2.2.1 _ q102) (X.2.2.2.2.1 _ q156) (X.2.2.2.2.1 _ q157) rfl (by decide +kernel) ⟨Nat.le_of_ble_eq_true rfl, Nat.le_of_ble_eq_true rfl⟩) rfl hag hl (ltlp (ltm hx6 (Nat.le_of_succ_le he10)) ltln) (ltsp (ltw he10) (ltsp (ltm hx6 (Nat.le_of_succ_le he10)) ltsn)) (k8 := 2) (csr (csr (cs0 (k := 0)))) (by decide) hd14 dX2_init_34 rfl (fun ad g15 ι16 H locs hF X hP hag he17 hl => ?_)
  show WHv p l e ({ frames := 4, cells := BC, slots := BS, locals := 81 } : Room) s m args below meth c D dA ad0 g0 A Q BC BS H locs (1 + b12) (3 + d13) (F0 m 37 ls [rv ad (200 + gN g), rv ad a0])
  obtain ⟨hm20, hF⟩ := hF
  refine hg_putrF 2 6 X in_X2 tyX2 tyX2_ok nmX2 hP hm20 q535 hnm dX2_init_37 (ltm (ltw he10) he17) hF (fun H locs g21 hP he22 hF => ?_) (Or.inl ⟨_, rfl⟩)
  have hag : HA ad0 g0 ad g21 := ⟨by rw [he22.1]; exact hag.1, hag.2⟩
  refine ph_aload_n (n := 0) X hl dX2_init_40 rfl rfl ?_
  refine lv_bipush (v := 7) X.1 X.2.1 dX2_init_41 (by decide) ?_
  obtain ⟨hd23, hF⟩ := hF
  refine hg_newaI [pX a0] X hP hag hl (ltlp (ltm (ltm (ltm hx6 (Nat.le_of_succ_le he10)) he17) (Nat.le_of_eq he22.1.symm)) ltln) (ltsp (ltm (ltm (ltm hx6 (Nat.le_of_succ_le he10)) he17) (Nat.le_of_eq he22.1.symm)) ltsn) q516 (by decide) (by decide) (Nat.le_of_ble_eq_true rfl) hd23 dX2_init_43 rfl hF (fun H ad g24 ι25 X hP hag he26 hk27 hl hF => ?_)
  show WHv p l e ({ frames := 4, cells := BC, slots := BS, locals := 81 } : Room) s m args below meth c D dA ad0 g0 A Q BC BS H locs (1 + b12 + 1) (3 + d13 + 7) (F0 m 45 ls [rv ad (200 + gN g21), rv ad a0])
  refine hg_putrF 2 7 X in_X2 tyX2 tyX2_ok nmX2 hP (by rw [hk27.2 _ (ltm (ltm (ltm hx6 (Nat.le_of_succ_le he10)) he17) (Nat.le_of_eq he22.1.symm))]; exact (by rw [he22.2.1]; exact hm20)) q540 hnm dX2_init_45 (ltw he26) hF (fun H locs g28 hP he29 hF => ?_) (Or.inr ⟨_, rfl⟩)
  have hag : HA ad0 g0 ad g28 := ⟨by rw [he29.1]; exact hag.1, hag.2⟩
  refine ph_aload_n (n := 0) X hl dX2_init_48 rfl rfl ?_
  obtain ⟨hd30, hF⟩ := hF
  have hl : LH ad ls 1 [] := lh_sub hl [] rfl
  refine hg_new 3 [pX a0] X hP hag hl ltln (ltsp (ltm (ltm (ltm (ltm (ltm hx6 (Nat.le_of_succ_le he10)) he17) (Nat.le_of_eq he22.1.symm)) (Nat.le_of_succ_le he26)) (Nat.le_of_eq he29.1.symm)) ltsn) in_X3 tyX3 tyX3_ok (by decide +kernel) q494 q495 q119 hd30 dX2_init_49 rfl hF (fun H ad g31 ι32 X hP hag he33 hk34 hl hF => ?_)
  show WHv p l e ({ frames := 4, cells := BC, slots := BS, locals := 81 } : Room) s m args below meth c D dA ad0 g0 A Q BC BS H locs (1 + b12 + 2) (3 + d13 + 8) (F0 m 52 ls [rv ad (200 + gN g28), rv ad a0])
  refine ph_dup_r X dX2_init_52 ?_
  have hx35 : a0 < 200 + gN g31 := (ltm (ltm (ltm (ltm (ltm (ltm hx6 (Nat.le_of_succ_le he10)) he17) (Nat.le_of_eq he22.1.symm)) (Nat.le_of_succ_le he26)) (Nat.le_of_eq he29.1.symm)) (Nat.le_of_succ_le he33))
  obtain ⟨hd36, hF⟩ := hF
  refine hg_callN [] [pX (200 + gN g28), pX a0] X hP (cg_nz hP hk34.1 (by decide)) (met_X3_init l D dA ad _ _ _ _ _ hF) (⟨va_cnB 0 X.2.2.2.2.1 (lw_meth q498) rfl rfl rfl (X.2.2.2.2.2.2.1.2.1 _ q496 rfl) (X.2.2.2.2.1 _ q119) (by decide +kernel) ⟨Nat.le_of_ble_eq_true rfl, Nat.le_of_ble_eq_true rfl⟩, rfl, X.2.2.2.2.1 _ q497⟩) rfl hag hl ltln (ltsp (ltw he33) (ltsp hx35 ltsn)) (k8 := 2) (csr (csr (cs0 (k := 0)))) (by decide) hd36 dX2_init_53 rfl (fun ad g37 ι38 H locs hF X hP hag he39 hl => ?_)
  show WHv p l e ({ frames := 4, cells := BC, slots := BS, locals := 81 } : Room) s m args below meth c D dA ad0 g0 A Q BC BS H locs (1 + b12 + 4) (3 + d13 + 22) (F0 m 56 ls [rv ad (200 + gN g28), rv ad a0])
  obtain ⟨hm42, hF⟩ := hF
  refine hg_putrF 2 9 X in_X2 tyX2 tyX2_ok nmX2 hP hm42 q545 hnm dX2_init_56 (ltm (ltw he33) he39) hF (fun H locs g43 hP he44 hF => ?_) (Or.inl ⟨_, rfl⟩)
  have hag : HA ad0 g0 ad g43 := ⟨by rw [he44.1]; exact hag.1, hag.2⟩
  exact hg_vret X hP hag hF hd36.1 hd36.2 dX2_init_59
set_option maxHeartbeats 2000000 in
theorem met_X2_init (l : Launch) (D : va_G) (dA : Nat → ClassId) (ad : Nat → Nat) (BC BS : Nat) (g : GT) (ι : S) (sz : Nat) {a0 : Nat} {Q : GT → S → Prop} (hF : P_X2_init BC BS a0 g ι Q) : CHv l yX2_init cX2_init 1 ({ frames := 4, cells := BC, slots := BS, locals := 81 } : Room) D dA ad g ι sz [pX a0] Q BC BS := by
  refine ph_enter [pX a0] (Qc := fun A => HPv D dA ad g A Q) (by decide +kernel) (Nat.le_of_ble_eq_true rfl) ?_
  intro p e s m args below meth c A ls X hP hl hnm
  have hnm : meth.name = "<init>" := hnm
  exact we_X2_init hnm _ _ _ _ _ _ _ hF X hP HA.rf hl
def P_X5_init_61 (BC BS : Nat) (Q : GT → S → Prop) : Nat → Nat → Int32 → GT → S → Nat → Nat → Prop
  | 0, _, _, _, _, _, _ => False
  | n + 1, x0, x1, g, ι, uc, us => ((40 ≤ x1 → ((uc ≤ BC ∧ us ≤ BS) ∧ (Q g ι))) ∧ (¬ 40 ≤ x1 → (gK g x0 = 5 ∧ (x0 < 200 + gN g ∧ ((uc + 1 ≤ BC ∧ us + 8 ≤ BS) ∧ (∀ g6 ι7, g6 = newg g 6 0 → ι7 = newi g ι → ((uc + 3 ≤ BC ∧ us + 22 ≤ BS) ∧ (P_X6_init 2 14 (200 + gN g) g6 ι7 (fun g11 ι12 => (∃ b16 d17, ((uc + 3 + b16 ≤ BC ∧ us + 22 + d17 ≤ BS) ∧ (gK g11 (gR g x0 1) = 18 ∧ (P_J2_add b16 d17 (gR g x0 1) (200 + gN g) g11 ι12 (fun r22 g19 ι20 => (P_X5_init_61 BC BS Q  n x0 (x1 + 1) g19 ι20 (uc + 3 + b16) (us + 22 + d17))))))))))))))))
def P_X5_init (BC BS : Nat) (a0 : Nat) (g : GT) (ι : S) (Q : GT → S → Prop) : Prop := (gK g a0 = 5 ∧ (a0 < 200 + gN g ∧ ((1 ≤ BC ∧ 8 ≤ BS) ∧ (∀ g29 ι30, g29 = newg g 6 0 → ι30 = newi g ι → ((3 ≤ BC ∧ 22 ≤ BS) ∧ (P_X6_init 2 14 (200 + gN g) g29 ι30 (fun g34 ι35 => (gK g34 a0 = 5 ∧ (∀ g40, g40 = setg g34 a0 0 (200 + gN g) → ((4 ≤ BC ∧ 25 ≤ BS) ∧ (∀ g43 ι44, g43 = newg g40 18 0 → ι44 = newi g40 ι35 → (∃ b47 d48, ((4 + b47 ≤ BC ∧ 25 + d48 ≤ BS) ∧ (P_J2_init b47 d48 (200 + gN g40) 40 g43 ι44 (fun g50 ι51 => (gK g50 a0 = 5 ∧ (∀ g56, g56 = setg g50 a0 1 (200 + gN g40) → ((4 + b47 + 1 ≤ BC ∧ 25 + d48 + 8 ≤ BS) ∧ (∀ g60 ι61, g60 = newg g56 100 8 → ι61 = newi g56 ι51 → (∀ g64, g64 = setg g60 a0 2 (200 + gN g56) → ((4 + b47 + 2 ≤ BC ∧ 25 + d48 + 16 ≤ BS) ∧ (∀ g67 ι68, g67 = newg g64 100 8 → ι68 = newi g64 ι61 → (∀ g72, g72 = setg g67 a0 3 (200 + gN g64) → ((4 + b47 + 3 ≤ BC ∧ 25 + d48 + 24 ≤ BS) ∧ (∀ g75 ι76, g75 = newg g72 100 8 → ι76 = newi g72 ι68 → (∀ g80, g80 = setg g75 a0 4 (200 + gN g72) → ((4 + b47 + 4 ≤ BC ∧ 25 + d48 + 27 ≤ BS) ∧ (∀ g84 ι85, g84 = newg g80 100 3 → ι85 = newi g80 ι76 → (∀ g88, g88 = setg g84 a0 5 (200 + gN g80) → (∃ n9, P_X5_init_61 BC BS Q n9 a0 0 g88 ι85 (4 + b47 + 4) (25 + d48 + 27)))))))))))))))))))))))))))))))
set_option maxHeartbeats 2000000 in
theorem w_X5_init_61 (hnm : meth.name = "<init>") {BC BS : Nat} {Q : GT → S → Prop} : ∀ (n : Nat) (x0 : Nat) (x1 : Int32) (g : GT) (ι : S) (uc us : Nat) (ad : Nat → Nat) (H : Heap) (locs : List Loc) (ls : Array Slot), P_X5_init_61 BC BS Q n x0 x1 g ι uc us → CX p s m args c meth cX5_init 2 none RX5 D dA ad A → PW D dA A s.heap ad (HS g ι) H locs → HA ad0 g0 ad g → LH ad ls 2 [(0, pX x0), (1, iX x1)] → WHv p l e ({ frames := 7, cells := BC, slots := BS, locals := 191 } : Room) s m args below meth c D dA ad0 g0 A Q BC BS H locs (uc) (us) (F0 m 61 ls []) := by
  intro n
  induction n with
  | zero =>
    intro x0 x1 g ι uc us ad H locs ls hF
    exact hF.elim
  | succ n ih =>
    intro x0 x1 g ι uc us ad H locs ls hF X hP hag hl
    rw [P_X5_init_61] at hF
    refine ph_iload_n (n := 1) X hl dX5_init_61 rfl rfl ?_
    refine lv_bipush (v := 40) X.1 X.2.1 dX5_init_62 (by decide) ?_
    refine lv_icmp_ge (tgt := 88) X.1 X.2.1 dX5_init_64 (by decide) (fun c25 => ?_) (fun c25 => ?_)
    · have hF := hF.1 c25
      obtain ⟨hd1, hF⟩ := hF
      exact hg_vret X hP hag hF hd1.1 hd1.2 dX5_init_88
    · have hF := hF.2 c25
      refine ph_aload_n (n := 0) X hl dX5_init_67 rfl rfl ?_
      obtain ⟨hm2, hF⟩ := hF
      have hv3 := gR_lt hP x0 1
      refine cg_getr 4 1 X in_X5 hP hm2 q678 dX5_init_68 ?_
      obtain ⟨hx4, hF⟩ := hF
      obtain ⟨hd5, hF⟩ := hF
      refine hg_new 5 [pX (gR g x0 1)] X hP hag hl (ltlp hx4 (ltli ltln)) (ltsp hv3 ltsn) in_X6 tyX6 tyX6_ok (by decide +kernel) q574 q575 q123 hd5 dX5_init_71 rfl hF (fun H ad g6 ι7 X hP hag he8 hk9 hl hF => ?_)
      show WHv p l e ({ frames := 7, cells := BC, slots := BS, locals := 191 } : Room) s m args below meth c D dA ad0 g0 A Q BC BS H locs (uc + 1) (us + 8) (F0 m 74 ls [rv ad (200 + gN g), rv ad (gR g x0 1)])
      refine ph_dup_r X dX5_init_74 ?_
      obtain ⟨hd10, hF⟩ := hF
      refine hg_callN [] [pX (200 + gN g), pX (gR g x0 1)] X hP (cg_nz hP hk9.1 (by decide)) (met_X6_init l D dA ad _ _ _ _ _ hF) (⟨va_cnB 0 X.2.2.2.2.1 (lw_meth q578) rfl rfl rfl (X.2.2.2.2.2.2.1.2.1 _ q576 rfl) (X.2.2.2.2.1 _ q123) (by decide +kernel) ⟨Nat.le_of_ble_eq_true rfl, Nat.le_of_ble_eq_true rfl⟩, rfl, X.2.2.2.2.1 _ q577⟩) rfl hag hl (ltlp (ltm hx4 (Nat.le_of_succ_le he8)) (ltli ltln)) (ltsp (ltw he8) (ltsp (ltm hv3 (Nat.le_of_succ_le he8)) ltsn)) (k8 := 2) (csr (csr (cs0 (k := 0)))) (by decide) hd10 dX5_init_75 rfl (fun ad g11 ι12 H locs hF X hP hag he13 hl => ?_)
      show WHv p l e ({ frames := 7, cells := BC, slots := BS, locals := 191 } : Room) s m args below meth c D dA ad0 g0 A Q BC BS H locs (uc + 3) (us + 22) (F0 m 78 ls [rv ad (200 + gN g), rv ad (gR g x0 1)])
      obtain ⟨b16, d17, hF⟩ := hF
      obtain ⟨hd18, hF⟩ := hF
      obtain ⟨hm24, hF⟩ := hF
      refine hg_callVi 17 [pX (200 + gN g)] [] X hP hm24 (met_J2_add l D dA ad _ _ _ _ _ hF) (cwV 1 X.2.2.2.2.1 (lw_V q620 q621 q622 q102 q623) rfl rfl rfl (by decide +kernel) ⟨Nat.le_of_ble_eq_true rfl, Nat.le_of_ble_eq_true rfl⟩) rfl hag hl (ltlp (ltm (ltm hx4 (Nat.le_of_succ_le he8)) he13) (ltli ltln)) ltsn (k8 := 0) (cs0 (k := 0)) (by decide) hd18 dX5_init_78 rfl (fun r22 ad g19 ι20 H locs hF X hP hag he21 hl => ?_)
      show WHv p l e ({ frames := 7, cells := BC, slots := BS, locals := 191 } : Room) s m args below meth c D dA ad0 g0 A Q BC BS H locs (uc + 3 + b16) (us + 22 + d17) (F0 m 81 ls [.int r22])
      refine lv_pop X.1 X.2.1 dX5_init_81 rfl ?_
      refine ph_iinc (v := x1 + 1) (k := 1) X hl dX5_init_82 rfl rfl (by decide) rfl (fun ls hl => ?_)
      refine lv_goto (tgt := 61) X.1 X.2.1 dX5_init_85 (by decide) ?_
      exact ih _ _ _ _ _ _ _ _ _ _ hF X hP hag (lh_sub hl [1, 0] rfl)
set_option maxHeartbeats 2000000 in
theorem we_X5_init (hnm : meth.name = "<init>") {BC BS : Nat} {Q : GT → S → Prop} : ∀ (a0 : Nat) (g : GT) (ι : S) (ad : Nat → Nat) (H : Heap) (locs : List Loc) (ls : Array Slot), P_X5_init BC BS a0 g ι Q → CX p s m args c meth cX5_init 2 none RX5 D dA ad A → PW D dA A s.heap ad (HS g ι) H locs → HA ad0 g0 ad g → LH ad ls 2 [(0, pX a0)] → WHv p l e ({ frames := 7, cells := BC, slots := BS, locals := 191 } : Room) s m args below meth c D dA ad0 g0 A Q BC BS H locs (0) (0) (F0 m 0 ls []) := by
  intro a0 g ι ad H locs ls hF X hP hag hl
  unfold P_X5_init at hF
  refine ph_aload_n (n := 0) X hl dX5_init_0 rfl rfl ?_
  obtain ⟨hm26, hF⟩ := hF
  refine hg_obj X hl (cg_nz hP hm26 (by decide)) q573 q146 (k8 := 0) (cs0 (k := 0)) (by decide) ⟨Nat.le_of_ble_eq_true rfl, Nat.le_of_ble_eq_true rfl⟩ dX5_init_1 ?_
  refine ph_aload_n (n := 0) X hl dX5_init_4 rfl rfl ?_
  obtain ⟨hx27, hF⟩ := hF
  obtain ⟨hd28, hF⟩ := hF
  refine hg_new 5 [pX a0] X hP hag hl (ltlp hx27 ltln) (ltsp hx27 ltsn) in_X6 tyX6 tyX6_ok (by decide +kernel) q574 q575 q123 hd28 dX5_init_5 rfl hF (fun H ad g29 ι30 X hP hag he31 hk32 hl hF => ?_)
  show WHv p l e ({ frames := 7, cells := BC, slots := BS, locals := 191 } : Room) s m args below meth c D dA ad0 g0 A Q BC BS H locs (1) (8) (F0 m 8 ls [rv ad (200 + gN g), rv ad a0])
  refine ph_dup_r X dX5_init_8 ?_
  obtain ⟨hd33, hF⟩ := hF
  refine hg_callN [] [pX (200 + gN g), pX a0] X hP (cg_nz hP hk32.1 (by decide)) (met_X6_init l D dA ad _ _ _ _ _ hF) (⟨va_cnB 0 X.2.2.2.2.1 (lw_meth q578) rfl rfl rfl (X.2.2.2.2.2.2.1.2.1 _ q576 rfl) (X.2.2.2.2.1 _ q123) (by decide +kernel) ⟨Nat.le_of_ble_eq_true rfl, Nat.le_of_ble_eq_true rfl⟩, rfl, X.2.2.2.2.1 _ q577⟩) rfl hag hl (ltlp (ltm hx27 (Nat.le_of_succ_le he31)) ltln) (ltsp (ltw he31) (ltsp (ltm hx27 (Nat.le_of_succ_le he31)) ltsn)) (k8 := 2) (csr (csr (cs0 (k := 0)))) (by decide) hd33 dX5_init_9 rfl (fun ad g34 ι35 H locs hF X hP hag he36 hl => ?_)
  show WHv p l e ({ frames := 7, cells := BC, slots := BS, locals := 191 } : Room) s m args below meth c D dA ad0 g0 A Q BC BS H locs (3) (22) (F0 m 12 ls [rv ad (200 + gN g), rv ad a0])
  obtain ⟨hm39, hF⟩ := hF
  refine hg_putrF 4 0 X in_X5 tyX5 tyX5_ok nmX5 hP hm39 q676 hnm dX5_init_12 (ltm (ltw he31) he36) hF (fun H locs g40 hP he41 hF => ?_) (Or.inl ⟨_, rfl⟩)
  have hag : HA ad0 g0 ad g40 := ⟨by rw [he41.1]; exact hag.1, hag.2⟩
  refine ph_aload_n (n := 0) X hl dX5_init_15 rfl rfl ?_
  obtain ⟨hd42, hF⟩ := hF
  refine hg_new 17 [pX a0] X hP hag hl (ltlp (ltm (ltm (ltm hx27 (Nat.le_of_succ_le he31)) he36) (Nat.le_of_eq he41.1.symm)) ltln) (ltsp (ltm (ltm (ltm hx27 (Nat.le_of_succ_le he31)) he36) (Nat.le_of_eq he41.1.symm)) ltsn) in_J2 tyJ2 tyJ2_ok (by decide +kernel) q618 q155 q102 hd42 dX5_init_16 rfl hF (fun H ad g43 ι44 X hP hag he45 hk46 hl hF => ?_)
  show WHv p l e ({ frames := 7, cells := BC, slots := BS, locals := 191 } : Room) s m args below meth c D dA ad0 g0 A Q BC BS H locs (4) (25) (F0 m 19 ls [rv ad (200 + gN g40), rv ad a0])
  refine ph_dup_r X dX5_init_19 ?_
  refine lv_bipush (v := 40) X.1 X.2.1 dX5_init_20 (by decide) ?_
  obtain ⟨b47, d48, hF⟩ := hF
  obtain ⟨hd49, hF⟩ := hF
  refine hg_callI [iX 40] [pX (200 + gN g40), pX a0] X hP (cg_nz hP hk46.1 (by decide)) (met_J2_init l D dA ad _ _ _ _ _ hF) (cwI 1 X.2.2.2.2.1 (lw_meth q158) rfl rfl rfl (X.2.2.2.2.1 _ q102) (X.2.2.2.2.1 _ q619) (X.2.2.2.2.1 _ q157) rfl (by decide +kernel) ⟨Nat.le_of_ble_eq_true rfl, Nat.le_of_ble_eq_true rfl⟩) rfl hag hl (ltlp (ltm (ltm (ltm (ltm hx27 (Nat.le_of_succ_le he31)) he36) (Nat.le_of_eq he41.1.symm)) (Nat.le_of_succ_le he45)) ltln) (ltsp (ltw he45) (ltsp (ltm (ltm (ltm (ltm hx27 (Nat.le_of_succ_le he31)) he36) (Nat.le_of_eq he41.1.symm)) (Nat.le_of_succ_le he45)) ltsn)) (k8 := 2) (csr (csr (cs0 (k := 0)))) (by decide) hd49 dX5_init_22 rfl (fun ad g50 ι51 H locs hF X hP hag he52 hl => ?_)
  show WHv p l e ({ frames := 7, cells := BC, slots := BS, locals := 191 } : Room) s m args below meth c D dA ad0 g0 A Q BC BS H locs (4 + b47) (25 + d48) (F0 m 25 ls [rv ad (200 + gN g40), rv ad a0])
  obtain ⟨hm55, hF⟩ := hF
  refine hg_putrF 4 1 X in_X5 tyX5 tyX5_ok nmX5 hP hm55 q678 hnm dX5_init_25 (ltm (ltw he45) he52) hF (fun H locs g56 hP he57 hF => ?_) (Or.inl ⟨_, rfl⟩)
  have hag : HA ad0 g0 ad g56 := ⟨by rw [he57.1]; exact hag.1, hag.2⟩
  refine ph_aload_n (n := 0) X hl dX5_init_28 rfl rfl ?_
  refine lv_bipush (v := 8) X.1 X.2.1 dX5_init_29 (by decide) ?_
  have hx58 : a0 < 200 + gN g56 := (ltm (ltm (ltm (ltm (ltm (ltm hx27 (Nat.le_of_succ_le he31)) he36) (Nat.le_of_eq he41.1.symm)) (Nat.le_of_succ_le he45)) he52) (Nat.le_of_eq he57.1.symm))
  obtain ⟨hd59, hF⟩ := hF
  refine hg_newaI [pX a0] X hP hag hl (ltlp hx58 ltln) (ltsp hx58 ltsn) q516 (by decide) (by decide) (Nat.le_of_ble_eq_true rfl) hd59 dX5_init_31 rfl hF (fun H ad g60 ι61 X hP hag he62 hk63 hl hF => ?_)
  show WHv p l e ({ frames := 7, cells := BC, slots := BS, locals := 191 } : Room) s m args below meth c D dA ad0 g0 A Q BC BS H locs (4 + b47 + 1) (25 + d48 + 8) (F0 m 33 ls [rv ad (200 + gN g56), rv ad a0])
  refine hg_putrF 4 2 X in_X5 tyX5 tyX5_ok nmX5 hP (by rw [hk63.2 _ hx58]; exact (by rw [he57.2.1]; exact hm55)) q680 hnm dX5_init_33 (ltw he62) hF (fun H locs g64 hP he65 hF => ?_) (Or.inr ⟨_, rfl⟩)
  have hag : HA ad0 g0 ad g64 := ⟨by rw [he65.1]; exact hag.1, hag.2⟩
  refine ph_aload_n (n := 0) X hl dX5_init_36 rfl rfl ?_
  refine lv_bipush (v := 8) X.1 X.2.1 dX5_init_37 (by decide) ?_
  obtain ⟨hd66, hF⟩ := hF
  refine hg_newaI [pX a0] X hP hag hl (ltlp (ltm (ltm hx58 (Nat.le_of_succ_le he62)) (Nat.le_of_eq he65.1.symm)) ltln) (ltsp (ltm (ltm hx58 (Nat.le_of_succ_le he62)) (Nat.le_of_eq he65.1.symm)) ltsn) q516 (by decide) (by decide) (Nat.le_of_ble_eq_true rfl) hd66 dX5_init_39 rfl hF (fun H ad g67 ι68 X hP hag he69 hk70 hl hF => ?_)
  show WHv p l e ({ frames := 7, cells := BC, slots := BS, locals := 191 } : Room) s m args below meth c D dA ad0 g0 A Q BC BS H locs (4 + b47 + 2) (25 + d48 + 16) (F0 m 41 ls [rv ad (200 + gN g64), rv ad a0])
  have hm71 : gK g67 a0 = 5 := (by rw [hk70.2 _ (ltm (ltm hx58 (Nat.le_of_succ_le he62)) (Nat.le_of_eq he65.1.symm))]; exact (by rw [he65.2.1]; exact (by rw [hk63.2 _ hx58]; exact (by rw [he57.2.1]; exact hm55))))
  refine hg_putrF 4 3 X in_X5 tyX5 tyX5_ok nmX5 hP hm71 q682 hnm dX5_init_41 (ltw he69) hF (fun H locs g72 hP he73 hF => ?_) (Or.inr ⟨_, rfl⟩)
  have hag : HA ad0 g0 ad g72 := ⟨by rw [he73.1]; exact hag.1, hag.2⟩
  refine ph_aload_n (n := 0) X hl dX5_init_44 rfl rfl ?_
  refine lv_bipush (v := 8) X.1 X.2.1 dX5_init_45 (by decide) ?_
  obtain ⟨hd74, hF⟩ := hF
  refine hg_newaI [pX a0] X hP hag hl (ltlp (ltm (ltm (ltm (ltm hx58 (Nat.le_of_succ_le he62)) (Nat.le_of_eq he65.1.symm)) (Nat.le_of_succ_le he69)) (Nat.le_of_eq he73.1.symm)) ltln) (ltsp (ltm (ltm (ltm (ltm hx58 (Nat.le_of_succ_le he62)) (Nat.le_of_eq he65.1.symm)) (Nat.le_of_succ_le he69)) (Nat.le_of_eq he73.1.symm)) ltsn) q516 (by decide) (by decide) (Nat.le_of_ble_eq_true rfl) hd74 dX5_init_47 rfl hF (fun H ad g75 ι76 X hP hag he77 hk78 hl hF => ?_)
  show WHv p l e ({ frames := 7, cells := BC, slots := BS, locals := 191 } : Room) s m args below meth c D dA ad0 g0 A Q BC BS H locs (4 + b47 + 3) (25 + d48 + 24) (F0 m 49 ls [rv ad (200 + gN g72), rv ad a0])
  have hm79 : gK g75 a0 = 5 := (by rw [hk78.2 _ (ltm (ltm (ltm (ltm hx58 (Nat.le_of_succ_le he62)) (Nat.le_of_eq he65.1.symm)) (Nat.le_of_succ_le he69)) (Nat.le_of_eq he73.1.symm))]; exact (by rw [he73.2.1]; exact hm71))
  refine hg_putrF 4 4 X in_X5 tyX5 tyX5_ok nmX5 hP hm79 q684 hnm dX5_init_49 (ltw he77) hF (fun H locs g80 hP he81 hF => ?_) (Or.inr ⟨_, rfl⟩)
  have hag : HA ad0 g0 ad g80 := ⟨by rw [he81.1]; exact hag.1, hag.2⟩
  refine ph_aload_n (n := 0) X hl dX5_init_52 rfl rfl ?_
  refine lv_iconst (v := 3) X.1 X.2.1 dX5_init_53 (by decide) ?_
  have hx82 : a0 < 200 + gN g80 := (ltm (ltm (ltm (ltm (ltm (ltm hx58 (Nat.le_of_succ_le he62)) (Nat.le_of_eq he65.1.symm)) (Nat.le_of_succ_le he69)) (Nat.le_of_eq he73.1.symm)) (Nat.le_of_succ_le he77)) (Nat.le_of_eq he81.1.symm))
  obtain ⟨hd83, hF⟩ := hF
  refine hg_newaI [pX a0] X hP hag hl (ltlp hx82 ltln) (ltsp hx82 ltsn) q516 (by decide) (by decide) (Nat.le_of_ble_eq_true rfl) hd83 dX5_init_54 rfl hF (fun H ad g84 ι85 X hP hag he86 hk87 hl hF => ?_)
  show WHv p l e ({ frames := 7, cells := BC, slots := BS, locals := 191 } : Room) s m args below meth c D dA ad0 g0 A Q BC BS H locs (4 + b47 + 4) (25 + d48 + 27) (F0 m 56 ls [rv ad (200 + gN g80), rv ad a0])
  refine hg_putrF 4 5 X in_X5 tyX5 tyX5_ok nmX5 hP (by rw [hk87.2 _ hx82]; exact (by rw [he81.2.1]; exact hm79)) q686 hnm dX5_init_56 (ltw he86) hF (fun H locs g88 hP he89 hF => ?_) (Or.inr ⟨_, rfl⟩)
  have hag : HA ad0 g0 ad g88 := ⟨by rw [he89.1]; exact hag.1, hag.2⟩
  refine lv_iconst (v := 0) X.1 X.2.1 dX5_init_59 (by decide) ?_
  refine ph_istore_n X hl dX5_init_60 rfl (by decide) rfl (fun ls hl => ?_)
  obtain ⟨n9, hF⟩ := hF
  exact w_X5_init_61 hnm n9 _ _ _ _ _ _ _ _ _ _ hF X hP hag (lh_sub hl [1, 0] rfl)
set_option maxHeartbeats 2000000 in
theorem met_X5_init (l : Launch) (D : va_G) (dA : Nat → ClassId) (ad : Nat → Nat) (BC BS : Nat) (g : GT) (ι : S) (sz : Nat) {a0 : Nat} {Q : GT → S → Prop} (hF : P_X5_init BC BS a0 g ι Q) : CHv l yX5_init cX5_init 2 ({ frames := 7, cells := BC, slots := BS, locals := 191 } : Room) D dA ad g ι sz [pX a0] Q BC BS := by
  refine ph_enter [pX a0] (Qc := fun A => HPv D dA ad g A Q) (by decide +kernel) (Nat.le_of_ble_eq_true rfl) ?_
  intro p e s m args below meth c A ls X hP hl hnm
  have hnm : meth.name = "<init>" := hnm
  exact we_X5_init hnm _ _ _ _ _ _ _ hF X hP HA.rf hl
def P_X9_go_308 (BC BS : Nat) (Q : GT → S → Prop) (y0 : Nat) (y1 : Nat) (x0 : Nat) (x1 : Int32) (g : GT) (ι : S) (uc us : Nat) : Prop := (gK g y0 = 8 ∧ (y1 < 200 + gN g ∧ (∀ g3, g3 = setg g y0 6 y1 → (gK g3 x0 = 8 ∧ ((100 ≤ (gR g3 x0 6) ∧ (gR g3 x0 6) < 105) ∧ ((¬ (gR g3 x0 6) = 102 → (∀ ι9, ι9 = up2 ι x0 2 ((ι x0 2) + 1) → ((uc ≤ BC ∧ us ≤ BS) ∧ (Q g3 ι9)))) ∧ ((gR g3 x0 6) = 102 → (x0 < 200 + gN g3 ∧ ((uc + 2 ≤ BC ∧ us + 5 ≤ BS) ∧ (P_J9_valueOf 2 5 ((x1.toUInt32 % 65536).toInt32) g3 ι (fun r16 g13 ι14 => (gK g13 x0 = 8 ∧ (∀ g19, g19 = setg g13 x0 7 r16 → (∀ ι21, ι21 = up2 ι14 x0 2 ((ι14 x0 2) + 1) → (Q g19 ι21)))))))))))))))
def P_X9_go_278 (BC BS : Nat) (Q : GT → S → Prop) (y0 : Nat) (y1 : Int32) (x0 : Nat) (g : GT) (ι : S) (uc us : Nat) : Prop := (gK g y0 = 8 ∧ (isB y1 ∧ (∀ ι23, ι23 = up2 ι y0 5 y1 → (gK g x0 = 8 ∧ (∀ g26, g26 = setg g x0 6 101 → ((uc ≤ BC ∧ us ≤ BS) ∧ (Q g26 ι23)))))))
def P_X9_go_196 (BC BS : Nat) (Q : GT → S → Prop) : Nat → Nat → GT → S → Nat → Nat → Prop
  | 0, _, _, _, _, _ => False
  | n + 1, x0, g, ι, uc, us => (gK g x0 = 8 ∧ ((uc ≤ BC ∧ us ≤ BS) ∧ (P_X9_byteAt g x0 (ι x0 2) ι (fun r31 ι32 => (P_X9_isDigit g r31 ι32 (fun r34 ι35 => ((r34 = 0 → ((((ι35 x0 2) - (ι35 x0 3)) ≤ 4 → (P_X9_go_278 BC BS Q x0 0 x0 g ι35 (uc) (us))) ∧ (¬ ((ι35 x0 2) - (ι35 x0 3)) ≤ 4 → (P_X9_go_278 BC BS Q x0 1 x0 g ι35 (uc) (us))))) ∧ (¬ r34 = 0 → ((4 ≤ ((ι35 x0 2) - (ι35 x0 3)) → (∀ ι38, ι38 = up2 ι35 x0 2 ((ι35 x0 2) + 1) → (P_X9_go_196 BC BS Q  n x0 g ι38 (uc) (us)))) ∧ (¬ 4 ≤ ((ι35 x0 2) - (ι35 x0 3)) → (P_X9_byteAt g x0 (ι35 x0 2) ι35 (fun r39 ι40 => (∀ ι42, ι42 = up2 ι40 x0 4 (((10 * (ι35 x0 4)) + r39) - 48) → (∀ ι43, ι43 = up2 ι42 x0 2 ((ι42 x0 2) + 1) → (P_X9_go_196 BC BS Q  n x0 g ι43 (uc) (us))))))))))))))))
def P_X9_go_116 (BC BS : Nat) (Q : GT → S → Prop) : Nat → Nat → Nat → GT → S → Nat → Nat → Prop
  | 0, _, _, _, _, _, _ => False
  | n + 1, x0, x2, g, ι, uc, us => (gK g x0 = 8 ∧ ((uc ≤ BC ∧ us ≤ BS) ∧ (P_X9_byteAt g x0 (ι x0 2) ι (fun r48 ι49 => (P_X9_isLetter g r48 ι49 (fun r51 ι52 => ((r51 = 0 → (x0 < 200 + gN g ∧ (∃ b55 d56, ((uc + b55 ≤ BC ∧ us + d56 ≤ BS) ∧ (gK g x2 = 19 ∧ (P_J8_toString b55 d56 x2 g ι52 (fun r61 g58 ι59 => (gK g58 x0 = 8 ∧ (∀ g64, g64 = setg g58 x0 7 r61 → (∀ g66, g66 = setg g64 x0 6 100 → (Q g66 ι59))))))))))) ∧ (¬ r51 = 0 → (x2 < 200 + gN g ∧ (x0 < 200 + gN g ∧ ((uc ≤ BC ∧ us ≤ BS) ∧ (gK g x2 = 19 ∧ (P_J8_length 0 0 x2 g ι52 (fun r75 g72 ι73 => ((8 ≤ r75 → (gK g72 x0 = 8 ∧ (∀ ι78, ι78 = up2 ι73 x0 2 ((ι73 x0 2) + 1) → (P_X9_go_116 BC BS Q  n x0 x2 g72 ι78 (uc) (us))))) ∧ (¬ 8 ≤ r75 → (gK g72 x0 = 8 ∧ (P_X9_byteAt g72 x0 (ι73 x0 2) ι73 (fun r80 ι81 => ((uc ≤ BC ∧ us ≤ BS) ∧ (gK g72 x2 = 19 ∧ (P_J8_append_3 0 0 x2 ((r80.toUInt32 % 65536).toInt32) g72 ι81 (fun r87 g84 ι85 => (gK g84 x0 = 8 ∧ (∀ ι90, ι90 = up2 ι85 x0 2 ((ι85 x0 2) + 1) → (P_X9_go_116 BC BS Q  n x0 x2 g84 ι90 (uc) (us)))))))))))))))))))))))))))
def P_X9_go_50 (BC BS : Nat) (Q : GT → S → Prop) (x0 : Nat) (g : GT) (ι : S) (uc us : Nat) : Prop := (gK g x0 = 8 ∧ (∀ ι96, ι96 = up2 ι x0 3 (ι x0 2) → (∀ g97, g97 = setg g x0 7 59 → (∀ ι99, ι99 = up2 ι96 x0 5 0 → ((uc ≤ BC ∧ us ≤ BS) ∧ (P_X9_byteAt g97 x0 (ι99 x0 2) ι99 (fun r101 ι102 => (((ι102 x0 2) < (ι102 x0 1) → (P_X9_isLetter g97 r101 ι102 (fun r104 ι105 => ((r104 = 0 → (P_X9_isDigit g97 r101 ι105 (fun r107 ι108 => ((r107 = 0 → (P_X9_isSign g97 r101 ι108 (fun r110 ι111 => ((r110 = 0 → (P_X9_go_308 BC BS Q x0 103 x0 r101 g97 ι111 (uc) (us))) ∧ (¬ r110 = 0 → (P_X9_go_308 BC BS Q x0 102 x0 r101 g97 ι111 (uc) (us))))))) ∧ (¬ r107 = 0 → (∀ ι114, ι114 = up2 ι108 x0 4 0 → (∃ n9, P_X9_go_196 BC BS Q n9 x0 g97 ι114 (uc) (us)))))))) ∧ (¬ r104 = 0 → (x0 < 200 + gN g97 ∧ ((uc + 1 ≤ BC ∧ us + 4 ≤ BS) ∧ (∀ g118 ι119, g118 = newg g97 19 0 → ι119 = newi g97 ι105 → (∃ b122 d123, ((uc + 1 + b122 ≤ BC ∧ us + 4 + d123 ≤ BS) ∧ (P_J8_init_2 b122 d123 (200 + gN g97) 8 g118 ι119 (fun g125 ι126 => (∃ n9, P_X9_go_116 BC BS Q n9 x0 (200 + gN g97) g125 ι126 (uc + 1 + b122) (us + 4 + d123)))))))))))))) ∧ (¬ (ι102 x0 2) < (ι102 x0 1) → (∀ g131, g131 = setg g97 x0 6 104 → (Q g131 ι102)))))))))))
def P_X9_go_0 (BC BS : Nat) (Q : GT → S → Prop) : Nat → Nat → GT → S → Nat → Nat → Prop
  | 0, _, _, _, _, _ => False
  | n + 1, x0, g, ι, uc, us => (gK g x0 = 8 ∧ (((ι x0 1) ≤ (ι x0 2) → (P_X9_go_50 BC BS Q x0 g ι (uc) (us))) ∧ (¬ (ι x0 1) ≤ (ι x0 2) → ((uc ≤ BC ∧ us ≤ BS) ∧ (P_X9_byteAt g x0 (ι x0 2) ι (fun r136 ι137 => ((r136 = 32 → (∀ ι139, ι139 = up2 ι137 x0 2 ((ι137 x0 2) + 1) → (P_X9_go_0 BC BS Q  n x0 g ι139 (uc) (us)))) ∧ (¬ r136 = 32 → (P_X9_byteAt g x0 (ι137 x0 2) ι137 (fun r140 ι141 => ((¬ r140 = 10 → (P_X9_go_50 BC BS Q x0 g ι141 (uc) (us))) ∧ (r140 = 10 → (∀ ι143, ι143 = up2 ι141 x0 2 ((ι141 x0 2) + 1) → (P_X9_go_0 BC BS Q  n x0 g ι143 (uc) (us)))))))))))))))
def P_X9_go (BC BS : Nat) (a0 : Nat) (g : GT) (ι : S) (Q : GT → S → Prop) : Prop := (∃ n9, P_X9_go_0 BC BS Q n9 a0 g ι (0) (0))
set_option maxHeartbeats 2000000 in
theorem w_X9_go_308 (hnm : meth.name = "go") {BC BS : Nat} {Q : GT → S → Prop} : ∀ (y0 : Nat) (y1 : Nat) (x0 : Nat) (x1 : Int32) (g : GT) (ι : S) (uc us : Nat) (ad : Nat → Nat) (H : Heap) (locs : List Loc) (ls : Array Slot), P_X9_go_308 BC BS Q y0 y1 x0 x1 g ι uc us → CX p s m args c meth cX9_go 3 none RX9 D dA ad A → PW D dA A s.heap ad (HS g ι) H locs → HA ad0 g0 ad g → LH ad ls 3 [(0, pX x0), (1, iX x1)] → WHv p l e ({ frames := 6, cells := BC, slots := BS, locals := 171 } : Room) s m args below meth c D dA ad0 g0 A Q BC BS H locs (uc) (us) (F0 m 308 ls [rv ad y1, rv ad y0]) := by
  intro y0 y1 x0 x1 g ι uc us ad H locs ls hF X hP hag hl
  unfold P_X9_go_308 at hF
  obtain ⟨hm1, hF⟩ := hF
  obtain ⟨hx2, hF⟩ := hF
  refine hg_putr 7 6 X in_X9 tyX9 tyX9_ok nmX9 hP hm1 q1255 dX9_go_308 hx2 hF (fun H locs g3 hP he4 hF => ?_) (Or.inl ⟨_, rfl⟩)
  have hag : HA ad0 g0 ad g3 := ⟨by rw [he4.1]; exact hag.1, hag.2⟩
  refine ph_aload_n (n := 0) X hl dX9_go_311 rfl rfl ?_
  obtain ⟨hm5, hF⟩ := hF
  have hv6 := gR_lt hP x0 6
  refine cg_getr 7 6 X in_X9 hP hm5 q1255 dX9_go_312 ?_
  refine cg_getsS (k := 2) X hP (by decide) rfl q1231 dX9_go_315 ?_
  obtain ⟨hm7, hF⟩ := hF
  refine cg_acmp_ne (tgt := 330) X (by have := hm7; omega) (by have := (show 100 ≤ 102 ∧ 102 < 105 by decide); omega) (sort_inj X hm7 (show 100 ≤ 102 ∧ 102 < 105 by decide)) dX9_go_318 (by decide) (fun c8 => ?_) (fun c8 => ?_)
  · have hF := hF.1 c8
    refine ph_aload_n (n := 0) X hl dX9_go_330 rfl rfl ?_
    refine ph_dup_r X dX9_go_331 ?_
    refine cg_geti 7 2 X in_X9 hP hm5 q1251 dX9_go_332 ?_
    refine lv_iconst (v := 1) X.1 X.2.1 dX9_go_335 (by decide) ?_
    refine lv_iadd X.1 X.2.1 dX9_go_336 ?_
    refine hg_puti 7 2 X in_X9 tyX9 tyX9_ok nmX9 hP hm5 q1251 dX9_go_337 rfl rfl hF (fun H locs ι9 hP hF => ?_)
    obtain ⟨hd10, hF⟩ := hF
    exact hg_vret X hP hag hF hd10.1 hd10.2 dX9_go_340
  · have hF := hF.2 c8
    refine ph_aload_n (n := 0) X hl dX9_go_321 rfl rfl ?_
    refine ph_iload_n (n := 1) X hl dX9_go_322 rfl rfl ?_
    refine lv_i2c X.1 X.2.1 dX9_go_323 rfl ?_
    obtain ⟨hx11, hF⟩ := hF
    obtain ⟨hd12, hF⟩ := hF
    have hl : LH ad ls 3 [(0, pX x0)] := lh_sub hl [0] rfl
    refine hg_callSq [iX ((x1.toUInt32 % 65536).toInt32)] [pX x0] X hP (met_J9_valueOf l D dA ad _ _ _ _ _ hF) (va_cwS 1 X.2.2.2.2.1 (lw_S q1235 q1236 q109 q1237) rfl rfl rfl (by decide +kernel) ⟨Nat.le_of_ble_eq_true rfl, Nat.le_of_ble_eq_true rfl⟩) rfl hag hl (ltlp hx11 ltln) (ltsp hx11 ltsn) (k8 := 1) (csr (cs0 (k := 0))) (by decide) hd12 dX9_go_324 rfl (fun r16 ad g13 ι14 H locs hF hv17 X hP hag he15 hl => ?_)
    show WHv p l e ({ frames := 6, cells := BC, slots := BS, locals := 171 } : Room) s m args below meth c D dA ad0 g0 A Q BC BS H locs (uc + 2) (us + 5) (F0 m 327 ls [rv ad r16, rv ad x0])
    obtain ⟨hm18, hF⟩ := hF
    refine hg_putr 7 7 X in_X9 tyX9 tyX9_ok nmX9 hP hm18 q1256 dX9_go_327 hv17 hF (fun H locs g19 hP he20 hF => ?_) (Or.inl ⟨_, rfl⟩)
    have hag : HA ad0 g0 ad g19 := ⟨by rw [he20.1]; exact hag.1, hag.2⟩
    refine ph_aload_n (n := 0) X hl dX9_go_330 rfl rfl ?_
    refine ph_dup_r X dX9_go_331 ?_
    refine cg_geti 7 2 X in_X9 hP (by rw [he20.2.1]; exact hm18) q1251 dX9_go_332 ?_
    refine lv_iconst (v := 1) X.1 X.2.1 dX9_go_335 (by decide) ?_
    refine lv_iadd X.1 X.2.1 dX9_go_336 ?_
    refine hg_puti 7 2 X in_X9 tyX9 tyX9_ok nmX9 hP (by rw [he20.2.1]; exact hm18) q1251 dX9_go_337 rfl rfl hF (fun H locs ι21 hP hF => ?_)
    exact hg_vret X hP hag hF hd12.1 hd12.2 dX9_go_340
set_option maxHeartbeats 2000000 in
theorem w_X9_go_278 (hnm : meth.name = "go") {BC BS : Nat} {Q : GT → S → Prop} : ∀ (y0 : Nat) (y1 : Int32) (x0 : Nat) (g : GT) (ι : S) (uc us : Nat) (ad : Nat → Nat) (H : Heap) (locs : List Loc) (ls : Array Slot), P_X9_go_278 BC BS Q y0 y1 x0 g ι uc us → CX p s m args c meth cX9_go 3 none RX9 D dA ad A → PW D dA A s.heap ad (HS g ι) H locs → HA ad0 g0 ad g → LH ad ls 3 [(0, pX x0)] → WHv p l e ({ frames := 6, cells := BC, slots := BS, locals := 171 } : Room) s m args below meth c D dA ad0 g0 A Q BC BS H locs (uc) (us) (F0 m 278 ls [.int y1, rv ad y0]) := by
  intro y0 y1 x0 g ι uc us ad H locs ls hF X hP hag hl
  unfold P_X9_go_278 at hF
  obtain ⟨hm22, hF⟩ := hF
  obtain ⟨hb24, hF⟩ := hF
  refine hg_puti 7 5 X in_X9 tyX9 tyX9_ok nmX9 hP hm22 q1254 dX9_go_278 (isB_nar hb24) (isB_fit hb24) hF (fun H locs ι23 hP hF => ?_)
  refine ph_aload_n (n := 0) X hl dX9_go_281 rfl rfl ?_
  refine cg_getsS (k := 1) X hP (by decide) rfl q1226 dX9_go_282 ?_
  obtain ⟨hm25, hF⟩ := hF
  refine hg_putr 7 6 X in_X9 tyX9 tyX9_ok nmX9 hP hm25 q1255 dX9_go_285 (ltk (by decide)) hF (fun H locs g26 hP he27 hF => ?_) (Or.inl ⟨_, rfl⟩)
  have hag : HA ad0 g0 ad g26 := ⟨by rw [he27.1]; exact hag.1, hag.2⟩
  refine lv_goto (tgt := 340) X.1 X.2.1 dX9_go_288 (by decide) ?_
  obtain ⟨hd28, hF⟩ := hF
  exact hg_vret X hP hag hF hd28.1 hd28.2 dX9_go_340
set_option maxHeartbeats 2000000 in
theorem w_X9_go_196 (hnm : meth.name = "go") {BC BS : Nat} {Q : GT → S → Prop} : ∀ (n : Nat) (x0 : Nat) (g : GT) (ι : S) (uc us : Nat) (ad : Nat → Nat) (H : Heap) (locs : List Loc) (ls : Array Slot), P_X9_go_196 BC BS Q n x0 g ι uc us → CX p s m args c meth cX9_go 3 none RX9 D dA ad A → PW D dA A s.heap ad (HS g ι) H locs → HA ad0 g0 ad g → LH ad ls 3 [(0, pX x0)] → WHv p l e ({ frames := 6, cells := BC, slots := BS, locals := 171 } : Room) s m args below meth c D dA ad0 g0 A Q BC BS H locs (uc) (us) (F0 m 196 ls []) := by
  intro n
  induction n with
  | zero =>
    intro x0 g ι uc us ad H locs ls hF
    exact hF.elim
  | succ n ih =>
    intro x0 g ι uc us ad H locs ls hF X hP hag hl
    rw [P_X9_go_196] at hF
    refine ph_aload_n (n := 0) X hl dX9_go_196 rfl rfl ?_
    refine ph_aload_n (n := 0) X hl dX9_go_197 rfl rfl ?_
    obtain ⟨hm29, hF⟩ := hF
    refine cg_geti 7 2 X in_X9 hP hm29 q1251 dX9_go_198 ?_
    obtain ⟨hd30, hF⟩ := hF
    refine cg_callVi 7 [iX (ι x0 2)] X hP hm29 (met_X9_byteAt l D dA ad g _ _ hF) (cwV 1 X.2.2.2.2.1 (lw_V q1186 q1188 qs24 q127 q1189) rfl rfl rfl (by decide +kernel) ⟨Nat.le_of_ble_eq_true rfl, Nat.le_of_ble_eq_true rfl⟩) rfl hl (k8 := 0) (cs0 (k := 0)) (by decide) hd30 dX9_go_201 rfl (fun r31 ι32 H locs hF hP => ?_)
    refine cg_callSi [iX r31] X hP (met_X9_isDigit l D dA ad g _ _ hF) (va_cwS 1 X.2.2.2.2.1 (lw_S q1223 q1224 q127 q1225) rfl rfl rfl (by decide +kernel) ⟨Nat.le_of_ble_eq_true rfl, Nat.le_of_ble_eq_true rfl⟩) rfl hl (k8 := 0) (cs0 (k := 0)) (by decide) hd30 dX9_go_204 rfl (fun r34 ι35 H locs hF hP => ?_)
    refine lv_if_eq (tgt := 259) X.1 X.2.1 dX9_go_207 (by decide) (fun c45 => ?_) (fun c45 => ?_)
    · have hF := hF.1 c45
      refine ph_aload_n (n := 0) X hl dX9_go_259 rfl rfl ?_
      refine ph_aload_n (n := 0) X hl dX9_go_260 rfl rfl ?_
      refine cg_geti 7 2 X in_X9 hP hm29 q1251 dX9_go_261 ?_
      refine ph_aload_n (n := 0) X hl dX9_go_264 rfl rfl ?_
      refine cg_geti 7 3 X in_X9 hP hm29 q1252 dX9_go_265 ?_
      refine lv_isub X.1 X.2.1 dX9_go_268 ?_
      refine lv_iconst (v := 4) X.1 X.2.1 dX9_go_269 (by decide) ?_
      refine lv_icmp_le (tgt := 277) X.1 X.2.1 dX9_go_270 (by decide) (fun c37 => ?_) (fun c37 => ?_)
      · have hF := hF.1 c37
        refine lv_iconst (v := 0) X.1 X.2.1 dX9_go_277 (by decide) ?_
        exact w_X9_go_278 hnm _ _ _ _ _ _ _ _ _ _ _ hF X hP hag hl
      · have hF := hF.2 c37
        refine lv_iconst (v := 1) X.1 X.2.1 dX9_go_273 (by decide) ?_
        refine lv_goto (tgt := 278) X.1 X.2.1 dX9_go_274 (by decide) ?_
        exact w_X9_go_278 hnm _ _ _ _ _ _ _ _ _ _ _ hF X hP hag hl
    · have hF := hF.2 c45
      refine ph_aload_n (n := 0) X hl dX9_go_210 rfl rfl ?_
      refine cg_geti 7 2 X in_X9 hP hm29 q1251 dX9_go_211 ?_
      refine ph_aload_n (n := 0) X hl dX9_go_214 rfl rfl ?_
      refine cg_geti 7 3 X in_X9 hP hm29 q1252 dX9_go_215 ?_
      refine lv_isub X.1 X.2.1 dX9_go_218 ?_
      refine lv_iconst (v := 4) X.1 X.2.1 dX9_go_219 (by decide) ?_
      refine lv_icmp_ge (tgt := 246) X.1 X.2.1 dX9_go_220 (by decide) (fun c44 => ?_) (fun c44 => ?_)
      · have hF := hF.1 c44
        refine ph_aload_n (n := 0) X hl dX9_go_246 rfl rfl ?_
        refine ph_dup_r X dX9_go_247 ?_
        refine cg_geti 7 2 X in_X9 hP hm29 q1251 dX9_go_248 ?_
        refine lv_iconst (v := 1) X.1 X.2.1 dX9_go_251 (by decide) ?_
        refine lv_iadd X.1 X.2.1 dX9_go_252 ?_
        refine hg_puti 7 2 X in_X9 tyX9 tyX9_ok nmX9 hP hm29 q1251 dX9_go_253 rfl rfl hF (fun H locs ι38 hP hF => ?_)
        refine lv_goto (tgt := 196) X.1 X.2.1 dX9_go_256 (by decide) ?_
        exact ih _ _ _ _ _ _ _ _ _ hF X hP hag hl
      · have hF := hF.2 c44
        refine ph_aload_n (n := 0) X hl dX9_go_223 rfl rfl ?_
        refine lv_bipush (v := 10) X.1 X.2.1 dX9_go_224 (by decide) ?_
        refine ph_aload_n (n := 0) X hl dX9_go_226 rfl rfl ?_
        refine cg_geti 7 4 X in_X9 hP hm29 q1253 dX9_go_227 ?_
        refine lv_imul X.1 X.2.1 dX9_go_230 ?_
        refine ph_aload_n (n := 0) X hl dX9_go_231 rfl rfl ?_
        refine ph_aload_n (n := 0) X hl dX9_go_232 rfl rfl ?_
        refine cg_geti 7 2 X in_X9 hP hm29 q1251 dX9_go_233 ?_
        refine cg_callVi 7 [iX (ι35 x0 2)] X hP hm29 (met_X9_byteAt l D dA ad g _ _ hF) (cwV 1 X.2.2.2.2.1 (lw_V q1186 q1188 qs24 q127 q1189) rfl rfl rfl (by decide +kernel) ⟨Nat.le_of_ble_eq_true rfl, Nat.le_of_ble_eq_true rfl⟩) rfl hl (k8 := 2) (csi (csr (cs0 (k := 0)))) (by decide) hd30 dX9_go_236 rfl (fun r39 ι40 H locs hF hP => ?_)
        refine lv_iadd X.1 X.2.1 dX9_go_239 ?_
        refine lv_bipush (v := 48) X.1 X.2.1 dX9_go_240 (by decide) ?_
        refine lv_isub X.1 X.2.1 dX9_go_242 ?_
        refine hg_puti 7 4 X in_X9 tyX9 tyX9_ok nmX9 hP hm29 q1253 dX9_go_243 rfl rfl hF (fun H locs ι42 hP hF => ?_)
        refine ph_aload_n (n := 0) X hl dX9_go_246 rfl rfl ?_
        refine ph_dup_r X dX9_go_247 ?_
        refine cg_geti 7 2 X in_X9 hP hm29 q1251 dX9_go_248 ?_
        refine lv_iconst (v := 1) X.1 X.2.1 dX9_go_251 (by decide) ?_
        refine lv_iadd X.1 X.2.1 dX9_go_252 ?_
        refine hg_puti 7 2 X in_X9 tyX9 tyX9_ok nmX9 hP hm29 q1251 dX9_go_253 rfl rfl hF (fun H locs ι43 hP hF => ?_)
        refine lv_goto (tgt := 196) X.1 X.2.1 dX9_go_256 (by decide) ?_
        exact ih _ _ _ _ _ _ _ _ _ hF X hP hag hl
set_option maxHeartbeats 2000000 in
theorem w_X9_go_116 (hnm : meth.name = "go") {BC BS : Nat} {Q : GT → S → Prop} : ∀ (n : Nat) (x0 : Nat) (x2 : Nat) (g : GT) (ι : S) (uc us : Nat) (ad : Nat → Nat) (H : Heap) (locs : List Loc) (ls : Array Slot), P_X9_go_116 BC BS Q n x0 x2 g ι uc us → CX p s m args c meth cX9_go 3 none RX9 D dA ad A → PW D dA A s.heap ad (HS g ι) H locs → HA ad0 g0 ad g → LH ad ls 3 [(0, pX x0), (2, pX x2)] → WHv p l e ({ frames := 6, cells := BC, slots := BS, locals := 171 } : Room) s m args below meth c D dA ad0 g0 A Q BC BS H locs (uc) (us) (F0 m 116 ls []) := by
  intro n
  induction n with
  | zero =>
    intro x0 x2 g ι uc us ad H locs ls hF
    exact hF.elim
  | succ n ih =>
    intro x0 x2 g ι uc us ad H locs ls hF X hP hag hl
    rw [P_X9_go_116] at hF
    refine ph_aload_n (n := 0) X hl dX9_go_116 rfl rfl ?_
    refine ph_aload_n (n := 0) X hl dX9_go_117 rfl rfl ?_
    obtain ⟨hm46, hF⟩ := hF
    refine cg_geti 7 2 X in_X9 hP hm46 q1251 dX9_go_118 ?_
    obtain ⟨hd47, hF⟩ := hF
    refine cg_callVi 7 [iX (ι x0 2)] X hP hm46 (met_X9_byteAt l D dA ad g _ _ hF) (cwV 1 X.2.2.2.2.1 (lw_V q1186 q1188 qs24 q127 q1189) rfl rfl rfl (by decide +kernel) ⟨Nat.le_of_ble_eq_true rfl, Nat.le_of_ble_eq_true rfl⟩) rfl hl (k8 := 0) (cs0 (k := 0)) (by decide) hd47 dX9_go_121 rfl (fun r48 ι49 H locs hF hP => ?_)
    refine cg_callSi [iX r48] X hP (met_X9_isLetter l D dA ad g _ _ hF) (va_cwS 1 X.2.2.2.2.1 (lw_S q1192 q1193 q127 q1194) rfl rfl rfl (by decide +kernel) ⟨Nat.le_of_ble_eq_true rfl, Nat.le_of_ble_eq_true rfl⟩) rfl hl (k8 := 0) (cs0 (k := 0)) (by decide) hd47 dX9_go_124 rfl (fun r51 ι52 H locs hF hP => ?_)
    refine lv_if_eq (tgt := 166) X.1 X.2.1 dX9_go_127 (by decide) (fun c94 => ?_) (fun c94 => ?_)
    · have hF := hF.1 c94
      refine ph_aload_n (n := 0) X hl dX9_go_166 rfl rfl ?_
      refine ph_aload_n (n := 1) X hl dX9_go_167 rfl rfl ?_
      obtain ⟨hx54, hF⟩ := hF
      obtain ⟨b55, d56, hF⟩ := hF
      obtain ⟨hd57, hF⟩ := hF
      obtain ⟨hm68, hF⟩ := hF
      have hl : LH ad ls 3 [(0, pX x0)] := lh_sub hl [0] rfl
      refine hg_callVq 18 [] [pX x0] X hP hm68 (met_J8_toString l D dA ad _ _ _ _ _ hF) (cwV 0 X.2.2.2.2.1 (lw_V q1220 q390 q391 q108 q392) rfl rfl rfl (by decide +kernel) ⟨Nat.le_of_ble_eq_true rfl, Nat.le_of_ble_eq_true rfl⟩) rfl hag hl (ltlp hx54 ltln) (ltsp hx54 ltsn) (k8 := 1) (csr (cs0 (k := 0))) (by decide) hd57 dX9_go_168 rfl (fun r61 ad g58 ι59 H locs hF hv62 X hP hag he60 hl => ?_)
      show WHv p l e ({ frames := 6, cells := BC, slots := BS, locals := 171 } : Room) s m args below meth c D dA ad0 g0 A Q BC BS H locs (uc + b55) (us + d56) (F0 m 171 ls [rv ad r61, rv ad x0])
      obtain ⟨hm63, hF⟩ := hF
      refine hg_putr 7 7 X in_X9 tyX9 tyX9_ok nmX9 hP hm63 q1256 dX9_go_171 hv62 hF (fun H locs g64 hP he65 hF => ?_) (Or.inl ⟨_, rfl⟩)
      have hag : HA ad0 g0 ad g64 := ⟨by rw [he65.1]; exact hag.1, hag.2⟩
      refine ph_aload_n (n := 0) X hl dX9_go_174 rfl rfl ?_
      refine cg_getsS (k := 0) X hP (by decide) rfl q1221 dX9_go_175 ?_
      refine hg_putr 7 6 X in_X9 tyX9 tyX9_ok nmX9 hP (by rw [he65.2.1]; exact hm63) q1255 dX9_go_178 (ltk (by decide)) hF (fun H locs g66 hP he67 hF => ?_) (Or.inl ⟨_, rfl⟩)
      have hag : HA ad0 g0 ad g66 := ⟨by rw [he67.1]; exact hag.1, hag.2⟩
      refine lv_goto (tgt := 340) X.1 X.2.1 dX9_go_181 (by decide) ?_
      exact hg_vret X hP hag hF hd57.1 hd57.2 dX9_go_340
    · have hF := hF.2 c94
      refine ph_aload_n (n := 1) X hl dX9_go_130 rfl rfl ?_
      obtain ⟨hx69, hF⟩ := hF
      obtain ⟨hx70, hF⟩ := hF
      obtain ⟨hd71, hF⟩ := hF
      obtain ⟨hm93, hF⟩ := hF
      refine hg_callVi 18 [] [] X hP hm93 (met_J8_length l D dA ad _ _ _ _ _ hF) (cwV 0 X.2.2.2.2.1 (lw_V q1199 q411 q2393 q108 q412) rfl rfl rfl (by decide +kernel) ⟨Nat.le_of_ble_eq_true rfl, Nat.le_of_ble_eq_true rfl⟩) rfl hag hl (ltlp hx70 (ltlp hx69 ltln)) ltsn (k8 := 0) (cs0 (k := 0)) (by decide) hd71 dX9_go_131 rfl (fun r75 ad g72 ι73 H locs hF X hP hag he74 hl => ?_)
      show WHv p l e ({ frames := 6, cells := BC, slots := BS, locals := 171 } : Room) s m args below meth c D dA ad0 g0 A Q BC BS H locs (uc) (us) (F0 m 134 ls [.int r75])
      refine lv_bipush (v := 8) X.1 X.2.1 dX9_go_134 (by decide) ?_
      refine lv_icmp_ge (tgt := 153) X.1 X.2.1 dX9_go_136 (by decide) (fun c92 => ?_) (fun c92 => ?_)
      · have hF := hF.1 c92
        refine ph_aload_n (n := 0) X hl dX9_go_153 rfl rfl ?_
        refine ph_dup_r X dX9_go_154 ?_
        obtain ⟨hm77, hF⟩ := hF
        refine cg_geti 7 2 X in_X9 hP hm77 q1251 dX9_go_155 ?_
        refine lv_iconst (v := 1) X.1 X.2.1 dX9_go_158 (by decide) ?_
        refine lv_iadd X.1 X.2.1 dX9_go_159 ?_
        refine hg_puti 7 2 X in_X9 tyX9 tyX9_ok nmX9 hP hm77 q1251 dX9_go_160 rfl rfl hF (fun H locs ι78 hP hF => ?_)
        refine lv_goto (tgt := 116) X.1 X.2.1 dX9_go_163 (by decide) ?_
        exact ih _ _ _ _ _ _ _ _ _ _ hF X hP hag hl
      · have hF := hF.2 c92
        refine ph_aload_n (n := 1) X hl dX9_go_139 rfl rfl ?_
        refine ph_aload_n (n := 0) X hl dX9_go_140 rfl rfl ?_
        refine ph_aload_n (n := 0) X hl dX9_go_141 rfl rfl ?_
        obtain ⟨hm79, hF⟩ := hF
        refine cg_geti 7 2 X in_X9 hP hm79 q1251 dX9_go_142 ?_
        refine cg_callVi 7 [iX (ι73 x0 2)] X hP hm79 (met_X9_byteAt l D dA ad g72 _ _ hF) (cwV 1 X.2.2.2.2.1 (lw_V q1186 q1188 qs24 q127 q1189) rfl rfl rfl (by decide +kernel) ⟨Nat.le_of_ble_eq_true rfl, Nat.le_of_ble_eq_true rfl⟩) rfl hl (k8 := 1) (csr (cs0 (k := 0))) (by decide) hd71 dX9_go_145 rfl (fun r80 ι81 H locs hF hP => ?_)
        refine lv_i2c X.1 X.2.1 dX9_go_148 rfl ?_
        obtain ⟨hd83, hF⟩ := hF
        obtain ⟨hm91, hF⟩ := hF
        refine hg_callVq 18 [iX ((r80.toUInt32 % 65536).toInt32)] [] X hP hm91 (met_J8_append_3 l D dA ad _ _ _ _ _ hF) (cwV 1 X.2.2.2.2.1 (lw_V q1200 q1201 q1202 q108 q1203) rfl rfl rfl (by decide +kernel) ⟨Nat.le_of_ble_eq_true rfl, Nat.le_of_ble_eq_true rfl⟩) rfl hag hl (ltlp (ltm hx70 he74) (ltlp (ltm hx69 he74) ltln)) ltsn (k8 := 0) (cs0 (k := 0)) (by decide) hd83 dX9_go_149 rfl (fun r87 ad g84 ι85 H locs hF hv88 X hP hag he86 hl => ?_)
        show WHv p l e ({ frames := 6, cells := BC, slots := BS, locals := 171 } : Room) s m args below meth c D dA ad0 g0 A Q BC BS H locs (uc) (us) (F0 m 152 ls [rv ad r87])
        refine ph_pop_r X dX9_go_152 ?_
        refine ph_aload_n (n := 0) X hl dX9_go_153 rfl rfl ?_
        refine ph_dup_r X dX9_go_154 ?_
        obtain ⟨hm89, hF⟩ := hF
        refine cg_geti 7 2 X in_X9 hP hm89 q1251 dX9_go_155 ?_
        refine lv_iconst (v := 1) X.1 X.2.1 dX9_go_158 (by decide) ?_
        refine lv_iadd X.1 X.2.1 dX9_go_159 ?_
        refine hg_puti 7 2 X in_X9 tyX9 tyX9_ok nmX9 hP hm89 q1251 dX9_go_160 rfl rfl hF (fun H locs ι90 hP hF => ?_)
        refine lv_goto (tgt := 116) X.1 X.2.1 dX9_go_163 (by decide) ?_
        exact ih _ _ _ _ _ _ _ _ _ _ hF X hP hag hl
set_option maxHeartbeats 2000000 in
theorem w_X9_go_50 (hnm : meth.name = "go") {BC BS : Nat} {Q : GT → S → Prop} : ∀ (x0 : Nat) (g : GT) (ι : S) (uc us : Nat) (ad : Nat → Nat) (H : Heap) (locs : List Loc) (ls : Array Slot), P_X9_go_50 BC BS Q x0 g ι uc us → CX p s m args c meth cX9_go 3 none RX9 D dA ad A → PW D dA A s.heap ad (HS g ι) H locs → HA ad0 g0 ad g → LH ad ls 3 [(0, pX x0)] → WHv p l e ({ frames := 6, cells := BC, slots := BS, locals := 171 } : Room) s m args below meth c D dA ad0 g0 A Q BC BS H locs (uc) (us) (F0 m 50 ls []) := by
  intro x0 g ι uc us ad H locs ls hF X hP hag hl
  unfold P_X9_go_50 at hF
  refine ph_aload_n (n := 0) X hl dX9_go_50 rfl rfl ?_
  refine ph_aload_n (n := 0) X hl dX9_go_51 rfl rfl ?_
  obtain ⟨hm95, hF⟩ := hF
  refine cg_geti 7 2 X in_X9 hP hm95 q1251 dX9_go_52 ?_
  refine hg_puti 7 3 X in_X9 tyX9 tyX9_ok nmX9 hP hm95 q1252 dX9_go_55 rfl rfl hF (fun H locs ι96 hP hF => ?_)
  refine ph_aload_n (n := 0) X hl dX9_go_58 rfl rfl ?_
  refine ph_ldcS (i := 29) (tx := "") X (List.mem_of_getElem? (i := 20) rfl) dX9_go_59 ?_
  refine hg_putr 7 7 X in_X9 tyX9 tyX9_ok nmX9 hP hm95 q1256 dX9_go_61 (ltk (by decide)) hF (fun H locs g97 hP he98 hF => ?_) (Or.inl ⟨_, rfl⟩)
  have hag : HA ad0 g0 ad g97 := ⟨by rw [he98.1]; exact hag.1, hag.2⟩
  refine ph_aload_n (n := 0) X hl dX9_go_64 rfl rfl ?_
  refine lv_iconst (v := 0) X.1 X.2.1 dX9_go_65 (by decide) ?_
  refine hg_puti 7 5 X in_X9 tyX9 tyX9_ok nmX9 hP (by rw [he98.2.1]; exact hm95) q1254 dX9_go_66 (isB_nar isB_0) (isB_fit isB_0) hF (fun H locs ι99 hP hF => ?_)
  refine ph_aload_n (n := 0) X hl dX9_go_69 rfl rfl ?_
  refine ph_aload_n (n := 0) X hl dX9_go_70 rfl rfl ?_
  refine cg_geti 7 2 X in_X9 hP (by rw [he98.2.1]; exact hm95) q1251 dX9_go_71 ?_
  obtain ⟨hd100, hF⟩ := hF
  refine cg_callVi 7 [iX (ι99 x0 2)] X hP (by rw [he98.2.1]; exact hm95) (met_X9_byteAt l D dA ad g97 _ _ hF) (cwV 1 X.2.2.2.2.1 (lw_V q1186 q1188 qs24 q127 q1189) rfl rfl rfl (by decide +kernel) ⟨Nat.le_of_ble_eq_true rfl, Nat.le_of_ble_eq_true rfl⟩) rfl hl (k8 := 0) (cs0 (k := 0)) (by decide) hd100 dX9_go_74 rfl (fun r101 ι102 H locs hF hP => ?_)
  refine ph_istore_n X hl dX9_go_77 rfl (by decide) rfl (fun ls hl => ?_)
  refine ph_aload_n (n := 1) X hl dX9_go_78 rfl rfl ?_
  refine cg_geti 7 2 X in_X9 hP (by rw [he98.2.1]; exact hm95) q1251 dX9_go_79 ?_
  refine ph_aload_n (n := 1) X hl dX9_go_82 rfl rfl ?_
  refine cg_geti 7 1 X in_X9 hP (by rw [he98.2.1]; exact hm95) q1250 dX9_go_83 ?_
  refine lv_icmp_lt (tgt := 99) X.1 X.2.1 dX9_go_86 (by decide) (fun c133 => ?_) (fun c133 => ?_)
  · have hF := hF.1 c133
    refine ph_iload_n (n := 0) X hl dX9_go_99 rfl rfl ?_
    refine cg_callSi [iX r101] X hP (met_X9_isLetter l D dA ad g97 _ _ hF) (va_cwS 1 X.2.2.2.2.1 (lw_S q1192 q1193 q127 q1194) rfl rfl rfl (by decide +kernel) ⟨Nat.le_of_ble_eq_true rfl, Nat.le_of_ble_eq_true rfl⟩) rfl hl (k8 := 0) (cs0 (k := 0)) (by decide) hd100 dX9_go_100 rfl (fun r104 ι105 H locs hF hP => ?_)
    refine lv_if_eq (tgt := 184) X.1 X.2.1 dX9_go_103 (by decide) (fun c130 => ?_) (fun c130 => ?_)
    · have hF := hF.1 c130
      refine ph_iload_n (n := 0) X hl dX9_go_184 rfl rfl ?_
      refine cg_callSi [iX r101] X hP (met_X9_isDigit l D dA ad g97 _ _ hF) (va_cwS 1 X.2.2.2.2.1 (lw_S q1223 q1224 q127 q1225) rfl rfl rfl (by decide +kernel) ⟨Nat.le_of_ble_eq_true rfl, Nat.le_of_ble_eq_true rfl⟩) rfl hl (k8 := 0) (cs0 (k := 0)) (by decide) hd100 dX9_go_185 rfl (fun r107 ι108 H locs hF hP => ?_)
      refine lv_if_eq (tgt := 291) X.1 X.2.1 dX9_go_188 (by decide) (fun c115 => ?_) (fun c115 => ?_)
      · have hF := hF.1 c115
        refine ph_aload_n (n := 1) X hl dX9_go_291 rfl rfl ?_
        refine ph_iload_n (n := 0) X hl dX9_go_292 rfl rfl ?_
        refine cg_callSi [iX r101] X hP (met_X9_isSign l D dA ad g97 _ _ hF) (va_cwS 1 X.2.2.2.2.1 (lw_S q1228 q1229 q127 q1230) rfl rfl rfl (by decide +kernel) ⟨Nat.le_of_ble_eq_true rfl, Nat.le_of_ble_eq_true rfl⟩) rfl hl (k8 := 1) (csr (cs0 (k := 0))) (by decide) hd100 dX9_go_293 rfl (fun r110 ι111 H locs hF hP => ?_)
        refine lv_if_eq (tgt := 305) X.1 X.2.1 dX9_go_296 (by decide) (fun c113 => ?_) (fun c113 => ?_)
        · have hF := hF.1 c113
          refine cg_getsS (k := 3) X hP (by decide) rfl q1233 dX9_go_305 ?_
          exact w_X9_go_308 hnm _ _ _ _ _ _ _ _ _ _ _ _ hF X hP hag (lh_sub hl [1, 0] rfl)
        · have hF := hF.2 c113
          refine cg_getsS (k := 2) X hP (by decide) rfl q1231 dX9_go_299 ?_
          refine lv_goto (tgt := 308) X.1 X.2.1 dX9_go_302 (by decide) ?_
          exact w_X9_go_308 hnm _ _ _ _ _ _ _ _ _ _ _ _ hF X hP hag (lh_sub hl [1, 0] rfl)
      · have hF := hF.2 c115
        refine ph_aload_n (n := 1) X hl dX9_go_191 rfl rfl ?_
        refine lv_iconst (v := 0) X.1 X.2.1 dX9_go_192 (by decide) ?_
        refine hg_puti 7 4 X in_X9 tyX9 tyX9_ok nmX9 hP (by rw [he98.2.1]; exact hm95) q1253 dX9_go_193 rfl rfl hF (fun H locs ι114 hP hF => ?_)
        obtain ⟨n9, hF⟩ := hF
        exact w_X9_go_196 hnm n9 _ _ _ _ _ _ _ _ _ hF X hP hag (lh_sub hl [1] rfl)
    · have hF := hF.2 c130
      obtain ⟨hx116, hF⟩ := hF
      obtain ⟨hd117, hF⟩ := hF
      have hl : LH ad ls 3 [(0, pX x0)] := lh_sub hl [1] rfl
      refine hg_new 18 [] X hP hag hl (ltlp hx116 ltln) ltsn in_J8 tyJ8 tyJ8_ok (by decide +kernel) q1195 q212 q108 hd117 dX9_go_106 rfl hF (fun H ad g118 ι119 X hP hag he120 hk121 hl hF => ?_)
      show WHv p l e ({ frames := 6, cells := BC, slots := BS, locals := 171 } : Room) s m args below meth c D dA ad0 g0 A Q BC BS H locs (uc + 1) (us + 4) (F0 m 109 ls [rv ad (200 + gN g97)])
      refine ph_dup_r X dX9_go_109 ?_
      refine lv_bipush (v := 8) X.1 X.2.1 dX9_go_110 (by decide) ?_
      obtain ⟨b122, d123, hF⟩ := hF
      obtain ⟨hd124, hF⟩ := hF
      refine hg_callI [iX 8] [pX (200 + gN g97)] X hP (cg_nz hP hk121.1 (by decide)) (met_J8_init_2 l D dA ad _ _ _ _ _ hF) (cwI 1 X.2.2.2.2.1 (lw_meth q1198) rfl rfl rfl (X.2.2.2.2.1 _ q108) (X.2.2.2.2.1 _ q1196) (X.2.2.2.2.1 _ q1197) rfl (by decide +kernel) ⟨Nat.le_of_ble_eq_true rfl, Nat.le_of_ble_eq_true rfl⟩) rfl hag hl (ltlp (ltm hx116 (Nat.le_of_succ_le he120)) ltln) (ltsp (ltw he120) ltsn) (k8 := 1) (csr (cs0 (k := 0))) (by decide) hd124 dX9_go_112 rfl (fun ad g125 ι126 H locs hF X hP hag he127 hl => ?_)
      show WHv p l e ({ frames := 6, cells := BC, slots := BS, locals := 171 } : Room) s m args below meth c D dA ad0 g0 A Q BC BS H locs (uc + 1 + b122) (us + 4 + d123) (F0 m 115 ls [rv ad (200 + gN g97)])
      refine ph_astore_n X hl dX9_go_115 rfl (by decide) rfl (fun ls hl => ?_)
      obtain ⟨n9, hF⟩ := hF
      exact w_X9_go_116 hnm n9 _ _ _ _ _ _ _ _ _ _ hF X hP hag (lh_sub hl [1, 0] rfl)
  · have hF := hF.2 c133
    refine ph_aload_n (n := 1) X hl dX9_go_89 rfl rfl ?_
    refine cg_getsS (k := 4) X hP (by decide) rfl q1190 dX9_go_90 ?_
    refine hg_putr 7 6 X in_X9 tyX9 tyX9_ok nmX9 hP (by rw [he98.2.1]; exact hm95) q1255 dX9_go_93 (ltk (by decide)) hF (fun H locs g131 hP he132 hF => ?_) (Or.inl ⟨_, rfl⟩)
    have hag : HA ad0 g0 ad g131 := ⟨by rw [he132.1]; exact hag.1, hag.2⟩
    refine lv_goto (tgt := 340) X.1 X.2.1 dX9_go_96 (by decide) ?_
    exact hg_vret X hP hag hF hd100.1 hd100.2 dX9_go_340
set_option maxHeartbeats 2000000 in
theorem w_X9_go_0 (hnm : meth.name = "go") {BC BS : Nat} {Q : GT → S → Prop} : ∀ (n : Nat) (x0 : Nat) (g : GT) (ι : S) (uc us : Nat) (ad : Nat → Nat) (H : Heap) (locs : List Loc) (ls : Array Slot), P_X9_go_0 BC BS Q n x0 g ι uc us → CX p s m args c meth cX9_go 3 none RX9 D dA ad A → PW D dA A s.heap ad (HS g ι) H locs → HA ad0 g0 ad g → LH ad ls 3 [(0, pX x0)] → WHv p l e ({ frames := 6, cells := BC, slots := BS, locals := 171 } : Room) s m args below meth c D dA ad0 g0 A Q BC BS H locs (uc) (us) (F0 m 0 ls []) := by
  intro n
  induction n with
  | zero =>
    intro x0 g ι uc us ad H locs ls hF
    exact hF.elim
  | succ n ih =>
    intro x0 g ι uc us ad H locs ls hF X hP hag hl
    rw [P_X9_go_0] at hF
    refine ph_aload_n (n := 0) X hl dX9_go_0 rfl rfl ?_
    obtain ⟨hm134, hF⟩ := hF
    refine cg_geti 7 2 X in_X9 hP hm134 q1251 dX9_go_1 ?_
    refine ph_aload_n (n := 0) X hl dX9_go_4 rfl rfl ?_
    refine cg_geti 7 1 X in_X9 hP hm134 q1250 dX9_go_5 ?_
    refine lv_icmp_ge (tgt := 50) X.1 X.2.1 dX9_go_8 (by decide) (fun c146 => ?_) (fun c146 => ?_)
    · have hF := hF.1 c146
      exact w_X9_go_50 hnm _ _ _ _ _ _ _ _ _ hF X hP hag hl
    · have hF := hF.2 c146
      refine ph_aload_n (n := 0) X hl dX9_go_11 rfl rfl ?_
      refine ph_aload_n (n := 0) X hl dX9_go_12 rfl rfl ?_
      refine cg_geti 7 2 X in_X9 hP hm134 q1251 dX9_go_13 ?_
      obtain ⟨hd135, hF⟩ := hF
      refine cg_callVi 7 [iX (ι x0 2)] X hP hm134 (met_X9_byteAt l D dA ad g _ _ hF) (cwV 1 X.2.2.2.2.1 (lw_V q1186 q1188 qs24 q127 q1189) rfl rfl rfl (by decide +kernel) ⟨Nat.le_of_ble_eq_true rfl, Nat.le_of_ble_eq_true rfl⟩) rfl hl (k8 := 0) (cs0 (k := 0)) (by decide) hd135 dX9_go_16 rfl (fun r136 ι137 H locs hF hP => ?_)
      refine lv_bipush (v := 32) X.1 X.2.1 dX9_go_19 (by decide) ?_
      refine lv_icmp_eq (tgt := 37) X.1 X.2.1 dX9_go_21 (by decide) (fun c145 => ?_) (fun c145 => ?_)
      · have hF := hF.1 c145
        refine ph_aload_n (n := 0) X hl dX9_go_37 rfl rfl ?_
        refine ph_dup_r X dX9_go_38 ?_
        refine cg_geti 7 2 X in_X9 hP hm134 q1251 dX9_go_39 ?_
        refine lv_iconst (v := 1) X.1 X.2.1 dX9_go_42 (by decide) ?_
        refine lv_iadd X.1 X.2.1 dX9_go_43 ?_
        refine hg_puti 7 2 X in_X9 tyX9 tyX9_ok nmX9 hP hm134 q1251 dX9_go_44 rfl rfl hF (fun H locs ι139 hP hF => ?_)
        refine lv_goto (tgt := 0) X.1 X.2.1 dX9_go_47 (by decide) ?_
        exact ih _ _ _ _ _ _ _ _ _ hF X hP hag hl
      · have hF := hF.2 c145
        refine ph_aload_n (n := 0) X hl dX9_go_24 rfl rfl ?_
        refine ph_aload_n (n := 0) X hl dX9_go_25 rfl rfl ?_
        refine cg_geti 7 2 X in_X9 hP hm134 q1251 dX9_go_26 ?_
        refine cg_callVi 7 [iX (ι137 x0 2)] X hP hm134 (met_X9_byteAt l D dA ad g _ _ hF) (cwV 1 X.2.2.2.2.1 (lw_V q1186 q1188 qs24 q127 q1189) rfl rfl rfl (by decide +kernel) ⟨Nat.le_of_ble_eq_true rfl, Nat.le_of_ble_eq_true rfl⟩) rfl hl (k8 := 0) (cs0 (k := 0)) (by decide) hd135 dX9_go_29 rfl (fun r140 ι141 H locs hF hP => ?_)
        refine lv_bipush (v := 10) X.1 X.2.1 dX9_go_32 (by decide) ?_
        refine lv_icmp_ne (tgt := 50) X.1 X.2.1 dX9_go_34 (by decide) (fun c144 => ?_) (fun c144 => ?_)
        · have hF := hF.1 c144
          exact w_X9_go_50 hnm _ _ _ _ _ _ _ _ _ hF X hP hag hl
        · have hF := hF.2 c144
          refine ph_aload_n (n := 0) X hl dX9_go_37 rfl rfl ?_
          refine ph_dup_r X dX9_go_38 ?_
          refine cg_geti 7 2 X in_X9 hP hm134 q1251 dX9_go_39 ?_
          refine lv_iconst (v := 1) X.1 X.2.1 dX9_go_42 (by decide) ?_
          refine lv_iadd X.1 X.2.1 dX9_go_43 ?_
          refine hg_puti 7 2 X in_X9 tyX9 tyX9_ok nmX9 hP hm134 q1251 dX9_go_44 rfl rfl hF (fun H locs ι143 hP hF => ?_)
          refine lv_goto (tgt := 0) X.1 X.2.1 dX9_go_47 (by decide) ?_
          exact ih _ _ _ _ _ _ _ _ _ hF X hP hag hl
set_option maxHeartbeats 2000000 in
theorem we_X9_go (hnm : meth.name = "go") {BC BS : Nat} {Q : GT → S → Prop} : ∀ (a0 : Nat) (g : GT) (ι : S) (ad : Nat → Nat) (H : Heap) (locs : List Loc) (ls : Array Slot), P_X9_go BC BS a0 g ι Q → CX p s m args c meth cX9_go 3 none RX9 D dA ad A → PW D dA A s.heap ad (HS g ι) H locs → HA ad0 g0 ad g → LH ad ls 3 [(0, pX a0)] → WHv p l e ({ frames := 6, cells := BC, slots := BS, locals := 171 } : Room) s m args below meth c D dA ad0 g0 A Q BC BS H locs (0) (0) (F0 m 0 ls []) := by
  intro a0 g ι ad H locs ls hF X hP hag hl
  unfold P_X9_go at hF
  obtain ⟨n9, hF⟩ := hF
  exact w_X9_go_0 hnm n9 _ _ _ _ _ _ _ _ _ hF X hP hag hl
set_option maxHeartbeats 2000000 in
theorem met_X9_go (l : Launch) (D : va_G) (dA : Nat → ClassId) (ad : Nat → Nat) (BC BS : Nat) (g : GT) (ι : S) (sz : Nat) {a0 : Nat} {Q : GT → S → Prop} (hF : P_X9_go BC BS a0 g ι Q) : CHv l yX9_go cX9_go 3 ({ frames := 6, cells := BC, slots := BS, locals := 171 } : Room) D dA ad g ι sz [pX a0] Q BC BS := by
  refine ph_enter [pX a0] (Qc := fun A => HPv D dA ad g A Q) (by decide +kernel) (Nat.le_of_ble_eq_true rfl) ?_
  intro p e s m args below meth c A ls X hP hl hnm
  have hnm : meth.name = "go" := hnm
  exact we_X9_go hnm _ _ _ _ _ _ _ hF X hP HA.rf hl
def P_X9_init (BC BS : Nat) (a0 : Nat) (a1 : Nat) (a2 : Int32) (g : GT) (ι : S) (Q : GT → S → Prop) : Prop := (gK g a0 = 8 ∧ (∀ g2, g2 = setg g a0 7 59 → (a1 < 200 + gN g2 ∧ (a0 < 200 + gN g2 ∧ ((1 ≤ BC ∧ 4 ≤ BS) ∧ (∀ g7 ι8, g7 = newg g2 102 4 → ι8 = newi g2 ι → (∀ g11, g11 = setg g7 a0 8 (200 + gN g2) → (∀ g13, g13 = setg g11 a0 0 a1 → (∀ ι15, ι15 = up2 ι8 a0 1 a2 → (∃ b16 d17, ((1 + b16 ≤ BC ∧ 4 + d17 ≤ BS) ∧ (P_X9_go b16 d17 a0 g13 ι15 (fun g19 ι20 => (Q g19 ι20))))))))))))))
set_option maxHeartbeats 2000000 in
theorem we_X9_init (hnm : meth.name = "<init>") {BC BS : Nat} {Q : GT → S → Prop} : ∀ (a0 : Nat) (a1 : Nat) (a2 : Int32) (g : GT) (ι : S) (ad : Nat → Nat) (H : Heap) (locs : List Loc) (ls : Array Slot), P_X9_init BC BS a0 a1 a2 g ι Q → CX p s m args c meth cX9_init 3 none RX9 D dA ad A → PW D dA A s.heap ad (HS g ι) H locs → HA ad0 g0 ad g → LH ad ls 3 [(0, pX a0), (1, pX a1), (2, iX a2)] → WHv p l e ({ frames := 7, cells := BC, slots := BS, locals := 193 } : Room) s m args below meth c D dA ad0 g0 A Q BC BS H locs (0) (0) (F0 m 0 ls []) := by
  intro a0 a1 a2 g ι ad H locs ls hF X hP hag hl
  unfold P_X9_init at hF
  refine ph_aload_n (n := 0) X hl dX9_init_0 rfl rfl ?_
  obtain ⟨hm1, hF⟩ := hF
  refine hg_obj X hl (cg_nz hP hm1 (by decide)) q1180 q146 (k8 := 0) (cs0 (k := 0)) (by decide) ⟨Nat.le_of_ble_eq_true rfl, Nat.le_of_ble_eq_true rfl⟩ dX9_init_1 ?_
  refine ph_aload_n (n := 0) X hl dX9_init_4 rfl rfl ?_
  refine ph_ldcS (i := 29) (tx := "") X (List.mem_of_getElem? (i := 20) rfl) dX9_init_5 ?_
  refine hg_putr 7 7 X in_X9 tyX9 tyX9_ok nmX9 hP hm1 q1256 dX9_init_7 (ltk (by decide)) hF (fun H locs g2 hP he3 hF => ?_) (Or.inl ⟨_, rfl⟩)
  have hag : HA ad0 g0 ad g2 := ⟨by rw [he3.1]; exact hag.1, hag.2⟩
  refine ph_aload_n (n := 0) X hl dX9_init_10 rfl rfl ?_
  refine lv_iconst (v := 4) X.1 X.2.1 dX9_init_11 (by decide) ?_
  obtain ⟨hx4, hF⟩ := hF
  obtain ⟨hx5, hF⟩ := hF
  obtain ⟨hd6, hF⟩ := hF
  refine hg_newaZ [pX a0] X hP hag hl (ltlp hx5 (ltlp hx4 (ltli ltln))) (ltsp hx5 ltsn) q1277 (by decide) (by decide) (Nat.le_of_ble_eq_true rfl) hd6 dX9_init_12 rfl hF (fun H ad g7 ι8 X hP hag he9 hk10 hl hF => ?_)
  show WHv p l e ({ frames := 7, cells := BC, slots := BS, locals := 193 } : Room) s m args below meth c D dA ad0 g0 A Q BC BS H locs (1) (4) (F0 m 14 ls [rv ad (200 + gN g2), rv ad a0])
  refine hg_putrF 7 8 X in_X9 tyX9 tyX9_ok nmX9 hP (by rw [hk10.2 _ hx5]; exact (by rw [he3.2.1]; exact hm1)) q1257 hnm dX9_init_14 (ltw he9) hF (fun H locs g11 hP he12 hF => ?_) (Or.inr ⟨_, rfl⟩)
  have hag : HA ad0 g0 ad g11 := ⟨by rw [he12.1]; exact hag.1, hag.2⟩
  refine ph_aload_n (n := 0) X hl dX9_init_17 rfl rfl ?_
  refine ph_aload_n (n := 1) X hl dX9_init_18 rfl rfl ?_
  refine hg_putrF 7 0 X in_X9 tyX9 tyX9_ok nmX9 hP (by rw [he12.2.1]; exact (by rw [hk10.2 _ hx5]; exact (by rw [he3.2.1]; exact hm1))) q1249 hnm dX9_init_19 (ltm (ltm hx4 (Nat.le_of_succ_le he9)) (Nat.le_of_eq he12.1.symm)) hF (fun H locs g13 hP he14 hF => ?_) (Or.inr ⟨_, rfl⟩)
  have hag : HA ad0 g0 ad g13 := ⟨by rw [he14.1]; exact hag.1, hag.2⟩
  refine ph_aload_n (n := 0) X hl dX9_init_22 rfl rfl ?_
  refine ph_iload_n (n := 2) X hl dX9_init_23 rfl rfl ?_
  refine hg_putiF 7 1 X in_X9 tyX9 tyX9_ok nmX9 hP (by rw [he14.2.1]; exact (by rw [he12.2.1]; exact (by rw [hk10.2 _ hx5]; exact (by rw [he3.2.1]; exact hm1)))) q1250 hnm dX9_init_24 rfl rfl hF (fun H locs ι15 hP hF => ?_)
  refine ph_aload_n (n := 0) X hl dX9_init_27 rfl rfl ?_
  obtain ⟨b16, d17, hF⟩ := hF
  obtain ⟨hd18, hF⟩ := hF
  have hl : LH ad ls 3 [] := lh_sub hl [] rfl
  refine hg_callVv 7 [] [] X hP (by rw [he14.2.1]; exact (by rw [he12.2.1]; exact (by rw [hk10.2 _ hx5]; exact (by rw [he3.2.1]; exact hm1)))) (met_X9_go l D dA ad _ _ _ _ _ hF) (cwV 0 X.2.2.2.2.1 (lw_V q1182 q1184 qs23 q127 q1185) rfl rfl rfl (by decide +kernel) ⟨Nat.le_of_ble_eq_true rfl, Nat.le_of_ble_eq_true rfl⟩) rfl hag hl ltln ltsn (k8 := 0) (cs0 (k := 0)) (by decide) hd18 dX9_init_28 rfl (fun ad g19 ι20 H locs hF X hP hag he21 hl => ?_)
  show WHv p l e ({ frames := 7, cells := BC, slots := BS, locals := 193 } : Room) s m args below meth c D dA ad0 g0 A Q BC BS H locs (1 + b16) (4 + d17) (F0 m 31 ls [])
  exact hg_vret X hP hag hF hd18.1 hd18.2 dX9_init_31
set_option maxHeartbeats 2000000 in
theorem met_X9_init (l : Launch) (D : va_G) (dA : Nat → ClassId) (ad : Nat → Nat) (BC BS : Nat) (g : GT) (ι : S) (sz : Nat) {a0 : Nat} {a1 : Nat} {a2 : Int32} {Q : GT → S → Prop} (hF : P_X9_init BC BS a0 a1 a2 g ι Q) : CHv l yX9_init cX9_init 3 ({ frames := 7, cells := BC, slots := BS, locals := 193 } : Room) D dA ad g ι sz [pX a0, pX a1, iX a2] Q BC BS := by
  refine ph_enter [pX a0, pX a1, iX a2] (Qc := fun A => HPv D dA ad g A Q) (by decide +kernel) (Nat.le_of_ble_eq_true rfl) ?_
  intro p e s m args below meth c A ls X hP hl hnm
  have hnm : meth.name = "<init>" := hnm
  exact we_X9_init hnm _ _ _ _ _ _ _ _ _ hF X hP HA.rf hl
def P_X1_init (BC BS : Nat) (a0 : Nat) (g : GT) (ι : S) (Q : GT → S → Prop) : Prop := (gK g a0 = 2 ∧ (a0 < 200 + gN g ∧ ((1 ≤ BC ∧ 10 ≤ BS) ∧ (∀ g4 ι5, g4 = newg g 3 0 → ι5 = newi g ι → (∃ b8 d9, ((1 + b8 ≤ BC ∧ 10 + d9 ≤ BS) ∧ (P_X2_init b8 d9 (200 + gN g) g4 ι5 (fun g11 ι12 => (gK g11 a0 = 2 ∧ (∀ g17, g17 = setg g11 a0 0 (200 + gN g) → ((1 + b8 + 1 ≤ BC ∧ 10 + d9 + 8 ≤ BS) ∧ (∀ g20 ι21, g20 = newg g17 5 0 → ι21 = newi g17 ι12 → (∃ b24 d25, ((1 + b8 + 1 + b24 ≤ BC ∧ 10 + d9 + 8 + d25 ≤ BS) ∧ (P_X5_init b24 d25 (200 + gN g17) g20 ι21 (fun g27 ι28 => (gK g27 a0 = 2 ∧ (∀ g33, g33 = setg g27 a0 1 (200 + gN g17) → ((1 + b8 + 1 + b24 + 1 ≤ BC ∧ 10 + d9 + 8 + d25 + 8 ≤ BS) ∧ (∀ g37 ι38, g37 = newg g33 5 0 → ι38 = newi g33 ι28 → (∃ b41 d42, ((1 + b8 + 1 + b24 + 1 + b41 ≤ BC ∧ 10 + d9 + 8 + d25 + 8 + d42 ≤ BS) ∧ (P_X5_init b41 d42 (200 + gN g33) g37 ι38 (fun g44 ι45 => (gK g44 a0 = 2 ∧ (∀ g50, g50 = setg g44 a0 2 (200 + gN g33) → (gK g50 (gR g50 a0 1) = 5 ∧ (∀ g55, g55 = setg g50 a0 3 (gR g50 (gR g50 a0 1) 0) → ((1 + b8 + 1 + b24 + 1 + b41 + 1 ≤ BC ∧ 10 + d9 + 8 + d25 + 8 + d42 + 8 ≤ BS) ∧ (∀ g58 ι59, g58 = newg g55 6 0 → ι59 = newi g55 ι45 → ((1 + b8 + 1 + b24 + 1 + b41 + 3 ≤ BC ∧ 10 + d9 + 8 + d25 + 8 + d42 + 22 ≤ BS) ∧ (P_X6_init 2 14 (200 + gN g55) g58 ι59 (fun g63 ι64 => (gK g63 a0 = 2 ∧ (∀ g69, g69 = setg g63 a0 4 (200 + gN g55) → ((1 + b8 + 1 + b24 + 1 + b41 + 4 ≤ BC ∧ 10 + d9 + 8 + d25 + 8 + d42 + 1222 ≤ BS) ∧ (∀ g73 ι74, g73 = newg g69 100 1200 → ι74 = newi g69 ι64 → (∀ g77, g77 = setg g73 a0 5 (200 + gN g69) → ((1 + b8 + 1 + b24 + 1 + b41 + 5 ≤ BC ∧ 10 + d9 + 8 + d25 + 8 + d42 + 2422 ≤ BS) ∧ (∀ g80 ι81, g80 = newg g77 100 1200 → ι81 = newi g77 ι74 → (∀ g85, g85 = setg g80 a0 6 (200 + gN g77) → ((1 + b8 + 1 + b24 + 1 + b41 + 6 ≤ BC ∧ 10 + d9 + 8 + d25 + 8 + d42 + 3622 ≤ BS) ∧ (∀ g88 ι89, g88 = newg g85 100 1200 → ι89 = newi g85 ι81 → (∀ g93, g93 = setg g88 a0 7 (200 + gN g85) → ((1 + b8 + 1 + b24 + 1 + b41 + 7 ≤ BC ∧ 10 + d9 + 8 + d25 + 8 + d42 + 4822 ≤ BS) ∧ (∀ g97 ι98, g97 = newg g93 100 1200 → ι98 = newi g93 ι89 → (∀ g101, g101 = setg g97 a0 8 (200 + gN g93) → ((1 + b8 + 1 + b24 + 1 + b41 + 8 ≤ BC ∧ 10 + d9 + 8 + d25 + 8 + d42 + 4822 ≤ BS) ∧ (∀ g104 ι105, g104 = newg g101 100 0 → ι105 = newi g101 ι98 → (∀ g109, g109 = setg g104 a0 9 (200 + gN g101) → ((1 + b8 + 1 + b24 + 1 + b41 + 9 ≤ BC ∧ 10 + d9 + 8 + d25 + 8 + d42 + 4837 ≤ BS) ∧ (∀ g112 ι113, g112 = newg g109 7 0 → ι113 = newi g109 ι105 → ((1 + b8 + 1 + b24 + 1 + b41 + 14 ≤ BC ∧ 10 + d9 + 8 + d25 + 8 + d42 + 4872 ≤ BS) ∧ (P_X7_init 5 35 (200 + gN g109) (gR g112 a0 0) (gR g112 a0 3) (gR g112 a0 5) (gR g112 a0 6) (gR g112 a0 7) (gR g112 a0 8) g112 ι113 (fun g125 ι126 => (gK g125 a0 = 2 ∧ (∀ g131, g131 = setg g125 a0 10 (200 + gN g109) → ((1 + b8 + 1 + b24 + 1 + b41 + 15 ≤ BC ∧ 10 + d9 + 8 + d25 + 8 + d42 + 4887 ≤ BS) ∧ (∀ g134 ι135, g134 = newg g131 7 0 → ι135 = newi g131 ι126 → ((1 + b8 + 1 + b24 + 1 + b41 + 20 ≤ BC ∧ 10 + d9 + 8 + d25 + 8 + d42 + 4922 ≤ BS) ∧ (P_X7_init 5 35 (200 + gN g131) (gR g134 a0 0) (gR g134 a0 4) (gR g134 a0 9) (gR g134 a0 9) (gR g134 a0 9) (gR g134 a0 9) g134 ι135 (fun g145 ι146 => (gK g145 a0 = 2 ∧ (∀ g151, g151 = setg g145 a0 11 (200 + gN g131) → ((1 + b8 + 1 + b24 + 1 + b41 + 21 ≤ BC ∧ 10 + d9 + 8 + d25 + 8 + d42 + 5522 ≤ BS) ∧ (∀ g154 ι155, g154 = newg g151 101 600 → ι155 = newi g151 ι146 → (∀ g159, g159 = setg g154 a0 13 (200 + gN g151) → (∀ ι161, ι161 = up2 ι155 a0 15 (-1) → ((1 + b8 + 1 + b24 + 1 + b41 + 22 ≤ BC ∧ 10 + d9 + 8 + d25 + 8 + d42 + 5529 ≤ BS) ∧ (∀ g164 ι165, g164 = newg g159 100 7 → ι165 = newi g159 ι161 → (∀ g168, g168 = setg g164 a0 16 (200 + gN g159) → ((1 + b8 + 1 + b24 + 1 + b41 + 23 ≤ BC ∧ 10 + d9 + 8 + d25 + 8 + d42 + 5536 ≤ BS) ∧ (∀ g171 ι172, g171 = newg g168 100 7 → ι172 = newi g168 ι165 → (∀ g176, g176 = setg g171 a0 17 (200 + gN g168) → ((1 + b8 + 1 + b24 + 1 + b41 + 24 ≤ BC ∧ 10 + d9 + 8 + d25 + 8 + d42 + 5543 ≤ BS) ∧ (∀ g179 ι180, g179 = newg g176 100 7 → ι180 = newi g176 ι172 → (∀ g184, g184 = setg g179 a0 19 (200 + gN g176) → (gK g184 (gR g184 a0 3) = 6 ∧ (P_X6_begins g184 (gR g184 a0 3) (gR g184 a0 0) ι180 (fun ι189 => (Q g184 ι189)))))))))))))))))))))))))))))))))))))))))))))))))))))))))))))))))))))))))))))))))
set_option maxHeartbeats 2000000 in
theorem we_X1_init (hnm : meth.name = "<init>") {BC BS : Nat} {Q : GT → S → Prop} : ∀ (a0 : Nat) (g : GT) (ι : S) (ad : Nat → Nat) (H : Heap) (locs : List Loc) (ls : Array Slot), P_X1_init BC BS a0 g ι Q → CX p s m args c meth cX1_init 1 none RX1 D dA ad A → PW D dA A s.heap ad (HS g ι) H locs → HA ad0 g0 ad g → LH ad ls 1 [(0, pX a0)] → WHv p l e ({ frames := 8, cells := BC, slots := BS, locals := 212 } : Room) s m args below meth c D dA ad0 g0 A Q BC BS H locs (0) (0) (F0 m 0 ls []) := by
  intro a0 g ι ad H locs ls hF X hP hag hl
  unfold P_X1_init at hF
  refine ph_aload_n (n := 0) X hl dX1_init_0 rfl rfl ?_
  obtain ⟨hm1, hF⟩ := hF
  refine hg_obj X hl (cg_nz hP hm1 (by decide)) q145 q146 (k8 := 0) (cs0 (k := 0)) (by decide) ⟨Nat.le_of_ble_eq_true rfl, Nat.le_of_ble_eq_true rfl⟩ dX1_init_1 ?_
  refine ph_aload_n (n := 0) X hl dX1_init_4 rfl rfl ?_
  obtain ⟨hx2, hF⟩ := hF
  obtain ⟨hd3, hF⟩ := hF
  refine hg_new 2 [pX a0] X hP hag hl (ltlp hx2 ltln) (ltsp hx2 ltsn) in_X2 tyX2 tyX2_ok (by decide +kernel) q148 q149 q99 hd3 dX1_init_5 rfl hF (fun H ad g4 ι5 X hP hag he6 hk7 hl hF => ?_)
  show WHv p l e ({ frames := 8, cells := BC, slots := BS, locals := 212 } : Room) s m args below meth c D dA ad0 g0 A Q BC BS H locs (1) (10) (F0 m 8 ls [rv ad (200 + gN g), rv ad a0])
  refine ph_dup_r X dX1_init_8 ?_
  obtain ⟨b8, d9, hF⟩ := hF
  obtain ⟨hd10, hF⟩ := hF
  refine hg_callN [] [pX (200 + gN g), pX a0] X hP (cg_nz hP hk7.1 (by decide)) (met_X2_init l D dA ad _ _ _ _ _ hF) (⟨va_cnB 0 X.2.2.2.2.1 (lw_meth q152) rfl rfl rfl (X.2.2.2.2.2.2.1.2.1 _ q150 rfl) (X.2.2.2.2.1 _ q99) (by decide +kernel) ⟨Nat.le_of_ble_eq_true rfl, Nat.le_of_ble_eq_true rfl⟩, rfl, X.2.2.2.2.1 _ q151⟩) rfl hag hl (ltlp (ltm hx2 (Nat.le_of_succ_le he6)) ltln) (ltsp (ltw he6) (ltsp (ltm hx2 (Nat.le_of_succ_le he6)) ltsn)) (k8 := 2) (csr (csr (cs0 (k := 0)))) (by decide) hd10 dX1_init_9 rfl (fun ad g11 ι12 H locs hF X hP hag he13 hl => ?_)
  show WHv p l e ({ frames := 8, cells := BC, slots := BS, locals := 212 } : Room) s m args below meth c D dA ad0 g0 A Q BC BS H locs (1 + b8) (10 + d9) (F0 m 12 ls [rv ad (200 + gN g), rv ad a0])
  obtain ⟨hm16, hF⟩ := hF
  refine hg_putr 1 0 X in_X1 tyX1 tyX1_ok nmX1 hP hm16 q799 dX1_init_12 (ltm (ltw he6) he13) hF (fun H locs g17 hP he18 hF => ?_) (Or.inl ⟨_, rfl⟩)
  have hag : HA ad0 g0 ad g17 := ⟨by rw [he18.1]; exact hag.1, hag.2⟩
  refine ph_aload_n (n := 0) X hl dX1_init_15 rfl rfl ?_
  obtain ⟨hd19, hF⟩ := hF
  refine hg_new 4 [pX a0] X hP hag hl (ltlp (ltm (ltm (ltm hx2 (Nat.le_of_succ_le he6)) he13) (Nat.le_of_eq he18.1.symm)) ltln) (ltsp (ltm (ltm (ltm hx2 (Nat.le_of_succ_le he6)) he13) (Nat.le_of_eq he18.1.symm)) ltsn) in_X5 tyX5 tyX5_ok (by decide +kernel) q568 q569 q122 hd19 dX1_init_16 rfl hF (fun H ad g20 ι21 X hP hag he22 hk23 hl hF => ?_)
  show WHv p l e ({ frames := 8, cells := BC, slots := BS, locals := 212 } : Room) s m args below meth c D dA ad0 g0 A Q BC BS H locs (1 + b8 + 1) (10 + d9 + 8) (F0 m 19 ls [rv ad (200 + gN g17), rv ad a0])
  refine ph_dup_r X dX1_init_19 ?_
  obtain ⟨b24, d25, hF⟩ := hF
  obtain ⟨hd26, hF⟩ := hF
  refine hg_callI [] [pX (200 + gN g17), pX a0] X hP (cg_nz hP hk23.1 (by decide)) (met_X5_init l D dA ad _ _ _ _ _ hF) (cwI 0 X.2.2.2.2.1 (lw_meth q572) rfl rfl rfl (X.2.2.2.2.1 _ q122) (X.2.2.2.2.1 _ q570) (X.2.2.2.2.1 _ q571) rfl (by decide +kernel) ⟨Nat.le_of_ble_eq_true rfl, Nat.le_of_ble_eq_true rfl⟩) rfl hag hl (ltlp (ltm (ltm (ltm (ltm hx2 (Nat.le_of_succ_le he6)) he13) (Nat.le_of_eq he18.1.symm)) (Nat.le_of_succ_le he22)) ltln) (ltsp (ltw he22) (ltsp (ltm (ltm (ltm (ltm hx2 (Nat.le_of_succ_le he6)) he13) (Nat.le_of_eq he18.1.symm)) (Nat.le_of_succ_le he22)) ltsn)) (k8 := 2) (csr (csr (cs0 (k := 0)))) (by decide) hd26 dX1_init_20 rfl (fun ad g27 ι28 H locs hF X hP hag he29 hl => ?_)
  show WHv p l e ({ frames := 8, cells := BC, slots := BS, locals := 212 } : Room) s m args below meth c D dA ad0 g0 A Q BC BS H locs (1 + b8 + 1 + b24) (10 + d9 + 8 + d25) (F0 m 23 ls [rv ad (200 + gN g17), rv ad a0])
  obtain ⟨hm32, hF⟩ := hF
  refine hg_putrF 1 1 X in_X1 tyX1 tyX1_ok nmX1 hP hm32 q800 hnm dX1_init_23 (ltm (ltw he22) he29) hF (fun H locs g33 hP he34 hF => ?_) (Or.inl ⟨_, rfl⟩)
  have hag : HA ad0 g0 ad g33 := ⟨by rw [he34.1]; exact hag.1, hag.2⟩
  refine ph_aload_n (n := 0) X hl dX1_init_26 rfl rfl ?_
  have hx35 : a0 < 200 + gN g33 := (ltm (ltm (ltm (ltm (ltm (ltm hx2 (Nat.le_of_succ_le he6)) he13) (Nat.le_of_eq he18.1.symm)) (Nat.le_of_succ_le he22)) he29) (Nat.le_of_eq he34.1.symm))
  obtain ⟨hd36, hF⟩ := hF
  refine hg_new 4 [pX a0] X hP hag hl (ltlp hx35 ltln) (ltsp hx35 ltsn) in_X5 tyX5 tyX5_ok (by decide +kernel) q568 q569 q122 hd36 dX1_init_27 rfl hF (fun H ad g37 ι38 X hP hag he39 hk40 hl hF => ?_)
  show WHv p l e ({ frames := 8, cells := BC, slots := BS, locals := 212 } : Room) s m args below meth c D dA ad0 g0 A Q BC BS H locs (1 + b8 + 1 + b24 + 1) (10 + d9 + 8 + d25 + 8) (F0 m 30 ls [rv ad (200 + gN g33), rv ad a0])
  refine ph_dup_r X dX1_init_30 ?_
  obtain ⟨b41, d42, hF⟩ := hF
  obtain ⟨hd43, hF⟩ := hF
  refine hg_callI [] [pX (200 + gN g33), pX a0] X hP (cg_nz hP hk40.1 (by decide)) (met_X5_init l D dA ad _ _ _ _ _ hF) (cwI 0 X.2.2.2.2.1 (lw_meth q572) rfl rfl rfl (X.2.2.2.2.1 _ q122) (X.2.2.2.2.1 _ q570) (X.2.2.2.2.1 _ q571) rfl (by decide +kernel) ⟨Nat.le_of_ble_eq_true rfl, Nat.le_of_ble_eq_true rfl⟩) rfl hag hl (ltlp (ltm hx35 (Nat.le_of_succ_le he39)) ltln) (ltsp (ltw he39) (ltsp (ltm hx35 (Nat.le_of_succ_le he39)) ltsn)) (k8 := 2) (csr (csr (cs0 (k := 0)))) (by decide) hd43 dX1_init_31 rfl (fun ad g44 ι45 H locs hF X hP hag he46 hl => ?_)
  show WHv p l e ({ frames := 8, cells := BC, slots := BS, locals := 212 } : Room) s m args below meth c D dA ad0 g0 A Q BC BS H locs (1 + b8 + 1 + b24 + 1 + b41) (10 + d9 + 8 + d25 + 8 + d42) (F0 m 34 ls [rv ad (200 + gN g33), rv ad a0])
  obtain ⟨hm49, hF⟩ := hF
  refine hg_putrF 1 2 X in_X1 tyX1 tyX1_ok nmX1 hP hm49 q801 hnm dX1_init_34 (ltm (ltw he39) he46) hF (fun H locs g50 hP he51 hF => ?_) (Or.inl ⟨_, rfl⟩)
  have hag : HA ad0 g0 ad g50 := ⟨by rw [he51.1]; exact hag.1, hag.2⟩
  refine ph_aload_n (n := 0) X hl dX1_init_37 rfl rfl ?_
  refine ph_aload_n (n := 0) X hl dX1_init_38 rfl rfl ?_
  have hv52 := gR_lt hP a0 1
  refine cg_getr 1 1 X in_X1 hP (by rw [he51.2.1]; exact hm49) q800 dX1_init_39 ?_
  obtain ⟨hm53, hF⟩ := hF
  have hv54 := gR_lt hP (gR g50 a0 1) 0
  refine cg_getrN 4 0 X in_X5 hP hm53 q677 dX1_init_42 ?_
  refine hg_putrF 1 3 X in_X1 tyX1 tyX1_ok nmX1 hP (by rw [he51.2.1]; exact hm49) q802 hnm dX1_init_45 hv54 hF (fun H locs g55 hP he56 hF => ?_) (Or.inl ⟨_, rfl⟩)
  have hag : HA ad0 g0 ad g55 := ⟨by rw [he56.1]; exact hag.1, hag.2⟩
  refine ph_aload_n (n := 0) X hl dX1_init_48 rfl rfl ?_
  obtain ⟨hd57, hF⟩ := hF
  refine hg_new 5 [pX a0] X hP hag hl (ltlp (ltm (ltm (ltm (ltm hx35 (Nat.le_of_succ_le he39)) he46) (Nat.le_of_eq he51.1.symm)) (Nat.le_of_eq he56.1.symm)) ltln) (ltsp (ltm (ltm (ltm (ltm hx35 (Nat.le_of_succ_le he39)) he46) (Nat.le_of_eq he51.1.symm)) (Nat.le_of_eq he56.1.symm)) ltsn) in_X6 tyX6 tyX6_ok (by decide +kernel) q709 q575 q123 hd57 dX1_init_49 rfl hF (fun H ad g58 ι59 X hP hag he60 hk61 hl hF => ?_)
  show WHv p l e ({ frames := 8, cells := BC, slots := BS, locals := 212 } : Room) s m args below meth c D dA ad0 g0 A Q BC BS H locs (1 + b8 + 1 + b24 + 1 + b41 + 1) (10 + d9 + 8 + d25 + 8 + d42 + 8) (F0 m 52 ls [rv ad (200 + gN g55), rv ad a0])
  refine ph_dup_r X dX1_init_52 ?_
  obtain ⟨hd62, hF⟩ := hF
  refine hg_callN [] [pX (200 + gN g55), pX a0] X hP (cg_nz hP hk61.1 (by decide)) (met_X6_init l D dA ad _ _ _ _ _ hF) (⟨va_cnB 0 X.2.2.2.2.1 (lw_meth q578) rfl rfl rfl (X.2.2.2.2.2.2.1.2.1 _ q710 rfl) (X.2.2.2.2.1 _ q123) (by decide +kernel) ⟨Nat.le_of_ble_eq_true rfl, Nat.le_of_ble_eq_true rfl⟩, rfl, X.2.2.2.2.1 _ q577⟩) rfl hag hl (ltlp (ltm (ltm (ltm (ltm (ltm hx35 (Nat.le_of_succ_le he39)) he46) (Nat.le_of_eq he51.1.symm)) (Nat.le_of_eq he56.1.symm)) (Nat.le_of_succ_le he60)) ltln) (ltsp (ltw he60) (ltsp (ltm (ltm (ltm (ltm (ltm hx35 (Nat.le_of_succ_le he39)) he46) (Nat.le_of_eq he51.1.symm)) (Nat.le_of_eq he56.1.symm)) (Nat.le_of_succ_le he60)) ltsn)) (k8 := 2) (csr (csr (cs0 (k := 0)))) (by decide) hd62 dX1_init_53 rfl (fun ad g63 ι64 H locs hF X hP hag he65 hl => ?_)
  show WHv p l e ({ frames := 8, cells := BC, slots := BS, locals := 212 } : Room) s m args below meth c D dA ad0 g0 A Q BC BS H locs (1 + b8 + 1 + b24 + 1 + b41 + 3) (10 + d9 + 8 + d25 + 8 + d42 + 22) (F0 m 56 ls [rv ad (200 + gN g55), rv ad a0])
  obtain ⟨hm68, hF⟩ := hF
  refine hg_putrF 1 4 X in_X1 tyX1 tyX1_ok nmX1 hP hm68 q803 hnm dX1_init_56 (ltm (ltw he60) he65) hF (fun H locs g69 hP he70 hF => ?_) (Or.inl ⟨_, rfl⟩)
  have hag : HA ad0 g0 ad g69 := ⟨by rw [he70.1]; exact hag.1, hag.2⟩
  refine ph_aload_n (n := 0) X hl dX1_init_59 rfl rfl ?_
  refine lv_sipush (v := 1200) X.1 X.2.1 dX1_init_60 (by decide) ?_
  have hx71 : a0 < 200 + gN g69 := (ltm (ltm (ltm (ltm (ltm (ltm (ltm hx35 (Nat.le_of_succ_le he39)) he46) (Nat.le_of_eq he51.1.symm)) (Nat.le_of_eq he56.1.symm)) (Nat.le_of_succ_le he60)) he65) (Nat.le_of_eq he70.1.symm))
  obtain ⟨hd72, hF⟩ := hF
  refine hg_newaI [pX a0] X hP hag hl (ltlp hx71 ltln) (ltsp hx71 ltsn) q516 (by decide) (by decide) (Nat.le_of_ble_eq_true rfl) hd72 dX1_init_63 rfl hF (fun H ad g73 ι74 X hP hag he75 hk76 hl hF => ?_)
  show WHv p l e ({ frames := 8, cells := BC, slots := BS, locals := 212 } : Room) s m args below meth c D dA ad0 g0 A Q BC BS H locs (1 + b8 + 1 + b24 + 1 + b41 + 4) (10 + d9 + 8 + d25 + 8 + d42 + 1222) (F0 m 65 ls [rv ad (200 + gN g69), rv ad a0])
  refine hg_putrF 1 5 X in_X1 tyX1 tyX1_ok nmX1 hP (by rw [hk76.2 _ hx71]; exact (by rw [he70.2.1]; exact hm68)) q804 hnm dX1_init_65 (ltw he75) hF (fun H locs g77 hP he78 hF => ?_) (Or.inr ⟨_, rfl⟩)
  have hag : HA ad0 g0 ad g77 := ⟨by rw [he78.1]; exact hag.1, hag.2⟩
  refine ph_aload_n (n := 0) X hl dX1_init_68 rfl rfl ?_
  refine lv_sipush (v := 1200) X.1 X.2.1 dX1_init_69 (by decide) ?_
  obtain ⟨hd79, hF⟩ := hF
  refine hg_newaI [pX a0] X hP hag hl (ltlp (ltm (ltm hx71 (Nat.le_of_succ_le he75)) (Nat.le_of_eq he78.1.symm)) ltln) (ltsp (ltm (ltm hx71 (Nat.le_of_succ_le he75)) (Nat.le_of_eq he78.1.symm)) ltsn) q516 (by decide) (by decide) (Nat.le_of_ble_eq_true rfl) hd79 dX1_init_72 rfl hF (fun H ad g80 ι81 X hP hag he82 hk83 hl hF => ?_)
  show WHv p l e ({ frames := 8, cells := BC, slots := BS, locals := 212 } : Room) s m args below meth c D dA ad0 g0 A Q BC BS H locs (1 + b8 + 1 + b24 + 1 + b41 + 5) (10 + d9 + 8 + d25 + 8 + d42 + 2422) (F0 m 74 ls [rv ad (200 + gN g77), rv ad a0])
  have hm84 : gK g80 a0 = 2 := (by rw [hk83.2 _ (ltm (ltm hx71 (Nat.le_of_succ_le he75)) (Nat.le_of_eq he78.1.symm))]; exact (by rw [he78.2.1]; exact (by rw [hk76.2 _ hx71]; exact (by rw [he70.2.1]; exact hm68))))
  refine hg_putrF 1 6 X in_X1 tyX1 tyX1_ok nmX1 hP hm84 q805 hnm dX1_init_74 (ltw he82) hF (fun H locs g85 hP he86 hF => ?_) (Or.inr ⟨_, rfl⟩)
  have hag : HA ad0 g0 ad g85 := ⟨by rw [he86.1]; exact hag.1, hag.2⟩
  refine ph_aload_n (n := 0) X hl dX1_init_77 rfl rfl ?_
  refine lv_sipush (v := 1200) X.1 X.2.1 dX1_init_78 (by decide) ?_
  obtain ⟨hd87, hF⟩ := hF
  refine hg_newaI [pX a0] X hP hag hl (ltlp (ltm (ltm (ltm (ltm hx71 (Nat.le_of_succ_le he75)) (Nat.le_of_eq he78.1.symm)) (Nat.le_of_succ_le he82)) (Nat.le_of_eq he86.1.symm)) ltln) (ltsp (ltm (ltm (ltm (ltm hx71 (Nat.le_of_succ_le he75)) (Nat.le_of_eq he78.1.symm)) (Nat.le_of_succ_le he82)) (Nat.le_of_eq he86.1.symm)) ltsn) q516 (by decide) (by decide) (Nat.le_of_ble_eq_true rfl) hd87 dX1_init_81 rfl hF (fun H ad g88 ι89 X hP hag he90 hk91 hl hF => ?_)
  show WHv p l e ({ frames := 8, cells := BC, slots := BS, locals := 212 } : Room) s m args below meth c D dA ad0 g0 A Q BC BS H locs (1 + b8 + 1 + b24 + 1 + b41 + 6) (10 + d9 + 8 + d25 + 8 + d42 + 3622) (F0 m 83 ls [rv ad (200 + gN g85), rv ad a0])
  have hm92 : gK g88 a0 = 2 := (by rw [hk91.2 _ (ltm (ltm (ltm (ltm hx71 (Nat.le_of_succ_le he75)) (Nat.le_of_eq he78.1.symm)) (Nat.le_of_succ_le he82)) (Nat.le_of_eq he86.1.symm))]; exact (by rw [he86.2.1]; exact hm84))
  refine hg_putrF 1 7 X in_X1 tyX1 tyX1_ok nmX1 hP hm92 q806 hnm dX1_init_83 (ltw he90) hF (fun H locs g93 hP he94 hF => ?_) (Or.inr ⟨_, rfl⟩)
  have hag : HA ad0 g0 ad g93 := ⟨by rw [he94.1]; exact hag.1, hag.2⟩
  refine ph_aload_n (n := 0) X hl dX1_init_86 rfl rfl ?_
  refine lv_sipush (v := 1200) X.1 X.2.1 dX1_init_87 (by decide) ?_
  have hx95 : a0 < 200 + gN g93 := (ltm (ltm (ltm (ltm (ltm (ltm hx71 (Nat.le_of_succ_le he75)) (Nat.le_of_eq he78.1.symm)) (Nat.le_of_succ_le he82)) (Nat.le_of_eq he86.1.symm)) (Nat.le_of_succ_le he90)) (Nat.le_of_eq he94.1.symm))
  obtain ⟨hd96, hF⟩ := hF
  refine hg_newaI [pX a0] X hP hag hl (ltlp hx95 ltln) (ltsp hx95 ltsn) q516 (by decide) (by decide) (Nat.le_of_ble_eq_true rfl) hd96 dX1_init_90 rfl hF (fun H ad g97 ι98 X hP hag he99 hk100 hl hF => ?_)
  show WHv p l e ({ frames := 8, cells := BC, slots := BS, locals := 212 } : Room) s m args below meth c D dA ad0 g0 A Q BC BS H locs (1 + b8 + 1 + b24 + 1 + b41 + 7) (10 + d9 + 8 + d25 + 8 + d42 + 4822) (F0 m 92 ls [rv ad (200 + gN g93), rv ad a0])
  refine hg_putrF 1 8 X in_X1 tyX1 tyX1_ok nmX1 hP (by rw [hk100.2 _ hx95]; exact (by rw [he94.2.1]; exact hm92)) q807 hnm dX1_init_92 (ltw he99) hF (fun H locs g101 hP he102 hF => ?_) (Or.inr ⟨_, rfl⟩)
  have hag : HA ad0 g0 ad g101 := ⟨by rw [he102.1]; exact hag.1, hag.2⟩
  refine ph_aload_n (n := 0) X hl dX1_init_95 rfl rfl ?_
  refine lv_iconst (v := 0) X.1 X.2.1 dX1_init_96 (by decide) ?_
  obtain ⟨hd103, hF⟩ := hF
  refine hg_newaI [pX a0] X hP hag hl (ltlp (ltm (ltm hx95 (Nat.le_of_succ_le he99)) (Nat.le_of_eq he102.1.symm)) ltln) (ltsp (ltm (ltm hx95 (Nat.le_of_succ_le he99)) (Nat.le_of_eq he102.1.symm)) ltsn) q516 (by decide) (by decide) (Nat.le_of_ble_eq_true rfl) hd103 dX1_init_97 rfl hF (fun H ad g104 ι105 X hP hag he106 hk107 hl hF => ?_)
  show WHv p l e ({ frames := 8, cells := BC, slots := BS, locals := 212 } : Room) s m args below meth c D dA ad0 g0 A Q BC BS H locs (1 + b8 + 1 + b24 + 1 + b41 + 8) (10 + d9 + 8 + d25 + 8 + d42 + 4822) (F0 m 99 ls [rv ad (200 + gN g101), rv ad a0])
  have hm108 : gK g104 a0 = 2 := (by rw [hk107.2 _ (ltm (ltm hx95 (Nat.le_of_succ_le he99)) (Nat.le_of_eq he102.1.symm))]; exact (by rw [he102.2.1]; exact (by rw [hk100.2 _ hx95]; exact (by rw [he94.2.1]; exact hm92))))
  refine hg_putrF 1 9 X in_X1 tyX1 tyX1_ok nmX1 hP hm108 q808 hnm dX1_init_99 (ltw he106) hF (fun H locs g109 hP he110 hF => ?_) (Or.inr ⟨_, rfl⟩)
  have hag : HA ad0 g0 ad g109 := ⟨by rw [he110.1]; exact hag.1, hag.2⟩
  refine ph_aload_n (n := 0) X hl dX1_init_102 rfl rfl ?_
  obtain ⟨hd111, hF⟩ := hF
  refine hg_new 6 [pX a0] X hP hag hl (ltlp (ltm (ltm (ltm (ltm hx95 (Nat.le_of_succ_le he99)) (Nat.le_of_eq he102.1.symm)) (Nat.le_of_succ_le he106)) (Nat.le_of_eq he110.1.symm)) ltln) (ltsp (ltm (ltm (ltm (ltm hx95 (Nat.le_of_succ_le he99)) (Nat.le_of_eq he102.1.symm)) (Nat.le_of_succ_le he106)) (Nat.le_of_eq he110.1.symm)) ltsn) in_X7 tyX7 tyX7_ok (by decide +kernel) q711 q712 q124 hd111 dX1_init_103 rfl hF (fun H ad g112 ι113 X hP hag he114 hk115 hl hF => ?_)
  show WHv p l e ({ frames := 8, cells := BC, slots := BS, locals := 212 } : Room) s m args below meth c D dA ad0 g0 A Q BC BS H locs (1 + b8 + 1 + b24 + 1 + b41 + 9) (10 + d9 + 8 + d25 + 8 + d42 + 4837) (F0 m 106 ls [rv ad (200 + gN g109), rv ad a0])
  refine ph_dup_r X dX1_init_106 ?_
  refine ph_aload_n (n := 0) X hl dX1_init_107 rfl rfl ?_
  have hm116 : gK g112 a0 = 2 := (by rw [hk115.2 _ (ltm (ltm (ltm (ltm hx95 (Nat.le_of_succ_le he99)) (Nat.le_of_eq he102.1.symm)) (Nat.le_of_succ_le he106)) (Nat.le_of_eq he110.1.symm))]; exact (by rw [he110.2.1]; exact hm108))
  have hv117 := gR_lt hP a0 0
  refine cg_getr 1 0 X in_X1 hP hm116 q799 dX1_init_108 ?_
  refine ph_aload_n (n := 0) X hl dX1_init_111 rfl rfl ?_
  have hv118 := gR_lt hP a0 3
  refine cg_getr 1 3 X in_X1 hP hm116 q802 dX1_init_112 ?_
  refine ph_aload_n (n := 0) X hl dX1_init_115 rfl rfl ?_
  have hv119 := gR_lt hP a0 5
  refine cg_getr 1 5 X in_X1 hP hm116 q804 dX1_init_116 ?_
  refine ph_aload_n (n := 0) X hl dX1_init_119 rfl rfl ?_
  have hv120 := gR_lt hP a0 6
  refine cg_getr 1 6 X in_X1 hP hm116 q805 dX1_init_120 ?_
  refine ph_aload_n (n := 0) X hl dX1_init_123 rfl rfl ?_
  have hv121 := gR_lt hP a0 7
  refine cg_getr 1 7 X in_X1 hP hm116 q806 dX1_init_124 ?_
  refine ph_aload_n (n := 0) X hl dX1_init_127 rfl rfl ?_
  have hv122 := gR_lt hP a0 8
  refine cg_getr 1 8 X in_X1 hP hm116 q807 dX1_init_128 ?_
  have hx123 : a0 < 200 + gN g112 := (ltm (ltm (ltm (ltm (ltm hx95 (Nat.le_of_succ_le he99)) (Nat.le_of_eq he102.1.symm)) (Nat.le_of_succ_le he106)) (Nat.le_of_eq he110.1.symm)) (Nat.le_of_succ_le he114))
  obtain ⟨hd124, hF⟩ := hF
  refine hg_callI [pX (gR g112 a0 0), pX (gR g112 a0 3), pX (gR g112 a0 5), pX (gR g112 a0 6), pX (gR g112 a0 7), pX (gR g112 a0 8)] [pX (200 + gN g109), pX a0] X hP (cg_nz hP hk115.1 (by decide)) (met_X7_init l D dA ad _ _ _ _ _ hF) (cwI 6 X.2.2.2.2.1 (lw_meth q715) rfl rfl rfl (X.2.2.2.2.1 _ q124) (X.2.2.2.2.1 _ q713) (X.2.2.2.2.1 _ q714) rfl (by decide +kernel) ⟨Nat.le_of_ble_eq_true rfl, Nat.le_of_ble_eq_true rfl⟩) rfl hag hl (ltlp hx123 ltln) (ltsp (ltw he114) (ltsp hx123 ltsn)) (k8 := 2) (csr (csr (cs0 (k := 0)))) (by decide) hd124 dX1_init_131 rfl (fun ad g125 ι126 H locs hF X hP hag he127 hl => ?_)
  show WHv p l e ({ frames := 8, cells := BC, slots := BS, locals := 212 } : Room) s m args below meth c D dA ad0 g0 A Q BC BS H locs (1 + b8 + 1 + b24 + 1 + b41 + 14) (10 + d9 + 8 + d25 + 8 + d42 + 4872) (F0 m 134 ls [rv ad (200 + gN g109), rv ad a0])
  obtain ⟨hm130, hF⟩ := hF
  refine hg_putr 1 10 X in_X1 tyX1 tyX1_ok nmX1 hP hm130 q809 dX1_init_134 (ltm (ltw he114) he127) hF (fun H locs g131 hP he132 hF => ?_) (Or.inl ⟨_, rfl⟩)
  have hag : HA ad0 g0 ad g131 := ⟨by rw [he132.1]; exact hag.1, hag.2⟩
  refine ph_aload_n (n := 0) X hl dX1_init_137 rfl rfl ?_
  obtain ⟨hd133, hF⟩ := hF
  refine hg_new 6 [pX a0] X hP hag hl (ltlp (ltm (ltm hx123 he127) (Nat.le_of_eq he132.1.symm)) ltln) (ltsp (ltm (ltm hx123 he127) (Nat.le_of_eq he132.1.symm)) ltsn) in_X7 tyX7 tyX7_ok (by decide +kernel) q711 q712 q124 hd133 dX1_init_138 rfl hF (fun H ad g134 ι135 X hP hag he136 hk137 hl hF => ?_)
  show WHv p l e ({ frames := 8, cells := BC, slots := BS, locals := 212 } : Room) s m args below meth c D dA ad0 g0 A Q BC BS H locs (1 + b8 + 1 + b24 + 1 + b41 + 15) (10 + d9 + 8 + d25 + 8 + d42 + 4887) (F0 m 141 ls [rv ad (200 + gN g131), rv ad a0])
  refine ph_dup_r X dX1_init_141 ?_
  refine ph_aload_n (n := 0) X hl dX1_init_142 rfl rfl ?_
  have hv138 := gR_lt hP a0 0
  refine cg_getr 1 0 X in_X1 hP (by rw [hk137.2 _ (ltm (ltm hx123 he127) (Nat.le_of_eq he132.1.symm))]; exact (by rw [he132.2.1]; exact hm130)) q799 dX1_init_143 ?_
  refine ph_aload_n (n := 0) X hl dX1_init_146 rfl rfl ?_
  have hv139 := gR_lt hP a0 4
  refine cg_getr 1 4 X in_X1 hP (by rw [hk137.2 _ (ltm (ltm hx123 he127) (Nat.le_of_eq he132.1.symm))]; exact (by rw [he132.2.1]; exact hm130)) q803 dX1_init_147 ?_
  refine ph_aload_n (n := 0) X hl dX1_init_150 rfl rfl ?_
  have hv140 := gR_lt hP a0 9
  refine cg_getr 1 9 X in_X1 hP (by rw [hk137.2 _ (ltm (ltm hx123 he127) (Nat.le_of_eq he132.1.symm))]; exact (by rw [he132.2.1]; exact hm130)) q808 dX1_init_151 ?_
  refine ph_aload_n (n := 0) X hl dX1_init_154 rfl rfl ?_
  have hv141 := gR_lt hP a0 9
  refine cg_getr 1 9 X in_X1 hP (by rw [hk137.2 _ (ltm (ltm hx123 he127) (Nat.le_of_eq he132.1.symm))]; exact (by rw [he132.2.1]; exact hm130)) q808 dX1_init_155 ?_
  refine ph_aload_n (n := 0) X hl dX1_init_158 rfl rfl ?_
  have hv142 := gR_lt hP a0 9
  refine cg_getr 1 9 X in_X1 hP (by rw [hk137.2 _ (ltm (ltm hx123 he127) (Nat.le_of_eq he132.1.symm))]; exact (by rw [he132.2.1]; exact hm130)) q808 dX1_init_159 ?_
  refine ph_aload_n (n := 0) X hl dX1_init_162 rfl rfl ?_
  have hv143 := gR_lt hP a0 9
  refine cg_getr 1 9 X in_X1 hP (by rw [hk137.2 _ (ltm (ltm hx123 he127) (Nat.le_of_eq he132.1.symm))]; exact (by rw [he132.2.1]; exact hm130)) q808 dX1_init_163 ?_
  obtain ⟨hd144, hF⟩ := hF
  refine hg_callI [pX (gR g134 a0 0), pX (gR g134 a0 4), pX (gR g134 a0 9), pX (gR g134 a0 9), pX (gR g134 a0 9), pX (gR g134 a0 9)] [pX (200 + gN g131), pX a0] X hP (cg_nz hP hk137.1 (by decide)) (met_X7_init l D dA ad _ _ _ _ _ hF) (cwI 6 X.2.2.2.2.1 (lw_meth q715) rfl rfl rfl (X.2.2.2.2.1 _ q124) (X.2.2.2.2.1 _ q713) (X.2.2.2.2.1 _ q714) rfl (by decide +kernel) ⟨Nat.le_of_ble_eq_true rfl, Nat.le_of_ble_eq_true rfl⟩) rfl hag hl (ltlp (ltm (ltm (ltm hx123 he127) (Nat.le_of_eq he132.1.symm)) (Nat.le_of_succ_le he136)) ltln) (ltsp (ltw he136) (ltsp (ltm (ltm (ltm hx123 he127) (Nat.le_of_eq he132.1.symm)) (Nat.le_of_succ_le he136)) ltsn)) (k8 := 2) (csr (csr (cs0 (k := 0)))) (by decide) hd144 dX1_init_166 rfl (fun ad g145 ι146 H locs hF X hP hag he147 hl => ?_)
  show WHv p l e ({ frames := 8, cells := BC, slots := BS, locals := 212 } : Room) s m args below meth c D dA ad0 g0 A Q BC BS H locs (1 + b8 + 1 + b24 + 1 + b41 + 20) (10 + d9 + 8 + d25 + 8 + d42 + 4922) (F0 m 169 ls [rv ad (200 + gN g131), rv ad a0])
  obtain ⟨hm150, hF⟩ := hF
  refine hg_putr 1 11 X in_X1 tyX1 tyX1_ok nmX1 hP hm150 q810 dX1_init_169 (ltm (ltw he136) he147) hF (fun H locs g151 hP he152 hF => ?_) (Or.inl ⟨_, rfl⟩)
  have hag : HA ad0 g0 ad g151 := ⟨by rw [he152.1]; exact hag.1, hag.2⟩
  refine ph_aload_n (n := 0) X hl dX1_init_172 rfl rfl ?_
  refine lv_sipush (v := 600) X.1 X.2.1 dX1_init_173 (by decide) ?_
  obtain ⟨hd153, hF⟩ := hF
  refine hg_newaB [pX a0] X hP hag hl (ltlp (ltm (ltm (ltm (ltm (ltm hx123 he127) (Nat.le_of_eq he132.1.symm)) (Nat.le_of_succ_le he136)) he147) (Nat.le_of_eq he152.1.symm)) ltln) (ltsp (ltm (ltm (ltm (ltm (ltm hx123 he127) (Nat.le_of_eq he132.1.symm)) (Nat.le_of_succ_le he136)) he147) (Nat.le_of_eq he152.1.symm)) ltsn) q242 (by decide) (by decide) (Nat.le_of_ble_eq_true rfl) hd153 dX1_init_176 rfl hF (fun H ad g154 ι155 X hP hag he156 hk157 hl hF => ?_)
  show WHv p l e ({ frames := 8, cells := BC, slots := BS, locals := 212 } : Room) s m args below meth c D dA ad0 g0 A Q BC BS H locs (1 + b8 + 1 + b24 + 1 + b41 + 21) (10 + d9 + 8 + d25 + 8 + d42 + 5522) (F0 m 178 ls [rv ad (200 + gN g151), rv ad a0])
  have hm158 : gK g154 a0 = 2 := (by rw [hk157.2 _ (ltm (ltm (ltm (ltm (ltm hx123 he127) (Nat.le_of_eq he132.1.symm)) (Nat.le_of_succ_le he136)) he147) (Nat.le_of_eq he152.1.symm))]; exact (by rw [he152.2.1]; exact hm150))
  refine hg_putrF 1 13 X in_X1 tyX1 tyX1_ok nmX1 hP hm158 q812 hnm dX1_init_178 (ltw he156) hF (fun H locs g159 hP he160 hF => ?_) (Or.inr ⟨_, rfl⟩)
  have hag : HA ad0 g0 ad g159 := ⟨by rw [he160.1]; exact hag.1, hag.2⟩
  refine ph_aload_n (n := 0) X hl dX1_init_181 rfl rfl ?_
  refine lv_iconst (v := (-1)) X.1 X.2.1 dX1_init_182 (by decide) ?_
  refine hg_puti 1 15 X in_X1 tyX1 tyX1_ok nmX1 hP (by rw [he160.2.1]; exact hm158) q814 dX1_init_183 rfl rfl hF (fun H locs ι161 hP hF => ?_)
  refine ph_aload_n (n := 0) X hl dX1_init_186 rfl rfl ?_
  refine lv_bipush (v := 7) X.1 X.2.1 dX1_init_187 (by decide) ?_
  have hx162 : a0 < 200 + gN g159 := (ltm (ltm (ltm (ltm (ltm (ltm (ltm hx123 he127) (Nat.le_of_eq he132.1.symm)) (Nat.le_of_succ_le he136)) he147) (Nat.le_of_eq he152.1.symm)) (Nat.le_of_succ_le he156)) (Nat.le_of_eq he160.1.symm))
  obtain ⟨hd163, hF⟩ := hF
  refine hg_newaI [pX a0] X hP hag hl (ltlp hx162 ltln) (ltsp hx162 ltsn) q516 (by decide) (by decide) (Nat.le_of_ble_eq_true rfl) hd163 dX1_init_189 rfl hF (fun H ad g164 ι165 X hP hag he166 hk167 hl hF => ?_)
  show WHv p l e ({ frames := 8, cells := BC, slots := BS, locals := 212 } : Room) s m args below meth c D dA ad0 g0 A Q BC BS H locs (1 + b8 + 1 + b24 + 1 + b41 + 22) (10 + d9 + 8 + d25 + 8 + d42 + 5529) (F0 m 191 ls [rv ad (200 + gN g159), rv ad a0])
  refine hg_putrF 1 16 X in_X1 tyX1 tyX1_ok nmX1 hP (by rw [hk167.2 _ hx162]; exact (by rw [he160.2.1]; exact hm158)) q815 hnm dX1_init_191 (ltw he166) hF (fun H locs g168 hP he169 hF => ?_) (Or.inr ⟨_, rfl⟩)
  have hag : HA ad0 g0 ad g168 := ⟨by rw [he169.1]; exact hag.1, hag.2⟩
  refine ph_aload_n (n := 0) X hl dX1_init_194 rfl rfl ?_
  refine lv_bipush (v := 7) X.1 X.2.1 dX1_init_195 (by decide) ?_
  obtain ⟨hd170, hF⟩ := hF
  refine hg_newaI [pX a0] X hP hag hl (ltlp (ltm (ltm hx162 (Nat.le_of_succ_le he166)) (Nat.le_of_eq he169.1.symm)) ltln) (ltsp (ltm (ltm hx162 (Nat.le_of_succ_le he166)) (Nat.le_of_eq he169.1.symm)) ltsn) q516 (by decide) (by decide) (Nat.le_of_ble_eq_true rfl) hd170 dX1_init_197 rfl hF (fun H ad g171 ι172 X hP hag he173 hk174 hl hF => ?_)
  show WHv p l e ({ frames := 8, cells := BC, slots := BS, locals := 212 } : Room) s m args below meth c D dA ad0 g0 A Q BC BS H locs (1 + b8 + 1 + b24 + 1 + b41 + 23) (10 + d9 + 8 + d25 + 8 + d42 + 5536) (F0 m 199 ls [rv ad (200 + gN g168), rv ad a0])
  have hm175 : gK g171 a0 = 2 := (by rw [hk174.2 _ (ltm (ltm hx162 (Nat.le_of_succ_le he166)) (Nat.le_of_eq he169.1.symm))]; exact (by rw [he169.2.1]; exact (by rw [hk167.2 _ hx162]; exact (by rw [he160.2.1]; exact hm158))))
  refine hg_putrF 1 17 X in_X1 tyX1 tyX1_ok nmX1 hP hm175 q816 hnm dX1_init_199 (ltw he173) hF (fun H locs g176 hP he177 hF => ?_) (Or.inr ⟨_, rfl⟩)
  have hag : HA ad0 g0 ad g176 := ⟨by rw [he177.1]; exact hag.1, hag.2⟩
  refine ph_aload_n (n := 0) X hl dX1_init_202 rfl rfl ?_
  refine lv_bipush (v := 7) X.1 X.2.1 dX1_init_203 (by decide) ?_
  obtain ⟨hd178, hF⟩ := hF
  refine hg_newaI [pX a0] X hP hag hl (ltlp (ltm (ltm (ltm (ltm hx162 (Nat.le_of_succ_le he166)) (Nat.le_of_eq he169.1.symm)) (Nat.le_of_succ_le he173)) (Nat.le_of_eq he177.1.symm)) ltln) (ltsp (ltm (ltm (ltm (ltm hx162 (Nat.le_of_succ_le he166)) (Nat.le_of_eq he169.1.symm)) (Nat.le_of_succ_le he173)) (Nat.le_of_eq he177.1.symm)) ltsn) q516 (by decide) (by decide) (Nat.le_of_ble_eq_true rfl) hd178 dX1_init_205 rfl hF (fun H ad g179 ι180 X hP hag he181 hk182 hl hF => ?_)
  show WHv p l e ({ frames := 8, cells := BC, slots := BS, locals := 212 } : Room) s m args below meth c D dA ad0 g0 A Q BC BS H locs (1 + b8 + 1 + b24 + 1 + b41 + 24) (10 + d9 + 8 + d25 + 8 + d42 + 5543) (F0 m 207 ls [rv ad (200 + gN g176), rv ad a0])
  have hm183 : gK g179 a0 = 2 := (by rw [hk182.2 _ (ltm (ltm (ltm (ltm hx162 (Nat.le_of_succ_le he166)) (Nat.le_of_eq he169.1.symm)) (Nat.le_of_succ_le he173)) (Nat.le_of_eq he177.1.symm))]; exact (by rw [he177.2.1]; exact hm175))
  refine hg_putrF 1 19 X in_X1 tyX1 tyX1_ok nmX1 hP hm183 q818 hnm dX1_init_207 (ltw he181) hF (fun H locs g184 hP he185 hF => ?_) (Or.inr ⟨_, rfl⟩)
  have hag : HA ad0 g0 ad g184 := ⟨by rw [he185.1]; exact hag.1, hag.2⟩
  refine ph_aload_n (n := 0) X hl dX1_init_210 rfl rfl ?_
  have hv186 := gR_lt hP a0 3
  refine cg_getr 1 3 X in_X1 hP (by rw [he185.2.1]; exact hm183) q802 dX1_init_211 ?_
  refine ph_aload_n (n := 0) X hl dX1_init_214 rfl rfl ?_
  have hv187 := gR_lt hP a0 0
  refine cg_getr 1 0 X in_X1 hP (by rw [he185.2.1]; exact hm183) q799 dX1_init_215 ?_
  obtain ⟨hm191, hF⟩ := hF
  refine cg_callVv 5 [pX (gR g184 a0 0)] X hP hm191 (met_X6_begins l D dA ad g184 _ _ hF) (cwV 1 X.2.2.2.2.1 (lw_V q769 q770 q771 q123 q772) rfl rfl rfl (by decide +kernel) ⟨Nat.le_of_ble_eq_true rfl, Nat.le_of_ble_eq_true rfl⟩) rfl hl (k8 := 0) (cs0 (k := 0)) (by decide) hd178 dX1_init_218 rfl (fun ι189 H locs hF hP => ?_)
  exact hg_vret X hP hag hF hd178.1 hd178.2 dX1_init_221
set_option maxHeartbeats 2000000 in
theorem met_X1_init (l : Launch) (D : va_G) (dA : Nat → ClassId) (ad : Nat → Nat) (BC BS : Nat) (g : GT) (ι : S) (sz : Nat) {a0 : Nat} {Q : GT → S → Prop} (hF : P_X1_init BC BS a0 g ι Q) : CHv l yX1_init cX1_init 1 ({ frames := 8, cells := BC, slots := BS, locals := 212 } : Room) D dA ad g ι sz [pX a0] Q BC BS := by
  refine ph_enter [pX a0] (Qc := fun A => HPv D dA ad g A Q) (by decide +kernel) (Nat.le_of_ble_eq_true rfl) ?_
  intro p e s m args below meth c A ls X hP hl hnm
  have hnm : meth.name = "<init>" := hnm
  exact we_X1_init hnm _ _ _ _ _ _ _ hF X hP HA.rf hl
def P_X9_valueOf (BC BS : Nat) (a0 : Nat) (g : GT) (ι : S) (Q : Nat → GT → S → Prop) : Prop := (isStrP g a0 ∧ (P_J9_equals g a0 45 ι (fun r1 ι2 => ((r1 = 0 → (P_J9_equals g a0 47 ι2 (fun r4 ι5 => ((r4 = 0 → (P_J9_equals g a0 49 ι5 (fun r6 ι7 => ((r6 = 0 → (P_J9_equals g a0 51 ι7 (fun r8 ι9 => ((r8 = 0 → (P_J9_equals g a0 53 ι9 (fun r10 ι11 => ((r10 = 0 → (P_J9_equals g a0 55 ι11 (fun r12 ι13 => ((r12 = 0 → (P_J9_equals g a0 57 ι13 (fun r14 ι15 => ((r14 = 0 → (Q 0 g ι15)) ∧ (¬ r14 = 0 → (Q 111 g ι15)))))) ∧ (¬ r12 = 0 → (Q 110 g ι13)))))) ∧ (¬ r10 = 0 → (Q 109 g ι11)))))) ∧ (¬ r8 = 0 → (Q 108 g ι9)))))) ∧ (¬ r6 = 0 → (Q 107 g ι7)))))) ∧ (¬ r4 = 0 → (Q 106 g ι5)))))) ∧ (¬ r1 = 0 → (Q 105 g ι2))))))
set_option maxHeartbeats 2000000 in
theorem we_X9_valueOf (hnm : meth.name = "valueOf") {BC BS : Nat} {Q : Nat → GT → S → Prop} : ∀ (a0 : Nat) (g : GT) (ι : S) (ad : Nat → Nat) (H : Heap) (locs : List Loc) (ls : Array Slot), P_X9_valueOf BC BS a0 g ι Q → CX p s m args c meth cX9_valueOf 1 (some (.object "SpoonRow$Value")) RX9 D dA ad A → PW D dA A s.heap ad (HS g ι) H locs → HA ad0 g0 ad g → LH ad ls 1 [(0, pX a0)] → WHq p l e ({ frames := 2, cells := BC, slots := BS, locals := 44 } : Room) s m args below meth c D dA ad0 g0 A Q BC BS H locs (0) (0) (F0 m 0 ls []) := by
  intro a0 g ι ad H locs ls hF X hP hag hl
  unfold P_X9_valueOf at hF
  refine ph_aload_n (n := 0) X hl dX9_valueOf_0 rfl rfl ?_
  refine ph_ldcSw (i := 22) (tx := "light") X (List.mem_of_getElem? (i := 28) rfl) dX9_valueOf_1 ?_
  obtain ⟨hm3, hF⟩ := hF
  refine cg_callRi [pX 45] X hP (str_nz hP hm3) (str_recv X hP hm3) (met_J9_equals l D dA ad g _ _ hF) (cwV 1 X.2.2.2.2.1 (lw_V q1293 q1294 q1295 q109 q1296) rfl rfl rfl (by decide +kernel) ⟨Nat.le_of_ble_eq_true rfl, Nat.le_of_ble_eq_true rfl⟩) rfl hl (k8 := 0) (cs0 (k := 0)) (by decide) ⟨Nat.zero_le _, Nat.zero_le _⟩ dX9_valueOf_4 rfl (fun r1 ι2 H locs hF hP => ?_)
  refine lv_if_eq (tgt := 14) X.1 X.2.1 dX9_valueOf_7 (by decide) (fun c22 => ?_) (fun c22 => ?_)
  · have hF := hF.1 c22
    refine ph_aload_n (n := 0) X hl dX9_valueOf_14 rfl rfl ?_
    refine ph_ldcSw (i := 23) (tx := "off") X (List.mem_of_getElem? (i := 29) rfl) dX9_valueOf_15 ?_
    refine cg_callRi [pX 47] X hP (str_nz hP hm3) (str_recv X hP hm3) (met_J9_equals l D dA ad g _ _ hF) (cwV 1 X.2.2.2.2.1 (lw_V q1293 q1294 q1295 q109 q1296) rfl rfl rfl (by decide +kernel) ⟨Nat.le_of_ble_eq_true rfl, Nat.le_of_ble_eq_true rfl⟩) rfl hl (k8 := 0) (cs0 (k := 0)) (by decide) ⟨Nat.zero_le _, Nat.zero_le _⟩ dX9_valueOf_18 rfl (fun r4 ι5 H locs hF hP => ?_)
    refine lv_if_eq (tgt := 28) X.1 X.2.1 dX9_valueOf_21 (by decide) (fun c21 => ?_) (fun c21 => ?_)
    · have hF := hF.1 c21
      refine ph_aload_n (n := 0) X hl dX9_valueOf_28 rfl rfl ?_
      refine ph_ldcSw (i := 24) (tx := "turns") X (List.mem_of_getElem? (i := 30) rfl) dX9_valueOf_29 ?_
      refine cg_callRi [pX 49] X hP (str_nz hP hm3) (str_recv X hP hm3) (met_J9_equals l D dA ad g _ _ hF) (cwV 1 X.2.2.2.2.1 (lw_V q1293 q1294 q1295 q109 q1296) rfl rfl rfl (by decide +kernel) ⟨Nat.le_of_ble_eq_true rfl, Nat.le_of_ble_eq_true rfl⟩) rfl hl (k8 := 0) (cs0 (k := 0)) (by decide) ⟨Nat.zero_le _, Nat.zero_le _⟩ dX9_valueOf_32 rfl (fun r6 ι7 H locs hF hP => ?_)
      refine lv_if_eq (tgt := 42) X.1 X.2.1 dX9_valueOf_35 (by decide) (fun c20 => ?_) (fun c20 => ?_)
      · have hF := hF.1 c20
        refine ph_aload_n (n := 0) X hl dX9_valueOf_42 rfl rfl ?_
        refine ph_ldcSw (i := 25) (tx := "hour") X (List.mem_of_getElem? (i := 31) rfl) dX9_valueOf_43 ?_
        refine cg_callRi [pX 51] X hP (str_nz hP hm3) (str_recv X hP hm3) (met_J9_equals l D dA ad g _ _ hF) (cwV 1 X.2.2.2.2.1 (lw_V q1293 q1294 q1295 q109 q1296) rfl rfl rfl (by decide +kernel) ⟨Nat.le_of_ble_eq_true rfl, Nat.le_of_ble_eq_true rfl⟩) rfl hl (k8 := 0) (cs0 (k := 0)) (by decide) ⟨Nat.zero_le _, Nat.zero_le _⟩ dX9_valueOf_46 rfl (fun r8 ι9 H locs hF hP => ?_)
        refine lv_if_eq (tgt := 56) X.1 X.2.1 dX9_valueOf_49 (by decide) (fun c19 => ?_) (fun c19 => ?_)
        · have hF := hF.1 c19
          refine ph_aload_n (n := 0) X hl dX9_valueOf_56 rfl rfl ?_
          refine ph_ldcSw (i := 26) (tx := "snore") X (List.mem_of_getElem? (i := 32) rfl) dX9_valueOf_57 ?_
          refine cg_callRi [pX 53] X hP (str_nz hP hm3) (str_recv X hP hm3) (met_J9_equals l D dA ad g _ _ hF) (cwV 1 X.2.2.2.2.1 (lw_V q1293 q1294 q1295 q109 q1296) rfl rfl rfl (by decide +kernel) ⟨Nat.le_of_ble_eq_true rfl, Nat.le_of_ble_eq_true rfl⟩) rfl hl (k8 := 0) (cs0 (k := 0)) (by decide) ⟨Nat.zero_le _, Nat.zero_le _⟩ dX9_valueOf_60 rfl (fun r10 ι11 H locs hF hP => ?_)
          refine lv_if_eq (tgt := 70) X.1 X.2.1 dX9_valueOf_63 (by decide) (fun c18 => ?_) (fun c18 => ?_)
          · have hF := hF.1 c18
            refine ph_aload_n (n := 0) X hl dX9_valueOf_70 rfl rfl ?_
            refine ph_ldcSw (i := 27) (tx := "edge") X (List.mem_of_getElem? (i := 33) rfl) dX9_valueOf_71 ?_
            refine cg_callRi [pX 55] X hP (str_nz hP hm3) (str_recv X hP hm3) (met_J9_equals l D dA ad g _ _ hF) (cwV 1 X.2.2.2.2.1 (lw_V q1293 q1294 q1295 q109 q1296) rfl rfl rfl (by decide +kernel) ⟨Nat.le_of_ble_eq_true rfl, Nat.le_of_ble_eq_true rfl⟩) rfl hl (k8 := 0) (cs0 (k := 0)) (by decide) ⟨Nat.zero_le _, Nat.zero_le _⟩ dX9_valueOf_74 rfl (fun r12 ι13 H locs hF hP => ?_)
            refine lv_if_eq (tgt := 84) X.1 X.2.1 dX9_valueOf_77 (by decide) (fun c17 => ?_) (fun c17 => ?_)
            · have hF := hF.1 c17
              refine ph_aload_n (n := 0) X hl dX9_valueOf_84 rfl rfl ?_
              refine ph_ldcSw (i := 28) (tx := "woken") X (List.mem_of_getElem? (i := 34) rfl) dX9_valueOf_85 ?_
              refine cg_callRi [pX 57] X hP (str_nz hP hm3) (str_recv X hP hm3) (met_J9_equals l D dA ad g _ _ hF) (cwV 1 X.2.2.2.2.1 (lw_V q1293 q1294 q1295 q109 q1296) rfl rfl rfl (by decide +kernel) ⟨Nat.le_of_ble_eq_true rfl, Nat.le_of_ble_eq_true rfl⟩) rfl hl (k8 := 0) (cs0 (k := 0)) (by decide) ⟨Nat.zero_le _, Nat.zero_le _⟩ dX9_valueOf_88 rfl (fun r14 ι15 H locs hF hP => ?_)
              refine lv_if_eq (tgt := 100) X.1 X.2.1 dX9_valueOf_91 (by decide) (fun c16 => ?_) (fun c16 => ?_)
              · have hF := hF.1 c16
                refine ph_null X dX9_valueOf_100 ?_
                exact hg_aret X hP hag (Or.inl ⟨_, rfl⟩) lt0 hF (Nat.zero_le _) (Nat.zero_le _) dX9_valueOf_101
              · have hF := hF.2 c16
                refine cg_getsV (k := 6) X hP (by decide) rfl q1394 dX9_valueOf_94 ?_
                refine lv_goto (tgt := 101) X.1 X.2.1 dX9_valueOf_97 (by decide) ?_
                exact hg_aret X hP hag (Or.inl ⟨_, rfl⟩) (ltk (by decide)) hF (Nat.zero_le _) (Nat.zero_le _) dX9_valueOf_101
            · have hF := hF.2 c17
              refine cg_getsV (k := 5) X hP (by decide) rfl q1392 dX9_valueOf_80 ?_
              exact hg_aret X hP hag (Or.inl ⟨_, rfl⟩) (ltk (by decide)) hF (Nat.zero_le _) (Nat.zero_le _) dX9_valueOf_83
          · have hF := hF.2 c18
            refine cg_getsV (k := 4) X hP (by decide) rfl q1390 dX9_valueOf_66 ?_
            exact hg_aret X hP hag (Or.inl ⟨_, rfl⟩) (ltk (by decide)) hF (Nat.zero_le _) (Nat.zero_le _) dX9_valueOf_69
        · have hF := hF.2 c19
          refine cg_getsV (k := 3) X hP (by decide) rfl q1388 dX9_valueOf_52 ?_
          exact hg_aret X hP hag (Or.inl ⟨_, rfl⟩) (ltk (by decide)) hF (Nat.zero_le _) (Nat.zero_le _) dX9_valueOf_55
      · have hF := hF.2 c20
        refine cg_getsV (k := 2) X hP (by decide) rfl q1386 dX9_valueOf_38 ?_
        exact hg_aret X hP hag (Or.inl ⟨_, rfl⟩) (ltk (by decide)) hF (Nat.zero_le _) (Nat.zero_le _) dX9_valueOf_41
    · have hF := hF.2 c21
      refine cg_getsV (k := 1) X hP (by decide) rfl q1384 dX9_valueOf_24 ?_
      exact hg_aret X hP hag (Or.inl ⟨_, rfl⟩) (ltk (by decide)) hF (Nat.zero_le _) (Nat.zero_le _) dX9_valueOf_27
  · have hF := hF.2 c22
    refine cg_getsV (k := 0) X hP (by decide) rfl q1382 dX9_valueOf_10 ?_
    exact hg_aret X hP hag (Or.inl ⟨_, rfl⟩) (ltk (by decide)) hF (Nat.zero_le _) (Nat.zero_le _) dX9_valueOf_13
set_option maxHeartbeats 2000000 in
theorem met_X9_valueOf (l : Launch) (D : va_G) (dA : Nat → ClassId) (ad : Nat → Nat) (BC BS : Nat) (g : GT) (ι : S) (sz : Nat) {a0 : Nat} {Q : Nat → GT → S → Prop} (hF : P_X9_valueOf BC BS a0 g ι Q) : CHq l yX9_valueOf cX9_valueOf 1 (.object "SpoonRow$Value") ({ frames := 2, cells := BC, slots := BS, locals := 44 } : Room) D dA ad g ι sz [pX a0] Q BC BS := by
  refine ph_enter [pX a0] (Qc := fun A => HPq D dA ad g A Q) (by decide +kernel) (Nat.le_of_ble_eq_true rfl) ?_
  intro p e s m args below meth c A ls X hP hl hnm
  have hnm : meth.name = "valueOf" := hnm
  exact we_X9_valueOf hnm _ _ _ _ _ _ _ hF X hP HA.rf hl
end HGA
