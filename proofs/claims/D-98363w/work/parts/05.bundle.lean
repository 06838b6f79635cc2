set_option maxRecDepth 100000
/-! words that don't ride in lw_all, and the constants of the world -/
def nestW : Cond → Bool
  | .fieldLinkNest _ _ _ _ _ _ => true
  | .methodLinkNest _ _ _ _ => true
  | .castable _ _ => true
  | .declares _ => true
  | .arrayOver (.object _) => true
  | _ => false
def NWs (U : State) : Prop := ∀ w ∈ lw_tbl, nestW w = true → va_Nw w U
theorem nws_warm {s U : State} (hW : s.WarmedH U.vm) (h : NWs s) : NWs U := fun w hw hn => match w, hn, h w hw hn with
  | .fieldLinkNest _ _ _ _ _ _, _, h1 => va_Nw.warmF hW h1
  | .methodLinkNest _ _ _ _, _, h1 => va_Nw.warmM hW h1
  | .castable _ _, _, h1 => va_Nw.warmC hW h1
  | .declares _, _, h1 => va_Nw.warmD hW h1
  | .arrayOver (.object _), _, h1 => va_AO.moved hW.alike h1
theorem nws_same {u U : State} (hv : u.vm = U.vm) (h : NWs u) : NWs U := fun w hw hn => match w, hn, h w hw hn with
  | .fieldLinkNest _ _ _ _ _ _, _, h1 => va_Nw.same rfl hv h1
  | .methodLinkNest _ _ _ _, _, h1 => va_Nw.same rfl hv h1
  | .castable _ _, _, h1 => va_Nw.same rfl hv h1
  | .declares _, _, h1 => va_Nw.same rfl hv h1
  | .arrayOver (.object _), _, h1 => va_AO.moved (hv ▸ Vm.Alike.refl u.vm) h1
def SR : List (String × Nat × String × Nat) := [("SpoonRowModel", 11, "sleeper", 6), ("SpoonRowModel", 13, "child", 7), ("SpoonRowModel", 15, "snorer", 8), ("SpoonRowModel", 21, "light", 22), ("SpoonRowModel", 23, "off", 23), ("SpoonRowModel", 25, "turns", 24), ("SpoonRowModel", 27, "hour", 25), ("SpoonRowModel", 29, "snore", 26), ("SpoonRowModel", 31, "edge", 27), ("SpoonRowModel", 33, "woken", 28), ("SpoonRowModel", 279, "bed", 0), ("SpoonRowModel", 281, "night", 1), ("SpoonRowModel", 283, "awake", 2), ("SpoonRowModel", 285, "wakes", 3), ("SpoonRowModel", 287, "dog", 9), ("SpoonRowModel", 261, "not", 14), ("SpoonRowModel", 269, "and", 13), ("SpoonRowModel", 274, "or", 12), ("SpoonRowModel", 292, "bolster", 4), ("SpoonRowModel", 297, "never", 5), ("SpoonRow$Reader", 9, "", 29), ("SpoonRow$Reader", 123, "bed", 0), ("SpoonRow$Reader", 139, "night", 1), ("SpoonRow$Reader", 144, "awake", 2), ("SpoonRow$Reader", 148, "wakes", 3), ("SpoonRow$Reader", 220, "(", 11), ("SpoonRow$Reader", 236, "not", 14), ("SpoonRow$Reader", 270, ")", 21), ("SpoonRow$Reader", 280, "light", 22), ("SpoonRow$Reader", 288, "off", 23), ("SpoonRow$Reader", 293, "turns", 24), ("SpoonRow$Reader", 298, "hour", 25), ("SpoonRow$Reader", 303, "snore", 26), ("SpoonRow$Reader", 308, "edge", 27), ("SpoonRow$Reader", 313, "woken", 28), ("SpoonRow$Reader", 263, "*", 19), ("SpoonRow$Reader", 265, "/", 20), ("SpoonRow$Reader", 256, "+", 17), ("SpoonRow$Reader", 258, "-", 18), ("SpoonRow$Reader", 240, "<", 15), ("SpoonRow$Reader", 242, "=", 16), ("SpoonRow$Reader", 235, "and", 13), ("SpoonRow$Reader", 225, "or", 12), ("SpoonRow$Reader", 157, "bolster", 4), ("SpoonRow$Reader", 165, "never", 5), ("SpoonRow$Reader", 173, "sleeper", 6), ("SpoonRow$Reader", 175, "child", 7), ("SpoonRow$Reader", 177, "snorer", 8), ("SpoonRow$Reader", 179, "dog", 9), ("SpoonRow$Reader", 191, ";", 10)]
def sortNm : List String := ["WORD", "NUMBER", "SIGN", "BAD", "END"]
def valNm : List String := ["LIGHT", "OFF", "TURNS", "HOUR", "SNORE", "EDGE", "WOKEN"]
def va_TX (nm : String) (t N : Nat) (f : Nat → Value) (A : Nat → Prop) (U : State) (H : Heap) : Prop := ∃ cell : Cell, H[t]? = some cell ∧ U.vm.findClass nm = some cell.cls ∧ (cell.vm ≠ .unknown ∧ cell.vm.isStatics = false) ∧ cell.slots.size = N ∧ (∀ j : Nat, j < N → cell.slots[j]? = some (f j)) ∧ ¬ A t
theorem va_TX.moved {nm : String} {t N : Nat} {f : Nat → Value} {A : Nat → Prop} {u U : State} {H : Heap} (hvm : u.vm.Alike U.vm) (h : va_TX nm t N f A u H) : va_TX nm t N f A U H := by
  obtain ⟨cell, h1, h2, h3⟩ := h
  exact ⟨cell, h1, by rw [hvm.findClass]; exact h2, h3⟩
theorem va_TX.kept {nm : String} {t N : Nat} {f : Nat → Value} {A : Nat → Prop} {U : State} {H H1 : Heap} (h : va_TX nm t N f A U H) (hq : ∀ a : Nat, a < H.size → ¬ A a → H1[a]? = H[a]?) : va_TX nm t N f A U H1 := by
  obtain ⟨cell, h1, h2, h3, h4, h5, h6⟩ := h
  exact ⟨cell, by rw [hq t (Array.getElem?_eq_some_iff.mp h1).1 h6]; exact h1, h2, h3, h4, h5, h6⟩
theorem va_TX.narrow {nm : String} {t N : Nat} {f : Nat → Value} {A B : Nat → Prop} {U : State} {H : Heap} (h : va_TX nm t N f A U H) (hAB : ∀ q, B q → A q) : va_TX nm t N f B U H := by
  obtain ⟨cell, h1, h2, h3, h4, h5, h6⟩ := h
  exact ⟨cell, h1, h2, h3, h4, h5, fun z => h6 (hAB t z)⟩
/-- a static that holds null or the constant at place n -/
def va_Zw (C n d : String) (pl : Nat) (ad : Nat → Nat) (A : Nat → Prop) (U : State) (H : Heap) : Prop := ∃ w, (w = 0 ∨ w = pl) ∧ va_Z C n d (rv ad w) A U H
theorem va_Zw.moved {C n d : String} {pl : Nat} {ad : Nat → Nat} {A : Nat → Prop} {u U : State} {H : Heap} (hvm : u.vm.Alike U.vm) (h : va_Zw C n d pl ad A u H) : va_Zw C n d pl ad A U H := by
  obtain ⟨w, hw, h⟩ := h
  exact ⟨w, hw, va_Z.moved hvm h⟩
theorem va_Zw.kept {C n d : String} {pl : Nat} {ad : Nat → Nat} {A : Nat → Prop} {U : State} {H H1 : Heap} (h : va_Zw C n d pl ad A U H) (hq : ∀ a : Nat, a < H.size → ¬ A a → H1[a]? = H[a]?) : va_Zw C n d pl ad A U H1 := by
  obtain ⟨w, hw, h⟩ := h
  exact ⟨w, hw, h.kept hq⟩
theorem va_Zw.narrow {C n d : String} {pl : Nat} {ad : Nat → Nat} {A B : Nat → Prop} {U : State} {H : Heap} (h : va_Zw C n d pl ad A U H) (hAB : ∀ q, B q → A q) : va_Zw C n d pl ad B U H := by
  obtain ⟨w, hw, h⟩ := h
  exact ⟨w, hw, h.narrow hAB⟩
theorem va_Zw.re {C n d : String} {pl : Nat} {ad ad' : Nat → Nat} {A : Nat → Prop} {U : State} {H : Heap} (h : va_Zw C n d pl ad A U H) (hpl : pl < 200) (he : ∀ p, p < 200 → ad' p = ad p) : va_Zw C n d pl ad' A U H := by
  obtain ⟨w, hw, h⟩ := h
  exact ⟨w, hw, by rw [rv_eq (he w (by omega))]; exact h⟩
def ROs (ad : Nat → Nat) (A : Nat → Prop) (U : State) (H : Heap) : Prop :=
  vk_S 30 strLen strByt (fun i => ad (1 + 2 * i)) (fun i => ad (2 + 2 * i)) A U H ∧ (∀ e ∈ SR, vk_R e.1 e.2.1 e.2.2.1 (ad (1 + 2 * e.2.2.2)) U) ∧
  va_En "SpoonRow$Sort" "LSpoonRow$Sort;" sortNm [] (fun i => ad (100 + i)) A U H ∧ va_En "SpoonRow$Value" "LSpoonRow$Value;" valNm [("java/lang/Enum", "ordinal", "I", [0, 1, 2, 3, 4, 5, 6])] (fun i => ad (105 + i)) A U H ∧
  va_Z "SpoonRow$Value" "$VALUES" "[LSpoonRow$Value;" (.ref (ad 120)) A U H ∧ va_T (.object "SpoonRow$Value") (ad 120) 7 (fun k => .ref (ad (105 + k))) A U H ∧ va_Z "java/lang/String" "COMPACT_STRINGS" "Z" (.int 1) A U H ∧
  vx_Zq Bundle.tN "UNASSIGNED_STACK" Bundle.steD A U H ∧ vx_Zq Bundle.tN "SUPPRESSED_SENTINEL" Bundle.listD A U H ∧
  va_Nc "java/lang/IllegalArgumentException" "java/util/NoSuchElementException" U ∧ va_Mi "[Ljava/lang/Object;" (ad 130) U ∧ (Cond.selects "java/lang/StringBuilder" ⟨"java/lang/AbstractStringBuilder", "ensureCapacityInternal", "(I)V"⟩ ⟨"java/lang/AbstractStringBuilder", "ensureCapacityInternal", "(I)V"⟩).before #[] U = true ∧ va_Zw "jdk/internal/util/Preconditions" "SIOOBE_FORMATTER" "Ljava/util/function/BiFunction;" 131 ad A U H ∧
  va_TX "[LSpoonRow$Value;" (ad 120) 7 (fun k => .ref (ad (105 + k))) A U H ∧ va_Zw Bundle.tN "UNASSIGNED_STACK" Bundle.steD 132 ad A U H ∧ va_Zw Bundle.tN "SUPPRESSED_SENTINEL" Bundle.listD 133 ad A U H
theorem ros_warm {ad : Nat → Nat} {A : Nat → Prop} {s U : State} {H : Heap} (hW : s.WarmedH U.vm) (h : ROs ad A s H) : ROs ad A U H := by
  obtain ⟨h1, h2, h3, h4, h5, h6, h7, h8, h9, h10, h11, h12, h13, h14, h15, h16⟩ := h
  exact ⟨vk_S.moved hW.alike h1, fun e he => vk_R.warm hW (h2 e he), va_En.moved hW.alike h3, va_En.moved hW.alike h4, va_Z.moved hW.alike h5, va_T.moved hW.alike h6, va_Z.moved hW.alike h7, vx_Zq.moved hW.alike h8, vx_Zq.moved hW.alike h9, va_Nc.moved hW.alike h10, va_Mi.moved hW.alike h11, word_at hW (good_of_word rfl) h12, h13.moved hW.alike, h14.moved hW.alike, h15.moved hW.alike, h16.moved hW.alike⟩
theorem ros_same {ad : Nat → Nat} {A : Nat → Prop} {s U : State} {H : Heap} (hv : s.vm = U.vm) (h : ROs ad A s H) : ROs ad A U H := by
  have ha : s.vm.Alike U.vm := hv ▸ Vm.Alike.refl s.vm
  obtain ⟨h1, h2, h3, h4, h5, h6, h7, h8, h9, h10, h11, h12, h13, h14, h15, h16⟩ := h
  exact ⟨vk_S.moved ha h1, fun e he => vk_R.same hv.symm (h2 e he), va_En.moved ha h3, va_En.moved ha h4, va_Z.moved ha h5, va_T.moved ha h6, va_Z.moved ha h7, vx_Zq.moved ha h8, vx_Zq.moved ha h9, va_Nc.moved ha h10, va_Mi.moved ha h11, va_tabs rfl hv h12, h13.moved ha, h14.moved ha, h15.moved ha, h16.moved ha⟩
theorem ros_kept {ad : Nat → Nat} {A : Nat → Prop} {U : State} {H H1 : Heap} (h : ROs ad A U H) (hq : ∀ a : Nat, a < H.size → ¬ A a → H1[a]? = H[a]?) : ROs ad A U H1 := by
  obtain ⟨h1, h2, h3, h4, h5, h6, h7, h8, h9, h10, h11, h12, h13, h14, h15, h16⟩ := h
  exact ⟨h1.kept hq, h2, h3.kept hq, h4.kept hq, h5.kept hq, h6.kept hq, h7.kept hq, h8.kept hq, h9.kept hq, h10, h11, h12, h13.kept hq, h14.kept hq, h15.kept hq, h16.kept hq⟩
theorem ros_narrow {ad : Nat → Nat} {A B : Nat → Prop} {U : State} {H : Heap} (h : ROs ad A U H) (hAB : ∀ q, B q → A q) : ROs ad B U H := by
  obtain ⟨h1, h2, h3, h4, h5, h6, h7, h8, h9, h10, h11, h12, h13, h14, h15, h16⟩ := h
  exact ⟨h1.narrow hAB, h2, h3.narrow hAB, h4.narrow hAB, h5.narrow hAB, h6.narrow hAB, h7.narrow hAB, h8.narrow hAB, h9.narrow hAB, h10, h11, h12, h13.narrow hAB, h14.narrow hAB, h15.narrow hAB, h16.narrow hAB⟩
/-- the addresses of the constants alone matter -/
theorem ros_ad {ad ad' : Nat → Nat} {A : Nat → Prop} {U : State} {H : Heap} (h : ROs ad A U H) (he : ∀ p, p < 200 → ad' p = ad p) : ROs ad' A U H := by
  obtain ⟨h1, h2, h3, h4, h5, h6, h7, h8, h9, h10, h11, h12, h13, h14, h15, h16⟩ := h
  have hsr : ∀ e ∈ SR, 1 + 2 * e.2.2.2 < 200 := by decide
  refine ⟨?_, fun e hx => ?_, ?_, ?_, ?_, ?_, h7, h8, h9, h10, by rw [he 130 (by omega)]; exact h11, h12, h13.re (by omega) he, ?_, h15.re (by omega) he, h16.re (by omega) he⟩
  · refine ⟨fun i hi => ?_, fun i j hi hj => ?_⟩
    · simp only [he (1 + 2 * i) (by omega), he (2 + 2 * i) (by omega)]
      exact h1.1 i hi
    · show ad' (1 + 2 * i) = ad' (1 + 2 * j) → _
      rw [he (1 + 2 * i) (by omega), he (1 + 2 * j) (by omega)]
      exact h1.2 i j hi hj
  · rw [he _ (hsr e hx)]
    exact h2 e hx
  · refine ⟨fun i hi => ?_, fun i j hi hj => ?_⟩
    · have hi5 : i < 5 := hi
      show va_Z _ _ _ (.ref (ad' (100 + i))) _ _ _ ∧ va_O _ (ad' (100 + i)) _ _ _ ∧ ∀ q ∈ _, va_OF _ _ _ _ (ad' (100 + i)) _ _ _
      rw [he (100 + i) (by omega)]
      exact h3.1 i hi
    · have hi5 : i < 5 := hi
      have hj5 : j < 5 := hj
      show ad' (100 + i) = ad' (100 + j) → _
      rw [he (100 + i) (by omega), he (100 + j) (by omega)]
      exact h3.2 i j hi hj
  · refine ⟨fun i hi => ?_, fun i j hi hj => ?_⟩
    · have hi5 : i < 7 := hi
      show va_Z _ _ _ (.ref (ad' (105 + i))) _ _ _ ∧ va_O _ (ad' (105 + i)) _ _ _ ∧ ∀ q ∈ _, va_OF _ _ _ _ (ad' (105 + i)) _ _ _
      rw [he (105 + i) (by omega)]
      exact h4.1 i hi
    · have hi5 : i < 7 := hi
      have hj5 : j < 7 := hj
      show ad' (105 + i) = ad' (105 + j) → _
      rw [he (105 + i) (by omega), he (105 + j) (by omega)]
      exact h4.2 i j hi hj
  · rw [he 120 (by omega)]
    exact h5
  · rw [he 120 (by omega)]
    obtain ⟨cell, g1, g2, g3, g4, g5, g6, g7⟩ := h6
    exact ⟨cell, g1, g2, g3, g4, g5, fun j hj => by simp only [he (105 + j) (by omega)]; exact g6 j hj, g7⟩
  · rw [he 120 (by omega)]
    obtain ⟨cell, g1, g2, g3, g4, g5, g6⟩ := h14
    exact ⟨cell, g1, g2, g3, g4, fun j hj => by simp only [he (105 + j) (by omega)]; exact g5 j hj, g6⟩
/-- what holds of the tables and the constants, at a state -/
def KB (D : va_G) (dA : Nat → ClassId) (ad : Nat → Nat) (A : Nat → Prop) (U : State) (H : Heap) : Prop := va_K D CL (TYS dA) U ∧ NWs U ∧ ROs ad A U H
theorem kb_warm {D : va_G} {dA : Nat → ClassId} {ad : Nat → Nat} {A : Nat → Prop} {s U : State} {H : Heap} (hW : s.WarmedH U.vm) (h : KB D dA ad A s H) : KB D dA ad A U H := ⟨va_K.moved hW.alike h.1, nws_warm hW h.2.1, ros_warm hW h.2.2⟩
theorem kb_same {D : va_G} {dA : Nat → ClassId} {ad : Nat → Nat} {A : Nat → Prop} {s U : State} {H : Heap} (hv : s.vm = U.vm) (h : KB D dA ad A s H) : KB D dA ad A U H := ⟨va_K.moved (hv ▸ Vm.Alike.refl s.vm) h.1, nws_same hv h.2.1, ros_same hv h.2.2⟩
theorem kb_kept {D : va_G} {dA : Nat → ClassId} {ad : Nat → Nat} {A : Nat → Prop} {U : State} {H H1 : Heap} (h : KB D dA ad A U H) (hq : ∀ a : Nat, a < H.size → ¬ A a → H1[a]? = H[a]?) : KB D dA ad A U H1 := ⟨h.1, h.2.1, ros_kept h.2.2 hq⟩
theorem kb_narrow {D : va_G} {dA : Nat → ClassId} {ad : Nat → Nat} {A B : Nat → Prop} {U : State} {H : Heap} (h : KB D dA ad A U H) (hAB : ∀ q, B q → A q) : KB D dA ad B U H := ⟨h.1, h.2.1, ros_narrow h.2.2 hAB⟩
theorem kb_ad {D : va_G} {dA : Nat → ClassId} {ad ad' : Nat → Nat} {A : Nat → Prop} {U : State} {H : Heap} (h : KB D dA ad A U H) (he : ∀ p, p < 200 → ad' p = ad p) : KB D dA ad' A U H := ⟨h.1, h.2.1, ros_ad h.2.2 he⟩
/-! values of locals: int, long, place -/
abbrev TV : Type := Int32 ⊕ Int64 ⊕ Nat
abbrev iX (x : Int32) : TV := .inl x
abbrev lX (x : Int64) : TV := .inr (.inl x)
abbrev pX (v : Nat) : TV := .inr (.inr v)
def tv (ad : Nat → Nat) : TV → Value
  | .inl x => .int x
  | .inr (.inl x) => .long x
  | .inr (.inr v) => rv ad v
def tl : TV → Bool
  | .inr (.inl _) => true
  | _ => false
theorem tv_cat {ad : Nat → Nat} (x : TV) : ((tv ad x).category == 2) = tl x := by
  rcases x with x | x | x
  · rfl
  · rfl
  · show ((rv ad x).category == 2) = false
    rw [rv_cat]; rfl
def LH (ad : Nat → Nat) (ls : Array Slot) (n : Nat) (l : List (Nat × TV)) : Prop := lv_has ls n (l.map fun q => (q.1, tv ad q.2))
theorem lh_at {ad : Nat → Nat} {ls : Array Slot} {n : Nat} {l : List (Nat × TV)} (h : LH ad ls n l) (k : Nat) {i : Nat} {x : TV} (hk : l[k]? = some (i, x)) : ls[i]? = some (.val (tv ad x)) := lv_at h k (by rw [List.getElem?_map, hk]; rfl)
theorem lh_sub {ad : Nat → Nat} {ls : Array Slot} {n : Nat} {l l' : List (Nat × TV)} (h : LH ad ls n l) (ks : List Nat) (hl : ks.filterMap (fun k => l[k]?) = l') : LH ad ls n l' := by
  refine lv_sub h ks ?_
  rw [← hl]
  unfold lv_pick
  rw [List.map_filterMap]
  congr 1
  funext k
  rw [List.getElem?_map]
def lst (l : List (Nat × TV)) (i : Nat) : List (Nat × TV) := l.filter (fun q => !(q.1 == i) && !(q.1 + 1 == i && tl q.2))
theorem lst_map {ad : Nat → Nat} (l : List (Nat × TV)) (i : Nat) : (l.map fun q => (q.1, tv ad q.2)).filter (fun q => !(q.1 == i) && !(q.1 + 1 == i && q.2.category == 2)) = (lst l i).map fun q => (q.1, tv ad q.2) := by
  unfold lst
  rw [List.filter_map]
  congr 1
  apply List.filter_congr
  intro q _
  show (!(q.1 == i) && !(q.1 + 1 == i && (tv ad q.2).category == 2)) = _
  rw [tv_cat]
theorem lh_re {ad ad' : Nat → Nat} {ls : Array Slot} {n : Nat} {l : List (Nat × TV)} (h : LH ad ls n l) (hp : ∀ q ∈ l, ∀ v, q.2 = pX v → ad' v = ad v) : LH ad' ls n l := by
  have e : (l.map fun q => (q.1, tv ad' q.2)) = l.map fun q => (q.1, tv ad q.2) := by
    apply List.map_congr_left
    intro q hq
    rcases q with ⟨i, x | x | x⟩
    · rfl
    · rfl
    · show (i, rv ad' x) = (i, rv ad x)
      rw [rv_eq (hp _ hq x rfl)]
  unfold LH
  rw [e]
  exact h
def targs : Nat → List TV → List (Nat × TV)
  | _, [] => []
  | i, v :: vs => (i, v) :: targs (if tl v = true then i + 2 else i + 1) vs
theorem targs_map {ad : Nat → Nat} : ∀ (vs : List TV) (i : Nat), lv_args i (vs.map (tv ad)) = (targs i vs).map fun q => (q.1, tv ad q.2)
  | [], _ => rfl
  | v :: vs, i => by
    rw [List.map_cons, lv_args, targs, List.map_cons, ← targs_map vs]
    have : (if (tv ad v).category = 2 then i + 2 else i + 1) = if tl v = true then i + 2 else i + 1 := by
      rw [← tv_cat (ad := ad) v]
      simp
    rw [this]

