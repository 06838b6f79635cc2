set_option maxRecDepth 100000
theorem q128 : (Jvm.Cond.initialized "SpoonRow$Sort") ∈ lw_all := lw_g (lw_at lw_m1 31 rfl) rfl
theorem q659 : (Jvm.Cond.selects "SpoonRow$Sort" ({ cls := "java/lang/Object", name := "getClass", desc := "()Ljava/lang/Class;" } : Jvm.MethodName) ({ cls := "java/lang/Object", name := "getClass", desc := "()Ljava/lang/Class;" } : Jvm.MethodName)) ∈ lw_all := lw_g (lw_at lw_m3 82 rfl) rfl
theorem q1191 : (Jvm.Cond.laysStatic "SpoonRow$Sort" "END" "LSpoonRow$Sort;") ∈ lw_tbl := lw_at lw_m5 134 rfl
theorem q1222 : (Jvm.Cond.laysStatic "SpoonRow$Sort" "WORD" "LSpoonRow$Sort;") ∈ lw_tbl := lw_at lw_m5 165 rfl
theorem q1227 : (Jvm.Cond.laysStatic "SpoonRow$Sort" "NUMBER" "LSpoonRow$Sort;") ∈ lw_tbl := lw_at lw_m5 170 rfl
theorem q1232 : (Jvm.Cond.laysStatic "SpoonRow$Sort" "SIGN" "LSpoonRow$Sort;") ∈ lw_tbl := lw_at lw_m5 175 rfl
theorem q1234 : (Jvm.Cond.laysStatic "SpoonRow$Sort" "BAD" "LSpoonRow$Sort;") ∈ lw_tbl := lw_at lw_m5 177 rfl
theorem q2413 : (Jvm.Cond.castable "SpoonRow$Sort" "java/lang/Object") ∈ lw_tbl := lw_at lw_m10 156 rfl
theorem q278 : (Jvm.Cond.sameMethod "[B" "java/lang/Object" "clone" "()Ljava/lang/Object;") ∈ lw_all := lw_g (lw_at lw_m1 181 rfl) rfl
theorem q281 : (Jvm.Cond.selects "[B" ({ cls := "[B", name := "clone", desc := "()Ljava/lang/Object;" } : Jvm.MethodName) ({ cls := "java/lang/Object", name := "clone", desc := "()Ljava/lang/Object;" } : Jvm.MethodName)) ∈ lw_all := lw_g (lw_at lw_m1 184 rfl) rfl
theorem q282 : (Jvm.Cond.castable "[B" "java/lang/Cloneable") ∈ lw_tbl := lw_at lw_m1 185 rfl
theorem q2429 : (Jvm.Cond.castable "[B" "java/lang/Object") ∈ lw_tbl := lw_at lw_m10 172 rfl
theorem q2431 : (Jvm.Cond.castable "[I" "java/lang/Object") ∈ lw_tbl := lw_at lw_m10 174 rfl
theorem q2434 : (Jvm.Cond.castable "[J" "java/lang/Object") ∈ lw_tbl := lw_at lw_m10 177 rfl
theorem q506 : (Jvm.Cond.sameMethod "[LSpoonRow$Value;" "java/lang/Object" "clone" "()Ljava/lang/Object;") ∈ lw_all := lw_g (lw_at lw_m2 169 rfl) rfl
theorem q507 : (Jvm.Cond.selects "[LSpoonRow$Value;" ({ cls := "[LSpoonRow$Value;", name := "clone", desc := "()Ljava/lang/Object;" } : Jvm.MethodName) ({ cls := "java/lang/Object", name := "clone", desc := "()Ljava/lang/Object;" } : Jvm.MethodName)) ∈ lw_all := lw_g (lw_at lw_m2 170 rfl) rfl
theorem q508 : (Jvm.Cond.castable "[LSpoonRow$Value;" "java/lang/Cloneable") ∈ lw_tbl := lw_at lw_m2 171 rfl
theorem q2430 : (Jvm.Cond.castable "[LSpoonRow$Value;" "java/lang/Object") ∈ lw_tbl := lw_at lw_m10 173 rfl
theorem q2425 : (Jvm.Cond.sameMethod "[Ljava/lang/Object;" "java/lang/Object" "getClass" "()Ljava/lang/Class;") ∈ lw_all := lw_g (lw_at lw_m10 168 rfl) rfl
theorem q2426 : (Jvm.Cond.selects "[Ljava/lang/Object;" ({ cls := "java/lang/Object", name := "getClass", desc := "()Ljava/lang/Class;" } : Jvm.MethodName) ({ cls := "java/lang/Object", name := "getClass", desc := "()Ljava/lang/Class;" } : Jvm.MethodName)) ∈ lw_all := lw_g (lw_at lw_m10 169 rfl) rfl
theorem q2428 : (Jvm.Cond.castable "[Ljava/lang/Object;" "java/lang/Object") ∈ lw_tbl := lw_at lw_m10 171 rfl
theorem q2433 : (Jvm.Cond.castable "[Ljava/lang/String;" "java/lang/Object") ∈ lw_tbl := lw_at lw_m10 176 rfl
theorem q2432 : (Jvm.Cond.castable "[Z" "java/lang/Object") ∈ lw_tbl := lw_at lw_m10 175 rfl
theorem q117 : (Jvm.Cond.initialized "java/lang/Number") ∈ lw_all := lw_g (lw_at lw_m1 20 rfl) rfl
theorem q114 : (Jvm.Cond.initialized "java/lang/System") ∈ lw_all := lw_g (lw_at lw_m1 17 rfl) rfl
theorem q288 : (Jvm.Cond.static ({ cls := "java/lang/System", name := "arraycopy", desc := "(Ljava/lang/Object;ILjava/lang/Object;II)V" } : Jvm.MethodName)) ∈ lw_all := lw_g (lw_at lw_m1 191 rfl) rfl
theorem q289 : (Jvm.Cond.native ({ cls := "java/lang/System", name := "arraycopy", desc := "(Ljava/lang/Object;ILjava/lang/Object;II)V" } : Jvm.MethodName)) ∈ lw_all := lw_g (lw_at lw_m1 192 rfl) rfl
