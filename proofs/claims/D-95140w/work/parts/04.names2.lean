/-! WaterGrounds$Fault -/
set_option maxRecDepth 100000
def RX9 : String := "WaterGrounds$Fault"
def TX9 : u_T := fun k => match k with
  | 0 => ("java/lang/Throwable", "cause", "Ljava/lang/Throwable;", false)
  | 1 => ("java/lang/Throwable", "stackTrace", "[Ljava/lang/StackTraceElement;", false)
  | 2 => ("java/lang/Throwable", "suppressedExceptions", "Ljava/util/List;", false)
  | 3 => ("java/lang/Throwable", "detailMessage", "Ljava/lang/String;", false)
  | 4 => ("java/lang/Throwable", "backtrace", "Ljava/lang/Object;", false)
  | 5 => ("java/lang/Throwable", "depth", "I", false)
  | _ => ("WaterGrounds$Fault", "place", "I", true)
def tyX9 : Nat → FieldType := fun k => match k with
  | 0 => .object "java/lang/Throwable"
  | 1 => .array (.object "java/lang/StackTraceElement")
  | 2 => .object "java/util/List"
  | 3 => .object "java/lang/String"
  | 4 => .object "java/lang/Object"
  | 5 => .int
  | _ => .int
abbrev wsX90 : List Cond := u_ws RX9 TX9 7
theorem nmX9 : ∀ a, a < 7 → ∀ b, b < 7 → a ≠ b → (TX9 a).2.1 ≠ (TX9 b).2.1 := by decide +kernel
theorem tyX9_ok : ∀ k, k < 7 → parseFieldDescriptor (TX9 k).2.2.1 = some (tyX9 k) := by decide +kernel
abbrev cX9_init : ByteArray := prog_4_method_1_code
def yX9_init : MethodName := ⟨RX9, "<init>", "(I)V"⟩
def dkwX9_init_0 : List UInt8 := [42, 18, 1, 1, 3, 3, 183, 0, 3, 42, 27, 181, 0, 9, 177]
abbrev dktX9_init_0 : List UInt8 := dkwX9_init_0 ++ []
theorem dksX9_init_0 : cX9_init.data.toList.drop 0 = dktX9_init_0 := by decide +kernel
theorem dX9_init_0 : decode cX9_init 0 = .ok (.aload_n 0, 1) := dk_42 (dk_at dksX9_init_0 0 rfl rfl)
theorem dX9_init_1 : decode cX9_init 1 = .ok (.ldc 1, 2) := dk_18 1 (dk_at dksX9_init_0 1 rfl rfl)
theorem dX9_init_3 : decode cX9_init 3 = .ok (.aconst_null, 1) := dk_1 (dk_at dksX9_init_0 3 rfl rfl)
theorem dX9_init_4 : decode cX9_init 4 = .ok (.iconst 0, 1) := dk_3 (dk_at dksX9_init_0 4 rfl rfl)
theorem dX9_init_5 : decode cX9_init 5 = .ok (.iconst 0, 1) := dk_3 (dk_at dksX9_init_0 5 rfl rfl)
theorem dX9_init_6 : decode cX9_init 6 = .ok (.invokespecial 3, 3) := dk_183 0 3 (dk_at dksX9_init_0 6 rfl rfl)
theorem dX9_init_9 : decode cX9_init 9 = .ok (.aload_n 0, 1) := dk_42 (dk_at dksX9_init_0 9 rfl rfl)
theorem dX9_init_10 : decode cX9_init 10 = .ok (.iload_n 1, 1) := dk_27 (dk_at dksX9_init_0 10 rfl rfl)
theorem dX9_init_11 : decode cX9_init 11 = .ok (.putfield 9, 3) := dk_181 0 9 (dk_at dksX9_init_0 11 rfl rfl)
theorem dX9_init_14 : decode cX9_init 14 = .ok (.return_, 1) := dk_177 (dk_at dksX9_init_0 14 rfl rfl)
theorem q70 : (Jvm.Cond.initialized "WaterGrounds$Fault") ∈ lw_all := lw_g (lw_at lw_m1 16 rfl) rfl
theorem q488 : (Jvm.Cond.instantiable "WaterGrounds$Fault" (7 : Nat)) ∈ lw_all := lw_g (lw_at lw_m2 194 rfl) rfl
theorem q489 : (Jvm.Cond.castable "WaterGrounds$Fault" "WaterGrounds$Fault") ∈ lw_tbl := lw_at lw_m2 195 rfl
theorem q494 : (Jvm.Cond.selects "WaterGrounds$Fault" ({ cls := "java/lang/Throwable", name := "fillInStackTrace", desc := "(I)Ljava/lang/Throwable;" } : Jvm.MethodName) ({ cls := "java/lang/Throwable", name := "fillInStackTrace", desc := "(I)Ljava/lang/Throwable;" } : Jvm.MethodName)) ∈ lw_all := lw_g (lw_at lw_m2 200 rfl) rfl
theorem q495 : (Jvm.Cond.selects "WaterGrounds$Fault" ({ cls := "java/lang/Throwable", name := "fillInStackTrace", desc := "()Ljava/lang/Throwable;" } : Jvm.MethodName) ({ cls := "java/lang/Throwable", name := "fillInStackTrace", desc := "()Ljava/lang/Throwable;" } : Jvm.MethodName)) ∈ lw_all := lw_g (lw_at lw_m2 201 rfl) rfl
theorem q496 : (Jvm.Cond.lays "WaterGrounds$Fault" "java/lang/Throwable" "cause" "Ljava/lang/Throwable;") ∈ lw_all := lw_g (lw_at lw_m2 202 rfl) rfl
theorem q498 : (Jvm.Cond.lays "WaterGrounds$Fault" "java/lang/Throwable" "stackTrace" "[Ljava/lang/StackTraceElement;") ∈ lw_all := lw_g (lw_at lw_m2 204 rfl) rfl
theorem q500 : (Jvm.Cond.lays "WaterGrounds$Fault" "java/lang/Throwable" "suppressedExceptions" "Ljava/util/List;") ∈ lw_all := lw_g (lw_at lw_m2 206 rfl) rfl
theorem q502 : (Jvm.Cond.lays "WaterGrounds$Fault" "java/lang/Throwable" "detailMessage" "Ljava/lang/String;") ∈ lw_all := lw_g (lw_at lw_m2 208 rfl) rfl
theorem q504 : (Jvm.Cond.lays "WaterGrounds$Fault" "java/lang/Throwable" "backtrace" "Ljava/lang/Object;") ∈ lw_all := lw_g (lw_at lw_m2 210 rfl) rfl
theorem q525 : (Jvm.Cond.instanceMethod ({ cls := "WaterGrounds$Fault", name := "<init>", desc := "(I)V" } : Jvm.MethodName)) ∈ lw_all := lw_g (lw_at lw_m2 231 rfl) rfl
theorem q526 : (Jvm.Cond.code ({ cls := "WaterGrounds$Fault", name := "<init>", desc := "(I)V" } : Jvm.MethodName) prog_4_method_1_code (2 : Nat) (Option.none : Option Jvm.ClassFile.FieldType)) ∈ lw_all := lw_g (lw_at lw_m2 232 rfl) rfl
theorem q527 : (Jvm.Cond.stringRef "WaterGrounds$Fault" (1 : Nat) "") ∈ lw_tbl := lw_at lw_m2 233 rfl
theorem q528 : (Jvm.Cond.methodLink "WaterGrounds$Fault" (3 : Nat) ({ cls := "java/lang/Exception", name := "<init>", desc := "(Ljava/lang/String;Ljava/lang/Throwable;ZZ)V" } : Jvm.MethodName)) ∈ lw_all := lw_g (lw_at lw_m2 234 rfl) rfl
theorem q534 : (Jvm.Cond.fieldLink "WaterGrounds$Fault" (9 : Nat) "WaterGrounds$Fault" "place" "I") ∈ lw_all := lw_g (lw_at lw_m3 0 rfl) rfl
theorem q541 : (Jvm.Cond.laysFinal "WaterGrounds$Fault" "WaterGrounds$Fault" "place" "I") ∈ lw_all := lw_g (lw_at lw_m3 7 rfl) rfl
theorem q542 : (Jvm.Cond.soleField "WaterGrounds$Fault" "place") ∈ lw_all := lw_g (lw_at lw_m3 8 rfl) rfl
theorem q547 : (Jvm.Cond.lays "WaterGrounds$Fault" "java/lang/Throwable" "depth" "I") ∈ lw_all := lw_g (lw_at lw_m3 13 rfl) rfl
theorem q550 : (Jvm.Cond.superclass "WaterGrounds$Fault" "java/lang/Exception") ∈ lw_all := lw_g (lw_at lw_m3 16 rfl) rfl
theorem in_X9 : ∀ w ∈ wsX90, w ∈ lw_all := lw_in wsX90 [496, 498, 500, 502, 504, 547, 541] (by decide +kernel) (by decide +kernel)
/-! WaterGrounds$Line -/
set_option maxRecDepth 100000
def RX10 : String := "WaterGrounds$Line"
abbrev cX10_init : ByteArray := prog_7_method_1_code
def yX10_init : MethodName := ⟨RX10, "<init>", "(LWaterGrounds;[I)V"⟩
def dkwX10_init_0 : List UInt8 := [42, 43, 181, 0, 1, 42, 183, 0, 7, 42, 44, 181, 0, 13, 177]
abbrev dktX10_init_0 : List UInt8 := dkwX10_init_0 ++ []
theorem dksX10_init_0 : cX10_init.data.toList.drop 0 = dktX10_init_0 := by decide +kernel
theorem dX10_init_0 : decode cX10_init 0 = .ok (.aload_n 0, 1) := dk_42 (dk_at dksX10_init_0 0 rfl rfl)
theorem dX10_init_1 : decode cX10_init 1 = .ok (.aload_n 1, 1) := dk_43 (dk_at dksX10_init_0 1 rfl rfl)
theorem dX10_init_2 : decode cX10_init 2 = .ok (.putfield 1, 3) := dk_181 0 1 (dk_at dksX10_init_0 2 rfl rfl)
theorem dX10_init_5 : decode cX10_init 5 = .ok (.aload_n 0, 1) := dk_42 (dk_at dksX10_init_0 5 rfl rfl)
theorem dX10_init_6 : decode cX10_init 6 = .ok (.invokespecial 7, 3) := dk_183 0 7 (dk_at dksX10_init_0 6 rfl rfl)
theorem dX10_init_9 : decode cX10_init 9 = .ok (.aload_n 0, 1) := dk_42 (dk_at dksX10_init_0 9 rfl rfl)
theorem dX10_init_10 : decode cX10_init 10 = .ok (.aload_n 2, 1) := dk_44 (dk_at dksX10_init_0 10 rfl rfl)
theorem dX10_init_11 : decode cX10_init 11 = .ok (.putfield 13, 3) := dk_181 0 13 (dk_at dksX10_init_0 11 rfl rfl)
theorem dX10_init_14 : decode cX10_init 14 = .ok (.return_, 1) := dk_177 (dk_at dksX10_init_0 14 rfl rfl)
theorem q71 : (Jvm.Cond.initialized "WaterGrounds$Line") ∈ lw_all := lw_g (lw_at lw_m1 17 rfl) rfl
theorem q557 : (Jvm.Cond.instanceMethod ({ cls := "WaterGrounds$Line", name := "<init>", desc := "(LWaterGrounds;[I)V" } : Jvm.MethodName)) ∈ lw_all := lw_g (lw_at lw_m3 23 rfl) rfl
theorem q558 : (Jvm.Cond.code ({ cls := "WaterGrounds$Line", name := "<init>", desc := "(LWaterGrounds;[I)V" } : Jvm.MethodName) prog_7_method_1_code (3 : Nat) (Option.none : Option Jvm.ClassFile.FieldType)) ∈ lw_all := lw_g (lw_at lw_m3 24 rfl) rfl
theorem q559 : (Jvm.Cond.methodLink "WaterGrounds$Line" (7 : Nat) ({ cls := "java/lang/Object", name := "<init>", desc := "()V" } : Jvm.MethodName)) ∈ lw_all := lw_g (lw_at lw_m3 25 rfl) rfl
theorem q561 : (Jvm.Cond.fieldLink "WaterGrounds$Line" (13 : Nat) "WaterGrounds$Line" "told" "[I") ∈ lw_all := lw_g (lw_at lw_m3 27 rfl) rfl
theorem q572 : (Jvm.Cond.fieldLink "WaterGrounds$Line" (1 : Nat) "WaterGrounds$Line" "this$0" "LWaterGrounds;") ∈ lw_all := lw_g (lw_at lw_m3 38 rfl) rfl
theorem q576 : (Jvm.Cond.soleField "WaterGrounds$Line" "told") ∈ lw_all := lw_g (lw_at lw_m3 42 rfl) rfl
theorem q578 : (Jvm.Cond.soleField "WaterGrounds$Line" "this$0") ∈ lw_all := lw_g (lw_at lw_m3 44 rfl) rfl
theorem q686 : (Jvm.Cond.declares ({ cls := "WaterGrounds$Line", name := "run", desc := "()V" } : Jvm.MethodName)) ∈ lw_tbl := lw_at lw_m3 152 rfl
theorem q687 : (Jvm.Cond.sameMethod "WaterGrounds$Line" "WaterGrounds$Line" "run" "()V") ∈ lw_all := lw_g (lw_at lw_m3 153 rfl) rfl
/-! WaterGrounds$OfBed -/
set_option maxRecDepth 100000
def RX11 : String := "WaterGrounds$OfBed"
def TX11 : u_T := fun k => match k with
  | 0 => ("WaterGrounds$Line", "told", "[I", true)
  | 1 => ("WaterGrounds$Line", "this$0", "LWaterGrounds;", true)
  | _ => ("WaterGrounds$OfBed", "this$0", "LWaterGrounds;", true)
def tyX11 : Nat → FieldType := fun k => match k with
  | 0 => .array .int
  | 1 => .object "WaterGrounds"
  | _ => .object "WaterGrounds"
abbrev wsX110 : List Cond := u_ws RX11 TX11 3
-- two fields of one name: no nmX11
theorem tyX11_ok : ∀ k, k < 3 → parseFieldDescriptor (TX11 k).2.2.1 = some (tyX11 k) := by decide +kernel
abbrev cX11_init : ByteArray := prog_8_method_1_code
def yX11_init : MethodName := ⟨RX11, "<init>", "(LWaterGrounds;[I)V"⟩
def dkwX11_init_0 : List UInt8 := [42, 43, 181, 0, 1, 42, 43, 44, 183, 0, 7, 177]
abbrev dktX11_init_0 : List UInt8 := dkwX11_init_0 ++ []
theorem dksX11_init_0 : cX11_init.data.toList.drop 0 = dktX11_init_0 := by decide +kernel
theorem dX11_init_0 : decode cX11_init 0 = .ok (.aload_n 0, 1) := dk_42 (dk_at dksX11_init_0 0 rfl rfl)
theorem dX11_init_1 : decode cX11_init 1 = .ok (.aload_n 1, 1) := dk_43 (dk_at dksX11_init_0 1 rfl rfl)
theorem dX11_init_2 : decode cX11_init 2 = .ok (.putfield 1, 3) := dk_181 0 1 (dk_at dksX11_init_0 2 rfl rfl)
theorem dX11_init_5 : decode cX11_init 5 = .ok (.aload_n 0, 1) := dk_42 (dk_at dksX11_init_0 5 rfl rfl)
theorem dX11_init_6 : decode cX11_init 6 = .ok (.aload_n 1, 1) := dk_43 (dk_at dksX11_init_0 6 rfl rfl)
theorem dX11_init_7 : decode cX11_init 7 = .ok (.aload_n 2, 1) := dk_44 (dk_at dksX11_init_0 7 rfl rfl)
theorem dX11_init_8 : decode cX11_init 8 = .ok (.invokespecial 7, 3) := dk_183 0 7 (dk_at dksX11_init_0 8 rfl rfl)
theorem dX11_init_11 : decode cX11_init 11 = .ok (.return_, 1) := dk_177 (dk_at dksX11_init_0 11 rfl rfl)
abbrev cX11_run : ByteArray := prog_8_method_2_code
def yX11_run : MethodName := ⟨RX11, "run", "()V"⟩
def dkwX11_run_2 : List UInt8 := [29, 28, 162, 0, 20, 43, 29, 50, 58, 4, 25, 4, 3, 184, 0, 33, 132, 3, 1, 167, 255, 237, 177]
abbrev dktX11_run_2 : List UInt8 := dkwX11_run_2 ++ []
def dkwX11_run_1 : List UInt8 := [181, 0, 23, 42, 180, 0, 1, 3, 181, 0, 26, 42, 180, 0, 1, 180, 0, 29, 76, 43, 190, 61, 3, 62]
abbrev dktX11_run_1 : List UInt8 := dkwX11_run_1 ++ dktX11_run_2
def dkwX11_run_0 : List UInt8 := [42, 180, 0, 1, 42, 180, 0, 13, 3, 46, 181, 0, 17, 42, 180, 0, 1, 42, 180, 0, 13, 4, 46]
abbrev dktX11_run_0 : List UInt8 := dkwX11_run_0 ++ dktX11_run_1
theorem dksX11_run_0 : cX11_run.data.toList.drop 0 = dktX11_run_0 := by decide +kernel
theorem dksX11_run_1 : cX11_run.data.toList.drop 23 = dktX11_run_1 := dk_seg dksX11_run_0 23 rfl rfl
theorem dksX11_run_2 : cX11_run.data.toList.drop 47 = dktX11_run_2 := dk_seg dksX11_run_1 24 rfl rfl
theorem dX11_run_0 : decode cX11_run 0 = .ok (.aload_n 0, 1) := dk_42 (dk_at dksX11_run_0 0 rfl rfl)
theorem dX11_run_1 : decode cX11_run 1 = .ok (.getfield 1, 3) := dk_180 0 1 (dk_at dksX11_run_0 1 rfl rfl)
theorem dX11_run_4 : decode cX11_run 4 = .ok (.aload_n 0, 1) := dk_42 (dk_at dksX11_run_0 4 rfl rfl)
theorem dX11_run_5 : decode cX11_run 5 = .ok (.getfield 13, 3) := dk_180 0 13 (dk_at dksX11_run_0 5 rfl rfl)
theorem dX11_run_8 : decode cX11_run 8 = .ok (.iconst 0, 1) := dk_3 (dk_at dksX11_run_0 8 rfl rfl)
theorem dX11_run_9 : decode cX11_run 9 = .ok (.iaload, 1) := dk_46 (dk_at dksX11_run_0 9 rfl rfl)
theorem dX11_run_10 : decode cX11_run 10 = .ok (.putfield 17, 3) := dk_181 0 17 (dk_at dksX11_run_0 10 rfl rfl)
theorem dX11_run_13 : decode cX11_run 13 = .ok (.aload_n 0, 1) := dk_42 (dk_at dksX11_run_0 13 rfl rfl)
theorem dX11_run_14 : decode cX11_run 14 = .ok (.getfield 1, 3) := dk_180 0 1 (dk_at dksX11_run_0 14 rfl rfl)
theorem dX11_run_17 : decode cX11_run 17 = .ok (.aload_n 0, 1) := dk_42 (dk_at dksX11_run_0 17 rfl rfl)
theorem dX11_run_18 : decode cX11_run 18 = .ok (.getfield 13, 3) := dk_180 0 13 (dk_at dksX11_run_0 18 rfl rfl)
theorem dX11_run_21 : decode cX11_run 21 = .ok (.iconst 1, 1) := dk_4 (dk_at dksX11_run_0 21 rfl rfl)
theorem dX11_run_22 : decode cX11_run 22 = .ok (.iaload, 1) := dk_46 (dk_at dksX11_run_0 22 rfl rfl)
theorem dX11_run_23 : decode cX11_run 23 = .ok (.putfield 23, 3) := dk_181 0 23 (dk_at dksX11_run_1 0 rfl rfl)
theorem dX11_run_26 : decode cX11_run 26 = .ok (.aload_n 0, 1) := dk_42 (dk_at dksX11_run_1 3 rfl rfl)
theorem dX11_run_27 : decode cX11_run 27 = .ok (.getfield 1, 3) := dk_180 0 1 (dk_at dksX11_run_1 4 rfl rfl)
theorem dX11_run_30 : decode cX11_run 30 = .ok (.iconst 0, 1) := dk_3 (dk_at dksX11_run_1 7 rfl rfl)
theorem dX11_run_31 : decode cX11_run 31 = .ok (.putfield 26, 3) := dk_181 0 26 (dk_at dksX11_run_1 8 rfl rfl)
theorem dX11_run_34 : decode cX11_run 34 = .ok (.aload_n 0, 1) := dk_42 (dk_at dksX11_run_1 11 rfl rfl)
theorem dX11_run_35 : decode cX11_run 35 = .ok (.getfield 1, 3) := dk_180 0 1 (dk_at dksX11_run_1 12 rfl rfl)
theorem dX11_run_38 : decode cX11_run 38 = .ok (.getfield 29, 3) := dk_180 0 29 (dk_at dksX11_run_1 15 rfl rfl)
theorem dX11_run_41 : decode cX11_run 41 = .ok (.astore_n 1, 1) := dk_76 (dk_at dksX11_run_1 18 rfl rfl)
theorem dX11_run_42 : decode cX11_run 42 = .ok (.aload_n 1, 1) := dk_43 (dk_at dksX11_run_1 19 rfl rfl)
theorem dX11_run_43 : decode cX11_run 43 = .ok (.arraylength, 1) := dk_190 (dk_at dksX11_run_1 20 rfl rfl)
theorem dX11_run_44 : decode cX11_run 44 = .ok (.istore_n 2, 1) := dk_61 (dk_at dksX11_run_1 21 rfl rfl)
theorem dX11_run_45 : decode cX11_run 45 = .ok (.iconst 0, 1) := dk_3 (dk_at dksX11_run_1 22 rfl rfl)
theorem dX11_run_46 : decode cX11_run 46 = .ok (.istore_n 3, 1) := dk_62 (dk_at dksX11_run_1 23 rfl rfl)
theorem dX11_run_47 : decode cX11_run 47 = .ok (.iload_n 3, 1) := dk_29 (dk_at dksX11_run_2 0 rfl rfl)
theorem dX11_run_48 : decode cX11_run 48 = .ok (.iload_n 2, 1) := dk_28 (dk_at dksX11_run_2 1 rfl rfl)
theorem dX11_run_49 : decode cX11_run 49 = .ok (.if_icmp .ge 20, 3) := dk_162 0 20 (dk_at dksX11_run_2 2 rfl rfl)
theorem dX11_run_52 : decode cX11_run 52 = .ok (.aload_n 1, 1) := dk_43 (dk_at dksX11_run_2 5 rfl rfl)
theorem dX11_run_53 : decode cX11_run 53 = .ok (.iload_n 3, 1) := dk_29 (dk_at dksX11_run_2 6 rfl rfl)
theorem dX11_run_54 : decode cX11_run 54 = .ok (.aaload, 1) := dk_50 (dk_at dksX11_run_2 7 rfl rfl)
theorem dX11_run_55 : decode cX11_run 55 = .ok (.astore 4, 2) := dk_58 4 (dk_at dksX11_run_2 8 rfl rfl)
theorem dX11_run_57 : decode cX11_run 57 = .ok (.aload 4, 2) := dk_25 4 (dk_at dksX11_run_2 10 rfl rfl)
theorem dX11_run_59 : decode cX11_run 59 = .ok (.iconst 0, 1) := dk_3 (dk_at dksX11_run_2 12 rfl rfl)
theorem dX11_run_60 : decode cX11_run 60 = .ok (.invokestatic 33, 3) := dk_184 0 33 (dk_at dksX11_run_2 13 rfl rfl)
theorem dX11_run_63 : decode cX11_run 63 = .ok (.iinc 3 1, 3) := dk_132 3 1 (dk_at dksX11_run_2 16 rfl rfl)
theorem dX11_run_66 : decode cX11_run 66 = .ok (.goto (-19), 3) := dk_167 255 237 (dk_at dksX11_run_2 19 rfl rfl)
theorem dX11_run_69 : decode cX11_run 69 = .ok (.return_, 1) := dk_177 (dk_at dksX11_run_2 22 rfl rfl)
theorem q72 : (Jvm.Cond.initialized "WaterGrounds$OfBed") ∈ lw_all := lw_g (lw_at lw_m1 18 rfl) rfl
theorem q266 : (Jvm.Cond.fieldLinkNest "WaterGrounds$OfBed" (17 : Nat) "WaterGrounds" "rings" "I" "WaterGrounds") ∈ lw_tbl := lw_at lw_m1 212 rfl
theorem q270 : (Jvm.Cond.fieldLinkNest "WaterGrounds$OfBed" (23 : Nat) "WaterGrounds" "layers" "I" "WaterGrounds") ∈ lw_tbl := lw_at lw_m1 216 rfl
theorem q283 : (Jvm.Cond.fieldLinkNest "WaterGrounds$OfBed" (29 : Nat) "WaterGrounds" "looser" "[[I" "WaterGrounds") ∈ lw_tbl := lw_at lw_m1 229 rfl
theorem q314 : (Jvm.Cond.fieldLinkNest "WaterGrounds$OfBed" (26 : Nat) "WaterGrounds" "pourMany" "I" "WaterGrounds") ∈ lw_tbl := lw_at lw_m2 20 rfl
theorem q552 : (Jvm.Cond.instantiable "WaterGrounds$OfBed" (3 : Nat)) ∈ lw_all := lw_g (lw_at lw_m3 18 rfl) rfl
theorem q554 : (Jvm.Cond.instanceMethod ({ cls := "WaterGrounds$OfBed", name := "<init>", desc := "(LWaterGrounds;[I)V" } : Jvm.MethodName)) ∈ lw_all := lw_g (lw_at lw_m3 20 rfl) rfl
theorem q555 : (Jvm.Cond.code ({ cls := "WaterGrounds$OfBed", name := "<init>", desc := "(LWaterGrounds;[I)V" } : Jvm.MethodName) prog_8_method_1_code (3 : Nat) (Option.none : Option Jvm.ClassFile.FieldType)) ∈ lw_all := lw_g (lw_at lw_m3 21 rfl) rfl
theorem q556 : (Jvm.Cond.methodLink "WaterGrounds$OfBed" (7 : Nat) ({ cls := "WaterGrounds$Line", name := "<init>", desc := "(LWaterGrounds;[I)V" } : Jvm.MethodName)) ∈ lw_all := lw_g (lw_at lw_m3 22 rfl) rfl
theorem q560 : (Jvm.Cond.fieldLink "WaterGrounds$OfBed" (1 : Nat) "WaterGrounds$OfBed" "this$0" "LWaterGrounds;") ∈ lw_all := lw_g (lw_at lw_m3 26 rfl) rfl
theorem q564 : (Jvm.Cond.fieldLink "WaterGrounds$OfBed" (13 : Nat) "WaterGrounds$OfBed" "told" "[I") ∈ lw_all := lw_g (lw_at lw_m3 30 rfl) rfl
theorem q565 : (Jvm.Cond.sameField "WaterGrounds$OfBed" "WaterGrounds$Line" "told" "[I") ∈ lw_all := lw_g (lw_at lw_m3 31 rfl) rfl
theorem q573 : (Jvm.Cond.laysFinal "WaterGrounds$OfBed" "WaterGrounds$OfBed" "this$0" "LWaterGrounds;") ∈ lw_all := lw_g (lw_at lw_m3 39 rfl) rfl
theorem q574 : (Jvm.Cond.soleField "WaterGrounds$OfBed" "this$0") ∈ lw_all := lw_g (lw_at lw_m3 40 rfl) rfl
theorem q575 : (Jvm.Cond.laysFinal "WaterGrounds$OfBed" "WaterGrounds$Line" "told" "[I") ∈ lw_all := lw_g (lw_at lw_m3 41 rfl) rfl
theorem q577 : (Jvm.Cond.laysFinal "WaterGrounds$OfBed" "WaterGrounds$Line" "this$0" "LWaterGrounds;") ∈ lw_all := lw_g (lw_at lw_m3 43 rfl) rfl
theorem q579 : (Jvm.Cond.superclass "WaterGrounds$OfBed" "WaterGrounds$Line") ∈ lw_all := lw_g (lw_at lw_m3 45 rfl) rfl
theorem q688 : (Jvm.Cond.selects "WaterGrounds$OfBed" ({ cls := "WaterGrounds$Line", name := "run", desc := "()V" } : Jvm.MethodName) ({ cls := "WaterGrounds$OfBed", name := "run", desc := "()V" } : Jvm.MethodName)) ∈ lw_all := lw_g (lw_at lw_m3 154 rfl) rfl
theorem q689 : (Jvm.Cond.instanceMethod ({ cls := "WaterGrounds$OfBed", name := "run", desc := "()V" } : Jvm.MethodName)) ∈ lw_all := lw_g (lw_at lw_m3 155 rfl) rfl
theorem q690 : (Jvm.Cond.code ({ cls := "WaterGrounds$OfBed", name := "run", desc := "()V" } : Jvm.MethodName) prog_8_method_2_code (5 : Nat) (Option.none : Option Jvm.ClassFile.FieldType)) ∈ lw_all := lw_g (lw_at lw_m3 156 rfl) rfl
theorem q691 : (Jvm.Cond.methodLink "WaterGrounds$OfBed" (33 : Nat) ({ cls := "java/util/Arrays", name := "fill", desc := "([II)V" } : Jvm.MethodName)) ∈ lw_all := lw_g (lw_at lw_m3 157 rfl) rfl
theorem q1357 : (Jvm.Cond.castable "WaterGrounds$OfBed" "WaterGrounds$Line") ∈ lw_tbl := lw_at lw_m6 103 rfl
theorem in_X11 : ∀ w ∈ wsX110, w ∈ lw_all := lw_in wsX110 [575, 577, 573] (by decide +kernel) (by decide +kernel)
/-! WaterGrounds$OfRow -/
set_option maxRecDepth 100000
def RX12 : String := "WaterGrounds$OfRow"
def TX12 : u_T := fun k => match k with
  | 0 => ("WaterGrounds$Line", "told", "[I", true)
  | 1 => ("WaterGrounds$Line", "this$0", "LWaterGrounds;", true)
  | 2 => ("WaterGrounds$OfRow", "what", "I", true)
  | _ => ("WaterGrounds$OfRow", "this$0", "LWaterGrounds;", true)
def tyX12 : Nat → FieldType := fun k => match k with
  | 0 => .array .int
  | 1 => .object "WaterGrounds"
  | 2 => .int
  | _ => .object "WaterGrounds"
abbrev wsX120 : List Cond := u_ws RX12 TX12 4
-- two fields of one name: no nmX12
theorem tyX12_ok : ∀ k, k < 4 → parseFieldDescriptor (TX12 k).2.2.1 = some (tyX12 k) := by decide +kernel
abbrev cX12_init : ByteArray := prog_12_method_1_code
def yX12_init : MethodName := ⟨RX12, "<init>", "(LWaterGrounds;I[I)V"⟩
def dkwX12_init_0 : List UInt8 := [42, 43, 181, 0, 1, 42, 43, 45, 183, 0, 7, 42, 28, 181, 0, 13, 177]
abbrev dktX12_init_0 : List UInt8 := dkwX12_init_0 ++ []
theorem dksX12_init_0 : cX12_init.data.toList.drop 0 = dktX12_init_0 := by decide +kernel
theorem dX12_init_0 : decode cX12_init 0 = .ok (.aload_n 0, 1) := dk_42 (dk_at dksX12_init_0 0 rfl rfl)
theorem dX12_init_1 : decode cX12_init 1 = .ok (.aload_n 1, 1) := dk_43 (dk_at dksX12_init_0 1 rfl rfl)
theorem dX12_init_2 : decode cX12_init 2 = .ok (.putfield 1, 3) := dk_181 0 1 (dk_at dksX12_init_0 2 rfl rfl)
theorem dX12_init_5 : decode cX12_init 5 = .ok (.aload_n 0, 1) := dk_42 (dk_at dksX12_init_0 5 rfl rfl)
theorem dX12_init_6 : decode cX12_init 6 = .ok (.aload_n 1, 1) := dk_43 (dk_at dksX12_init_0 6 rfl rfl)
theorem dX12_init_7 : decode cX12_init 7 = .ok (.aload_n 3, 1) := dk_45 (dk_at dksX12_init_0 7 rfl rfl)
theorem dX12_init_8 : decode cX12_init 8 = .ok (.invokespecial 7, 3) := dk_183 0 7 (dk_at dksX12_init_0 8 rfl rfl)
theorem dX12_init_11 : decode cX12_init 11 = .ok (.aload_n 0, 1) := dk_42 (dk_at dksX12_init_0 11 rfl rfl)
theorem dX12_init_12 : decode cX12_init 12 = .ok (.iload_n 2, 1) := dk_28 (dk_at dksX12_init_0 12 rfl rfl)
theorem dX12_init_13 : decode cX12_init 13 = .ok (.putfield 13, 3) := dk_181 0 13 (dk_at dksX12_init_0 13 rfl rfl)
theorem dX12_init_16 : decode cX12_init 16 = .ok (.return_, 1) := dk_177 (dk_at dksX12_init_0 16 rfl rfl)
abbrev cX12_run : ByteArray := prog_12_method_2_code
def yX12_run : MethodName := ⟨RX12, "run", "()V"⟩
def dkwX12_run_5 : List UInt8 := [181, 0, 32, 177]
abbrev dktX12_run_5 : List UInt8 := dkwX12_run_5 ++ []
def dkwX12_run_4 : List UInt8 := [42, 180, 0, 13, 6, 160, 0, 10, 42, 180, 0, 17, 167, 0, 10, 42, 180, 0, 1, 180, 0, 32]
abbrev dktX12_run_4 : List UInt8 := dkwX12_run_4 ++ dktX12_run_5
def dkwX12_run_3 : List UInt8 := [160, 0, 10, 42, 180, 0, 17, 167, 0, 10, 42, 180, 0, 1, 180, 0, 29, 181, 0, 29, 42, 180, 0, 1]
abbrev dktX12_run_3 : List UInt8 := dkwX12_run_3 ++ dktX12_run_4
def dkwX12_run_2 : List UInt8 := [167, 0, 10, 42, 180, 0, 1, 180, 0, 26, 181, 0, 26, 42, 180, 0, 1, 42, 180, 0, 13, 5]
abbrev dktX12_run_2 : List UInt8 := dkwX12_run_2 ++ dktX12_run_3
def dkwX12_run_1 : List UInt8 := [180, 0, 21, 181, 0, 21, 42, 180, 0, 1, 42, 180, 0, 13, 4, 160, 0, 10, 42, 180, 0, 17]
abbrev dktX12_run_1 : List UInt8 := dkwX12_run_1 ++ dktX12_run_2
def dkwX12_run_0 : List UInt8 := [42, 180, 0, 1, 42, 180, 0, 13, 154, 0, 10, 42, 180, 0, 17, 167, 0, 10, 42, 180, 0, 1]
abbrev dktX12_run_0 : List UInt8 := dkwX12_run_0 ++ dktX12_run_1
theorem dksX12_run_0 : cX12_run.data.toList.drop 0 = dktX12_run_0 := by decide +kernel
theorem dksX12_run_1 : cX12_run.data.toList.drop 22 = dktX12_run_1 := dk_seg dksX12_run_0 22 rfl rfl
theorem dksX12_run_2 : cX12_run.data.toList.drop 44 = dktX12_run_2 := dk_seg dksX12_run_1 22 rfl rfl
theorem dksX12_run_3 : cX12_run.data.toList.drop 66 = dktX12_run_3 := dk_seg dksX12_run_2 22 rfl rfl
theorem dksX12_run_4 : cX12_run.data.toList.drop 90 = dktX12_run_4 := dk_seg dksX12_run_3 24 rfl rfl
theorem dksX12_run_5 : cX12_run.data.toList.drop 112 = dktX12_run_5 := dk_seg dksX12_run_4 22 rfl rfl
theorem dX12_run_0 : decode cX12_run 0 = .ok (.aload_n 0, 1) := dk_42 (dk_at dksX12_run_0 0 rfl rfl)
theorem dX12_run_1 : decode cX12_run 1 = .ok (.getfield 1, 3) := dk_180 0 1 (dk_at dksX12_run_0 1 rfl rfl)
theorem dX12_run_4 : decode cX12_run 4 = .ok (.aload_n 0, 1) := dk_42 (dk_at dksX12_run_0 4 rfl rfl)
theorem dX12_run_5 : decode cX12_run 5 = .ok (.getfield 13, 3) := dk_180 0 13 (dk_at dksX12_run_0 5 rfl rfl)
theorem dX12_run_8 : decode cX12_run 8 = .ok (.ifCond .ne 10, 3) := dk_154 0 10 (dk_at dksX12_run_0 8 rfl rfl)
theorem dX12_run_11 : decode cX12_run 11 = .ok (.aload_n 0, 1) := dk_42 (dk_at dksX12_run_0 11 rfl rfl)
theorem dX12_run_12 : decode cX12_run 12 = .ok (.getfield 17, 3) := dk_180 0 17 (dk_at dksX12_run_0 12 rfl rfl)
theorem dX12_run_15 : decode cX12_run 15 = .ok (.goto 10, 3) := dk_167 0 10 (dk_at dksX12_run_0 15 rfl rfl)
theorem dX12_run_18 : decode cX12_run 18 = .ok (.aload_n 0, 1) := dk_42 (dk_at dksX12_run_0 18 rfl rfl)
theorem dX12_run_19 : decode cX12_run 19 = .ok (.getfield 1, 3) := dk_180 0 1 (dk_at dksX12_run_0 19 rfl rfl)
theorem dX12_run_22 : decode cX12_run 22 = .ok (.getfield 21, 3) := dk_180 0 21 (dk_at dksX12_run_1 0 rfl rfl)
theorem dX12_run_25 : decode cX12_run 25 = .ok (.putfield 21, 3) := dk_181 0 21 (dk_at dksX12_run_1 3 rfl rfl)
theorem dX12_run_28 : decode cX12_run 28 = .ok (.aload_n 0, 1) := dk_42 (dk_at dksX12_run_1 6 rfl rfl)
theorem dX12_run_29 : decode cX12_run 29 = .ok (.getfield 1, 3) := dk_180 0 1 (dk_at dksX12_run_1 7 rfl rfl)
theorem dX12_run_32 : decode cX12_run 32 = .ok (.aload_n 0, 1) := dk_42 (dk_at dksX12_run_1 10 rfl rfl)
theorem dX12_run_33 : decode cX12_run 33 = .ok (.getfield 13, 3) := dk_180 0 13 (dk_at dksX12_run_1 11 rfl rfl)
theorem dX12_run_36 : decode cX12_run 36 = .ok (.iconst 1, 1) := dk_4 (dk_at dksX12_run_1 14 rfl rfl)
theorem dX12_run_37 : decode cX12_run 37 = .ok (.if_icmp .ne 10, 3) := dk_160 0 10 (dk_at dksX12_run_1 15 rfl rfl)
theorem dX12_run_40 : decode cX12_run 40 = .ok (.aload_n 0, 1) := dk_42 (dk_at dksX12_run_1 18 rfl rfl)
theorem dX12_run_41 : decode cX12_run 41 = .ok (.getfield 17, 3) := dk_180 0 17 (dk_at dksX12_run_1 19 rfl rfl)
theorem dX12_run_44 : decode cX12_run 44 = .ok (.goto 10, 3) := dk_167 0 10 (dk_at dksX12_run_2 0 rfl rfl)
theorem dX12_run_47 : decode cX12_run 47 = .ok (.aload_n 0, 1) := dk_42 (dk_at dksX12_run_2 3 rfl rfl)
theorem dX12_run_48 : decode cX12_run 48 = .ok (.getfield 1, 3) := dk_180 0 1 (dk_at dksX12_run_2 4 rfl rfl)
theorem dX12_run_51 : decode cX12_run 51 = .ok (.getfield 26, 3) := dk_180 0 26 (dk_at dksX12_run_2 7 rfl rfl)
theorem dX12_run_54 : decode cX12_run 54 = .ok (.putfield 26, 3) := dk_181 0 26 (dk_at dksX12_run_2 10 rfl rfl)
theorem dX12_run_57 : decode cX12_run 57 = .ok (.aload_n 0, 1) := dk_42 (dk_at dksX12_run_2 13 rfl rfl)
theorem dX12_run_58 : decode cX12_run 58 = .ok (.getfield 1, 3) := dk_180 0 1 (dk_at dksX12_run_2 14 rfl rfl)
theorem dX12_run_61 : decode cX12_run 61 = .ok (.aload_n 0, 1) := dk_42 (dk_at dksX12_run_2 17 rfl rfl)
theorem dX12_run_62 : decode cX12_run 62 = .ok (.getfield 13, 3) := dk_180 0 13 (dk_at dksX12_run_2 18 rfl rfl)
theorem dX12_run_65 : decode cX12_run 65 = .ok (.iconst 2, 1) := dk_5 (dk_at dksX12_run_2 21 rfl rfl)
theorem dX12_run_66 : decode cX12_run 66 = .ok (.if_icmp .ne 10, 3) := dk_160 0 10 (dk_at dksX12_run_3 0 rfl rfl)
theorem dX12_run_69 : decode cX12_run 69 = .ok (.aload_n 0, 1) := dk_42 (dk_at dksX12_run_3 3 rfl rfl)
theorem dX12_run_70 : decode cX12_run 70 = .ok (.getfield 17, 3) := dk_180 0 17 (dk_at dksX12_run_3 4 rfl rfl)
theorem dX12_run_73 : decode cX12_run 73 = .ok (.goto 10, 3) := dk_167 0 10 (dk_at dksX12_run_3 7 rfl rfl)
theorem dX12_run_76 : decode cX12_run 76 = .ok (.aload_n 0, 1) := dk_42 (dk_at dksX12_run_3 10 rfl rfl)
theorem dX12_run_77 : decode cX12_run 77 = .ok (.getfield 1, 3) := dk_180 0 1 (dk_at dksX12_run_3 11 rfl rfl)
theorem dX12_run_80 : decode cX12_run 80 = .ok (.getfield 29, 3) := dk_180 0 29 (dk_at dksX12_run_3 14 rfl rfl)
theorem dX12_run_83 : decode cX12_run 83 = .ok (.putfield 29, 3) := dk_181 0 29 (dk_at dksX12_run_3 17 rfl rfl)
theorem dX12_run_86 : decode cX12_run 86 = .ok (.aload_n 0, 1) := dk_42 (dk_at dksX12_run_3 20 rfl rfl)
theorem dX12_run_87 : decode cX12_run 87 = .ok (.getfield 1, 3) := dk_180 0 1 (dk_at dksX12_run_3 21 rfl rfl)
theorem dX12_run_90 : decode cX12_run 90 = .ok (.aload_n 0, 1) := dk_42 (dk_at dksX12_run_4 0 rfl rfl)
theorem dX12_run_91 : decode cX12_run 91 = .ok (.getfield 13, 3) := dk_180 0 13 (dk_at dksX12_run_4 1 rfl rfl)
theorem dX12_run_94 : decode cX12_run 94 = .ok (.iconst 3, 1) := dk_6 (dk_at dksX12_run_4 4 rfl rfl)
theorem dX12_run_95 : decode cX12_run 95 = .ok (.if_icmp .ne 10, 3) := dk_160 0 10 (dk_at dksX12_run_4 5 rfl rfl)
theorem dX12_run_98 : decode cX12_run 98 = .ok (.aload_n 0, 1) := dk_42 (dk_at dksX12_run_4 8 rfl rfl)
theorem dX12_run_99 : decode cX12_run 99 = .ok (.getfield 17, 3) := dk_180 0 17 (dk_at dksX12_run_4 9 rfl rfl)
theorem dX12_run_102 : decode cX12_run 102 = .ok (.goto 10, 3) := dk_167 0 10 (dk_at dksX12_run_4 12 rfl rfl)
theorem dX12_run_105 : decode cX12_run 105 = .ok (.aload_n 0, 1) := dk_42 (dk_at dksX12_run_4 15 rfl rfl)
theorem dX12_run_106 : decode cX12_run 106 = .ok (.getfield 1, 3) := dk_180 0 1 (dk_at dksX12_run_4 16 rfl rfl)
theorem dX12_run_109 : decode cX12_run 109 = .ok (.getfield 32, 3) := dk_180 0 32 (dk_at dksX12_run_4 19 rfl rfl)
theorem dX12_run_112 : decode cX12_run 112 = .ok (.putfield 32, 3) := dk_181 0 32 (dk_at dksX12_run_5 0 rfl rfl)
theorem dX12_run_115 : decode cX12_run 115 = .ok (.return_, 1) := dk_177 (dk_at dksX12_run_5 3 rfl rfl)
theorem q73 : (Jvm.Cond.initialized "WaterGrounds$OfRow") ∈ lw_all := lw_g (lw_at lw_m1 19 rfl) rfl
theorem q273 : (Jvm.Cond.fieldLinkNest "WaterGrounds$OfRow" (21 : Nat) "WaterGrounds" "stuffs" "[I" "WaterGrounds") ∈ lw_tbl := lw_at lw_m1 219 rfl
theorem q276 : (Jvm.Cond.fieldLinkNest "WaterGrounds$OfRow" (26 : Nat) "WaterGrounds" "rates" "[I" "WaterGrounds") ∈ lw_tbl := lw_at lw_m1 222 rfl
theorem q280 : (Jvm.Cond.fieldLinkNest "WaterGrounds$OfRow" (29 : Nat) "WaterGrounds" "loose" "[I" "WaterGrounds") ∈ lw_tbl := lw_at lw_m1 226 rfl
theorem q307 : (Jvm.Cond.fieldLinkNest "WaterGrounds$OfRow" (32 : Nat) "WaterGrounds" "chart" "[I" "WaterGrounds") ∈ lw_tbl := lw_at lw_m2 13 rfl
theorem q570 : (Jvm.Cond.fieldLink "WaterGrounds$OfRow" (17 : Nat) "WaterGrounds$OfRow" "told" "[I") ∈ lw_all := lw_g (lw_at lw_m3 36 rfl) rfl
theorem q571 : (Jvm.Cond.sameField "WaterGrounds$OfRow" "WaterGrounds$Line" "told" "[I") ∈ lw_all := lw_g (lw_at lw_m3 37 rfl) rfl
theorem q582 : (Jvm.Cond.instantiable "WaterGrounds$OfRow" (4 : Nat)) ∈ lw_all := lw_g (lw_at lw_m3 48 rfl) rfl
theorem q590 : (Jvm.Cond.instanceMethod ({ cls := "WaterGrounds$OfRow", name := "<init>", desc := "(LWaterGrounds;I[I)V" } : Jvm.MethodName)) ∈ lw_all := lw_g (lw_at lw_m3 56 rfl) rfl
theorem q591 : (Jvm.Cond.code ({ cls := "WaterGrounds$OfRow", name := "<init>", desc := "(LWaterGrounds;I[I)V" } : Jvm.MethodName) prog_12_method_1_code (4 : Nat) (Option.none : Option Jvm.ClassFile.FieldType)) ∈ lw_all := lw_g (lw_at lw_m3 57 rfl) rfl
theorem q592 : (Jvm.Cond.methodLink "WaterGrounds$OfRow" (7 : Nat) ({ cls := "WaterGrounds$Line", name := "<init>", desc := "(LWaterGrounds;[I)V" } : Jvm.MethodName)) ∈ lw_all := lw_g (lw_at lw_m3 58 rfl) rfl
theorem q593 : (Jvm.Cond.fieldLink "WaterGrounds$OfRow" (13 : Nat) "WaterGrounds$OfRow" "what" "I") ∈ lw_all := lw_g (lw_at lw_m3 59 rfl) rfl
theorem q594 : (Jvm.Cond.fieldLink "WaterGrounds$OfRow" (1 : Nat) "WaterGrounds$OfRow" "this$0" "LWaterGrounds;") ∈ lw_all := lw_g (lw_at lw_m3 60 rfl) rfl
theorem q595 : (Jvm.Cond.laysFinal "WaterGrounds$OfRow" "WaterGrounds$OfRow" "what" "I") ∈ lw_all := lw_g (lw_at lw_m3 61 rfl) rfl
theorem q596 : (Jvm.Cond.soleField "WaterGrounds$OfRow" "what") ∈ lw_all := lw_g (lw_at lw_m3 62 rfl) rfl
theorem q597 : (Jvm.Cond.laysFinal "WaterGrounds$OfRow" "WaterGrounds$OfRow" "this$0" "LWaterGrounds;") ∈ lw_all := lw_g (lw_at lw_m3 63 rfl) rfl
theorem q598 : (Jvm.Cond.soleField "WaterGrounds$OfRow" "this$0") ∈ lw_all := lw_g (lw_at lw_m3 64 rfl) rfl
theorem q599 : (Jvm.Cond.laysFinal "WaterGrounds$OfRow" "WaterGrounds$Line" "told" "[I") ∈ lw_all := lw_g (lw_at lw_m3 65 rfl) rfl
theorem q600 : (Jvm.Cond.laysFinal "WaterGrounds$OfRow" "WaterGrounds$Line" "this$0" "LWaterGrounds;") ∈ lw_all := lw_g (lw_at lw_m3 66 rfl) rfl
theorem q601 : (Jvm.Cond.superclass "WaterGrounds$OfRow" "WaterGrounds$Line") ∈ lw_all := lw_g (lw_at lw_m3 67 rfl) rfl
theorem q706 : (Jvm.Cond.selects "WaterGrounds$OfRow" ({ cls := "WaterGrounds$Line", name := "run", desc := "()V" } : Jvm.MethodName) ({ cls := "WaterGrounds$OfRow", name := "run", desc := "()V" } : Jvm.MethodName)) ∈ lw_all := lw_g (lw_at lw_m3 172 rfl) rfl
theorem q707 : (Jvm.Cond.instanceMethod ({ cls := "WaterGrounds$OfRow", name := "run", desc := "()V" } : Jvm.MethodName)) ∈ lw_all := lw_g (lw_at lw_m3 173 rfl) rfl
theorem q708 : (Jvm.Cond.code ({ cls := "WaterGrounds$OfRow", name := "run", desc := "()V" } : Jvm.MethodName) prog_12_method_2_code (1 : Nat) (Option.none : Option Jvm.ClassFile.FieldType)) ∈ lw_all := lw_g (lw_at lw_m3 174 rfl) rfl
theorem q1358 : (Jvm.Cond.castable "WaterGrounds$OfRow" "WaterGrounds$Line") ∈ lw_tbl := lw_at lw_m6 104 rfl
theorem in_X12 : ∀ w ∈ wsX120, w ∈ lw_all := lw_in wsX120 [599, 600, 595, 597] (by decide +kernel) (by decide +kernel)
/-! WaterGrounds$OfCell -/
set_option maxRecDepth 100000
def RX13 : String := "WaterGrounds$OfCell"
def TX13 : u_T := fun k => match k with
  | 0 => ("WaterGrounds$Line", "told", "[I", true)
  | 1 => ("WaterGrounds$Line", "this$0", "LWaterGrounds;", true)
  | 2 => ("WaterGrounds$OfCell", "sign", "I", true)
  | _ => ("WaterGrounds$OfCell", "this$0", "LWaterGrounds;", true)
def tyX13 : Nat → FieldType := fun k => match k with
  | 0 => .array .int
  | 1 => .object "WaterGrounds"
  | 2 => .int
  | _ => .object "WaterGrounds"
abbrev wsX130 : List Cond := u_ws RX13 TX13 4
-- two fields of one name: no nmX13
theorem tyX13_ok : ∀ k, k < 4 → parseFieldDescriptor (TX13 k).2.2.1 = some (tyX13 k) := by decide +kernel
abbrev cX13_init : ByteArray := prog_9_method_1_code
def yX13_init : MethodName := ⟨RX13, "<init>", "(LWaterGrounds;I[I)V"⟩
def dkwX13_init_0 : List UInt8 := [42, 43, 181, 0, 1, 42, 43, 45, 183, 0, 7, 42, 28, 181, 0, 13, 177]
abbrev dktX13_init_0 : List UInt8 := dkwX13_init_0 ++ []
theorem dksX13_init_0 : cX13_init.data.toList.drop 0 = dktX13_init_0 := by decide +kernel
theorem dX13_init_0 : decode cX13_init 0 = .ok (.aload_n 0, 1) := dk_42 (dk_at dksX13_init_0 0 rfl rfl)
theorem dX13_init_1 : decode cX13_init 1 = .ok (.aload_n 1, 1) := dk_43 (dk_at dksX13_init_0 1 rfl rfl)
theorem dX13_init_2 : decode cX13_init 2 = .ok (.putfield 1, 3) := dk_181 0 1 (dk_at dksX13_init_0 2 rfl rfl)
theorem dX13_init_5 : decode cX13_init 5 = .ok (.aload_n 0, 1) := dk_42 (dk_at dksX13_init_0 5 rfl rfl)
theorem dX13_init_6 : decode cX13_init 6 = .ok (.aload_n 1, 1) := dk_43 (dk_at dksX13_init_0 6 rfl rfl)
theorem dX13_init_7 : decode cX13_init 7 = .ok (.aload_n 3, 1) := dk_45 (dk_at dksX13_init_0 7 rfl rfl)
theorem dX13_init_8 : decode cX13_init 8 = .ok (.invokespecial 7, 3) := dk_183 0 7 (dk_at dksX13_init_0 8 rfl rfl)
theorem dX13_init_11 : decode cX13_init 11 = .ok (.aload_n 0, 1) := dk_42 (dk_at dksX13_init_0 11 rfl rfl)
theorem dX13_init_12 : decode cX13_init 12 = .ok (.iload_n 2, 1) := dk_28 (dk_at dksX13_init_0 12 rfl rfl)
theorem dX13_init_13 : decode cX13_init 13 = .ok (.putfield 13, 3) := dk_181 0 13 (dk_at dksX13_init_0 13 rfl rfl)
theorem dX13_init_16 : decode cX13_init 16 = .ok (.return_, 1) := dk_177 (dk_at dksX13_init_0 16 rfl rfl)
abbrev cX13_run : ByteArray := prog_9_method_2_code
def yX13_run : MethodName := ⟨RX13, "run", "()V"⟩
def dkwX13_run_1 : List UInt8 := [42, 180, 0, 23, 5, 46, 104, 79, 177]
abbrev dktX13_run_1 : List UInt8 := dkwX13_run_1 ++ []
def dkwX13_run_0 : List UInt8 := [42, 180, 0, 1, 180, 0, 17, 42, 180, 0, 23, 3, 46, 50, 42, 180, 0, 23, 4, 46, 42, 180, 0, 13]
abbrev dktX13_run_0 : List UInt8 := dkwX13_run_0 ++ dktX13_run_1
theorem dksX13_run_0 : cX13_run.data.toList.drop 0 = dktX13_run_0 := by decide +kernel
theorem dksX13_run_1 : cX13_run.data.toList.drop 24 = dktX13_run_1 := dk_seg dksX13_run_0 24 rfl rfl
theorem dX13_run_0 : decode cX13_run 0 = .ok (.aload_n 0, 1) := dk_42 (dk_at dksX13_run_0 0 rfl rfl)
theorem dX13_run_1 : decode cX13_run 1 = .ok (.getfield 1, 3) := dk_180 0 1 (dk_at dksX13_run_0 1 rfl rfl)
theorem dX13_run_4 : decode cX13_run 4 = .ok (.getfield 17, 3) := dk_180 0 17 (dk_at dksX13_run_0 4 rfl rfl)
theorem dX13_run_7 : decode cX13_run 7 = .ok (.aload_n 0, 1) := dk_42 (dk_at dksX13_run_0 7 rfl rfl)
theorem dX13_run_8 : decode cX13_run 8 = .ok (.getfield 23, 3) := dk_180 0 23 (dk_at dksX13_run_0 8 rfl rfl)
theorem dX13_run_11 : decode cX13_run 11 = .ok (.iconst 0, 1) := dk_3 (dk_at dksX13_run_0 11 rfl rfl)
theorem dX13_run_12 : decode cX13_run 12 = .ok (.iaload, 1) := dk_46 (dk_at dksX13_run_0 12 rfl rfl)
theorem dX13_run_13 : decode cX13_run 13 = .ok (.aaload, 1) := dk_50 (dk_at dksX13_run_0 13 rfl rfl)
theorem dX13_run_14 : decode cX13_run 14 = .ok (.aload_n 0, 1) := dk_42 (dk_at dksX13_run_0 14 rfl rfl)
theorem dX13_run_15 : decode cX13_run 15 = .ok (.getfield 23, 3) := dk_180 0 23 (dk_at dksX13_run_0 15 rfl rfl)
theorem dX13_run_18 : decode cX13_run 18 = .ok (.iconst 1, 1) := dk_4 (dk_at dksX13_run_0 18 rfl rfl)
theorem dX13_run_19 : decode cX13_run 19 = .ok (.iaload, 1) := dk_46 (dk_at dksX13_run_0 19 rfl rfl)
theorem dX13_run_20 : decode cX13_run 20 = .ok (.aload_n 0, 1) := dk_42 (dk_at dksX13_run_0 20 rfl rfl)
theorem dX13_run_21 : decode cX13_run 21 = .ok (.getfield 13, 3) := dk_180 0 13 (dk_at dksX13_run_0 21 rfl rfl)
theorem dX13_run_24 : decode cX13_run 24 = .ok (.aload_n 0, 1) := dk_42 (dk_at dksX13_run_1 0 rfl rfl)
theorem dX13_run_25 : decode cX13_run 25 = .ok (.getfield 23, 3) := dk_180 0 23 (dk_at dksX13_run_1 1 rfl rfl)
theorem dX13_run_28 : decode cX13_run 28 = .ok (.iconst 2, 1) := dk_5 (dk_at dksX13_run_1 4 rfl rfl)
theorem dX13_run_29 : decode cX13_run 29 = .ok (.iaload, 1) := dk_46 (dk_at dksX13_run_1 5 rfl rfl)
theorem dX13_run_30 : decode cX13_run 30 = .ok (.imul, 1) := dk_104 (dk_at dksX13_run_1 6 rfl rfl)
theorem dX13_run_31 : decode cX13_run 31 = .ok (.iastore, 1) := dk_79 (dk_at dksX13_run_1 7 rfl rfl)
theorem dX13_run_32 : decode cX13_run 32 = .ok (.return_, 1) := dk_177 (dk_at dksX13_run_1 8 rfl rfl)
theorem q74 : (Jvm.Cond.initialized "WaterGrounds$OfCell") ∈ lw_all := lw_g (lw_at lw_m1 20 rfl) rfl
theorem q282 : (Jvm.Cond.fieldLinkNest "WaterGrounds$OfCell" (17 : Nat) "WaterGrounds" "looser" "[[I" "WaterGrounds") ∈ lw_tbl := lw_at lw_m1 228 rfl
theorem q566 : (Jvm.Cond.fieldLink "WaterGrounds$OfCell" (23 : Nat) "WaterGrounds$OfCell" "told" "[I") ∈ lw_all := lw_g (lw_at lw_m3 32 rfl) rfl
theorem q567 : (Jvm.Cond.sameField "WaterGrounds$OfCell" "WaterGrounds$Line" "told" "[I") ∈ lw_all := lw_g (lw_at lw_m3 33 rfl) rfl
theorem q614 : (Jvm.Cond.instantiable "WaterGrounds$OfCell" (4 : Nat)) ∈ lw_all := lw_g (lw_at lw_m3 80 rfl) rfl
theorem q616 : (Jvm.Cond.instanceMethod ({ cls := "WaterGrounds$OfCell", name := "<init>", desc := "(LWaterGrounds;I[I)V" } : Jvm.MethodName)) ∈ lw_all := lw_g (lw_at lw_m3 82 rfl) rfl
theorem q617 : (Jvm.Cond.code ({ cls := "WaterGrounds$OfCell", name := "<init>", desc := "(LWaterGrounds;I[I)V" } : Jvm.MethodName) prog_9_method_1_code (4 : Nat) (Option.none : Option Jvm.ClassFile.FieldType)) ∈ lw_all := lw_g (lw_at lw_m3 83 rfl) rfl
theorem q618 : (Jvm.Cond.methodLink "WaterGrounds$OfCell" (7 : Nat) ({ cls := "WaterGrounds$Line", name := "<init>", desc := "(LWaterGrounds;[I)V" } : Jvm.MethodName)) ∈ lw_all := lw_g (lw_at lw_m3 84 rfl) rfl
theorem q619 : (Jvm.Cond.fieldLink "WaterGrounds$OfCell" (13 : Nat) "WaterGrounds$OfCell" "sign" "I") ∈ lw_all := lw_g (lw_at lw_m3 85 rfl) rfl
theorem q620 : (Jvm.Cond.fieldLink "WaterGrounds$OfCell" (1 : Nat) "WaterGrounds$OfCell" "this$0" "LWaterGrounds;") ∈ lw_all := lw_g (lw_at lw_m3 86 rfl) rfl
theorem q621 : (Jvm.Cond.laysFinal "WaterGrounds$OfCell" "WaterGrounds$OfCell" "sign" "I") ∈ lw_all := lw_g (lw_at lw_m3 87 rfl) rfl
theorem q622 : (Jvm.Cond.soleField "WaterGrounds$OfCell" "sign") ∈ lw_all := lw_g (lw_at lw_m3 88 rfl) rfl
theorem q623 : (Jvm.Cond.laysFinal "WaterGrounds$OfCell" "WaterGrounds$OfCell" "this$0" "LWaterGrounds;") ∈ lw_all := lw_g (lw_at lw_m3 89 rfl) rfl
theorem q624 : (Jvm.Cond.soleField "WaterGrounds$OfCell" "this$0") ∈ lw_all := lw_g (lw_at lw_m3 90 rfl) rfl
theorem q625 : (Jvm.Cond.laysFinal "WaterGrounds$OfCell" "WaterGrounds$Line" "told" "[I") ∈ lw_all := lw_g (lw_at lw_m3 91 rfl) rfl
theorem q626 : (Jvm.Cond.laysFinal "WaterGrounds$OfCell" "WaterGrounds$Line" "this$0" "LWaterGrounds;") ∈ lw_all := lw_g (lw_at lw_m3 92 rfl) rfl
theorem q627 : (Jvm.Cond.superclass "WaterGrounds$OfCell" "WaterGrounds$Line") ∈ lw_all := lw_g (lw_at lw_m3 93 rfl) rfl
theorem q694 : (Jvm.Cond.selects "WaterGrounds$OfCell" ({ cls := "WaterGrounds$Line", name := "run", desc := "()V" } : Jvm.MethodName) ({ cls := "WaterGrounds$OfCell", name := "run", desc := "()V" } : Jvm.MethodName)) ∈ lw_all := lw_g (lw_at lw_m3 160 rfl) rfl
theorem q695 : (Jvm.Cond.instanceMethod ({ cls := "WaterGrounds$OfCell", name := "run", desc := "()V" } : Jvm.MethodName)) ∈ lw_all := lw_g (lw_at lw_m3 161 rfl) rfl
theorem q696 : (Jvm.Cond.code ({ cls := "WaterGrounds$OfCell", name := "run", desc := "()V" } : Jvm.MethodName) prog_9_method_2_code (1 : Nat) (Option.none : Option Jvm.ClassFile.FieldType)) ∈ lw_all := lw_g (lw_at lw_m3 162 rfl) rfl
theorem q1359 : (Jvm.Cond.castable "WaterGrounds$OfCell" "WaterGrounds$Line") ∈ lw_tbl := lw_at lw_m6 105 rfl
theorem in_X13 : ∀ w ∈ wsX130, w ∈ lw_all := lw_in wsX130 [625, 626, 621, 623] (by decide +kernel) (by decide +kernel)
/-! WaterGrounds$OfPour -/
set_option maxRecDepth 100000
def RX14 : String := "WaterGrounds$OfPour"
def TX14 : u_T := fun k => match k with
  | 0 => ("WaterGrounds$Line", "told", "[I", true)
  | 1 => ("WaterGrounds$Line", "this$0", "LWaterGrounds;", true)
  | _ => ("WaterGrounds$OfPour", "this$0", "LWaterGrounds;", true)
def tyX14 : Nat → FieldType := fun k => match k with
  | 0 => .array .int
  | 1 => .object "WaterGrounds"
  | _ => .object "WaterGrounds"
abbrev wsX140 : List Cond := u_ws RX14 TX14 3
-- two fields of one name: no nmX14
theorem tyX14_ok : ∀ k, k < 3 → parseFieldDescriptor (TX14 k).2.2.1 = some (tyX14 k) := by decide +kernel
abbrev cX14_init : ByteArray := prog_11_method_1_code
def yX14_init : MethodName := ⟨RX14, "<init>", "(LWaterGrounds;[I)V"⟩
def dkwX14_init_0 : List UInt8 := [42, 43, 181, 0, 3, 42, 43, 44, 183, 0, 9, 177]
abbrev dktX14_init_0 : List UInt8 := dkwX14_init_0 ++ []
theorem dksX14_init_0 : cX14_init.data.toList.drop 0 = dktX14_init_0 := by decide +kernel
theorem dX14_init_0 : decode cX14_init 0 = .ok (.aload_n 0, 1) := dk_42 (dk_at dksX14_init_0 0 rfl rfl)
theorem dX14_init_1 : decode cX14_init 1 = .ok (.aload_n 1, 1) := dk_43 (dk_at dksX14_init_0 1 rfl rfl)
theorem dX14_init_2 : decode cX14_init 2 = .ok (.putfield 3, 3) := dk_181 0 3 (dk_at dksX14_init_0 2 rfl rfl)
theorem dX14_init_5 : decode cX14_init 5 = .ok (.aload_n 0, 1) := dk_42 (dk_at dksX14_init_0 5 rfl rfl)
theorem dX14_init_6 : decode cX14_init 6 = .ok (.aload_n 1, 1) := dk_43 (dk_at dksX14_init_0 6 rfl rfl)
theorem dX14_init_7 : decode cX14_init 7 = .ok (.aload_n 2, 1) := dk_44 (dk_at dksX14_init_0 7 rfl rfl)
theorem dX14_init_8 : decode cX14_init 8 = .ok (.invokespecial 9, 3) := dk_183 0 9 (dk_at dksX14_init_0 8 rfl rfl)
theorem dX14_init_11 : decode cX14_init 11 = .ok (.return_, 1) := dk_177 (dk_at dksX14_init_0 11 rfl rfl)
abbrev cX14_run : ByteArray := prog_11_method_2_code
def yX14_run : MethodName := ⟨RX14, "run", "()V"⟩
def dkwX14_run_3 : List UInt8 := [181, 0, 19, 177]
abbrev dktX14_run_3 : List UInt8 := dkwX14_run_3 ++ []
def dkwX14_run_2 : List UInt8 := [180, 0, 19, 50, 3, 42, 180, 0, 15, 190, 184, 0, 27, 42, 180, 0, 3, 89, 180, 0, 19, 4, 96]
abbrev dktX14_run_2 : List UInt8 := dkwX14_run_2 ++ dktX14_run_3
def dkwX14_run_1 : List UInt8 := [180, 0, 19, 16, 12, 162, 0, 45, 42, 180, 0, 15, 3, 42, 180, 0, 3, 180, 0, 23, 42, 180, 0, 3]
abbrev dktX14_run_1 : List UInt8 := dkwX14_run_1 ++ dktX14_run_2
def dkwX14_run_0 : List UInt8 := [42, 180, 0, 15, 190, 154, 0, 14, 42, 180, 0, 3, 3, 181, 0, 19, 167, 0, 57, 42, 180, 0, 3]
abbrev dktX14_run_0 : List UInt8 := dkwX14_run_0 ++ dktX14_run_1
theorem dksX14_run_0 : cX14_run.data.toList.drop 0 = dktX14_run_0 := by decide +kernel
theorem dksX14_run_1 : cX14_run.data.toList.drop 23 = dktX14_run_1 := dk_seg dksX14_run_0 23 rfl rfl
theorem dksX14_run_2 : cX14_run.data.toList.drop 47 = dktX14_run_2 := dk_seg dksX14_run_1 24 rfl rfl
theorem dksX14_run_3 : cX14_run.data.toList.drop 70 = dktX14_run_3 := dk_seg dksX14_run_2 23 rfl rfl
theorem dX14_run_0 : decode cX14_run 0 = .ok (.aload_n 0, 1) := dk_42 (dk_at dksX14_run_0 0 rfl rfl)
theorem dX14_run_1 : decode cX14_run 1 = .ok (.getfield 15, 3) := dk_180 0 15 (dk_at dksX14_run_0 1 rfl rfl)
theorem dX14_run_4 : decode cX14_run 4 = .ok (.arraylength, 1) := dk_190 (dk_at dksX14_run_0 4 rfl rfl)
theorem dX14_run_5 : decode cX14_run 5 = .ok (.ifCond .ne 14, 3) := dk_154 0 14 (dk_at dksX14_run_0 5 rfl rfl)
theorem dX14_run_8 : decode cX14_run 8 = .ok (.aload_n 0, 1) := dk_42 (dk_at dksX14_run_0 8 rfl rfl)
theorem dX14_run_9 : decode cX14_run 9 = .ok (.getfield 3, 3) := dk_180 0 3 (dk_at dksX14_run_0 9 rfl rfl)
theorem dX14_run_12 : decode cX14_run 12 = .ok (.iconst 0, 1) := dk_3 (dk_at dksX14_run_0 12 rfl rfl)
theorem dX14_run_13 : decode cX14_run 13 = .ok (.putfield 19, 3) := dk_181 0 19 (dk_at dksX14_run_0 13 rfl rfl)
theorem dX14_run_16 : decode cX14_run 16 = .ok (.goto 57, 3) := dk_167 0 57 (dk_at dksX14_run_0 16 rfl rfl)
theorem dX14_run_19 : decode cX14_run 19 = .ok (.aload_n 0, 1) := dk_42 (dk_at dksX14_run_0 19 rfl rfl)
theorem dX14_run_20 : decode cX14_run 20 = .ok (.getfield 3, 3) := dk_180 0 3 (dk_at dksX14_run_0 20 rfl rfl)
theorem dX14_run_23 : decode cX14_run 23 = .ok (.getfield 19, 3) := dk_180 0 19 (dk_at dksX14_run_1 0 rfl rfl)
theorem dX14_run_26 : decode cX14_run 26 = .ok (.bipush 12, 2) := dk_16 12 (dk_at dksX14_run_1 3 rfl rfl)
theorem dX14_run_28 : decode cX14_run 28 = .ok (.if_icmp .ge 45, 3) := dk_162 0 45 (dk_at dksX14_run_1 5 rfl rfl)
theorem dX14_run_31 : decode cX14_run 31 = .ok (.aload_n 0, 1) := dk_42 (dk_at dksX14_run_1 8 rfl rfl)
theorem dX14_run_32 : decode cX14_run 32 = .ok (.getfield 15, 3) := dk_180 0 15 (dk_at dksX14_run_1 9 rfl rfl)
theorem dX14_run_35 : decode cX14_run 35 = .ok (.iconst 0, 1) := dk_3 (dk_at dksX14_run_1 12 rfl rfl)
theorem dX14_run_36 : decode cX14_run 36 = .ok (.aload_n 0, 1) := dk_42 (dk_at dksX14_run_1 13 rfl rfl)
theorem dX14_run_37 : decode cX14_run 37 = .ok (.getfield 3, 3) := dk_180 0 3 (dk_at dksX14_run_1 14 rfl rfl)
theorem dX14_run_40 : decode cX14_run 40 = .ok (.getfield 23, 3) := dk_180 0 23 (dk_at dksX14_run_1 17 rfl rfl)
theorem dX14_run_43 : decode cX14_run 43 = .ok (.aload_n 0, 1) := dk_42 (dk_at dksX14_run_1 20 rfl rfl)
theorem dX14_run_44 : decode cX14_run 44 = .ok (.getfield 3, 3) := dk_180 0 3 (dk_at dksX14_run_1 21 rfl rfl)
theorem dX14_run_47 : decode cX14_run 47 = .ok (.getfield 19, 3) := dk_180 0 19 (dk_at dksX14_run_2 0 rfl rfl)
theorem dX14_run_50 : decode cX14_run 50 = .ok (.aaload, 1) := dk_50 (dk_at dksX14_run_2 3 rfl rfl)
theorem dX14_run_51 : decode cX14_run 51 = .ok (.iconst 0, 1) := dk_3 (dk_at dksX14_run_2 4 rfl rfl)
theorem dX14_run_52 : decode cX14_run 52 = .ok (.aload_n 0, 1) := dk_42 (dk_at dksX14_run_2 5 rfl rfl)
theorem dX14_run_53 : decode cX14_run 53 = .ok (.getfield 15, 3) := dk_180 0 15 (dk_at dksX14_run_2 6 rfl rfl)
theorem dX14_run_56 : decode cX14_run 56 = .ok (.arraylength, 1) := dk_190 (dk_at dksX14_run_2 9 rfl rfl)
theorem dX14_run_57 : decode cX14_run 57 = .ok (.invokestatic 27, 3) := dk_184 0 27 (dk_at dksX14_run_2 10 rfl rfl)
theorem dX14_run_60 : decode cX14_run 60 = .ok (.aload_n 0, 1) := dk_42 (dk_at dksX14_run_2 13 rfl rfl)
theorem dX14_run_61 : decode cX14_run 61 = .ok (.getfield 3, 3) := dk_180 0 3 (dk_at dksX14_run_2 14 rfl rfl)
theorem dX14_run_64 : decode cX14_run 64 = .ok (.dup, 1) := dk_89 (dk_at dksX14_run_2 17 rfl rfl)
theorem dX14_run_65 : decode cX14_run 65 = .ok (.getfield 19, 3) := dk_180 0 19 (dk_at dksX14_run_2 18 rfl rfl)
theorem dX14_run_68 : decode cX14_run 68 = .ok (.iconst 1, 1) := dk_4 (dk_at dksX14_run_2 21 rfl rfl)
theorem dX14_run_69 : decode cX14_run 69 = .ok (.iadd, 1) := dk_96 (dk_at dksX14_run_2 22 rfl rfl)
theorem dX14_run_70 : decode cX14_run 70 = .ok (.putfield 19, 3) := dk_181 0 19 (dk_at dksX14_run_3 0 rfl rfl)
theorem dX14_run_73 : decode cX14_run 73 = .ok (.return_, 1) := dk_177 (dk_at dksX14_run_3 3 rfl rfl)
theorem q75 : (Jvm.Cond.initialized "WaterGrounds$OfPour") ∈ lw_all := lw_g (lw_at lw_m1 21 rfl) rfl
theorem q310 : (Jvm.Cond.fieldLinkNest "WaterGrounds$OfPour" (23 : Nat) "WaterGrounds" "pours" "[[I" "WaterGrounds") ∈ lw_tbl := lw_at lw_m2 16 rfl
theorem q313 : (Jvm.Cond.fieldLinkNest "WaterGrounds$OfPour" (19 : Nat) "WaterGrounds" "pourMany" "I" "WaterGrounds") ∈ lw_tbl := lw_at lw_m2 19 rfl
theorem q562 : (Jvm.Cond.fieldLink "WaterGrounds$OfPour" (15 : Nat) "WaterGrounds$OfPour" "told" "[I") ∈ lw_all := lw_g (lw_at lw_m3 28 rfl) rfl
theorem q563 : (Jvm.Cond.sameField "WaterGrounds$OfPour" "WaterGrounds$Line" "told" "[I") ∈ lw_all := lw_g (lw_at lw_m3 29 rfl) rfl
theorem q635 : (Jvm.Cond.instantiable "WaterGrounds$OfPour" (3 : Nat)) ∈ lw_all := lw_g (lw_at lw_m3 101 rfl) rfl
theorem q637 : (Jvm.Cond.instanceMethod ({ cls := "WaterGrounds$OfPour", name := "<init>", desc := "(LWaterGrounds;[I)V" } : Jvm.MethodName)) ∈ lw_all := lw_g (lw_at lw_m3 103 rfl) rfl
theorem q638 : (Jvm.Cond.code ({ cls := "WaterGrounds$OfPour", name := "<init>", desc := "(LWaterGrounds;[I)V" } : Jvm.MethodName) prog_11_method_1_code (3 : Nat) (Option.none : Option Jvm.ClassFile.FieldType)) ∈ lw_all := lw_g (lw_at lw_m3 104 rfl) rfl
theorem q639 : (Jvm.Cond.methodLink "WaterGrounds$OfPour" (9 : Nat) ({ cls := "WaterGrounds$Line", name := "<init>", desc := "(LWaterGrounds;[I)V" } : Jvm.MethodName)) ∈ lw_all := lw_g (lw_at lw_m3 105 rfl) rfl
theorem q640 : (Jvm.Cond.fieldLink "WaterGrounds$OfPour" (3 : Nat) "WaterGrounds$OfPour" "this$0" "LWaterGrounds;") ∈ lw_all := lw_g (lw_at lw_m3 106 rfl) rfl
theorem q641 : (Jvm.Cond.laysFinal "WaterGrounds$OfPour" "WaterGrounds$OfPour" "this$0" "LWaterGrounds;") ∈ lw_all := lw_g (lw_at lw_m3 107 rfl) rfl
theorem q642 : (Jvm.Cond.soleField "WaterGrounds$OfPour" "this$0") ∈ lw_all := lw_g (lw_at lw_m3 108 rfl) rfl
theorem q643 : (Jvm.Cond.laysFinal "WaterGrounds$OfPour" "WaterGrounds$Line" "told" "[I") ∈ lw_all := lw_g (lw_at lw_m3 109 rfl) rfl
theorem q644 : (Jvm.Cond.laysFinal "WaterGrounds$OfPour" "WaterGrounds$Line" "this$0" "LWaterGrounds;") ∈ lw_all := lw_g (lw_at lw_m3 110 rfl) rfl
theorem q645 : (Jvm.Cond.superclass "WaterGrounds$OfPour" "WaterGrounds$Line") ∈ lw_all := lw_g (lw_at lw_m3 111 rfl) rfl
theorem q700 : (Jvm.Cond.selects "WaterGrounds$OfPour" ({ cls := "WaterGrounds$Line", name := "run", desc := "()V" } : Jvm.MethodName) ({ cls := "WaterGrounds$OfPour", name := "run", desc := "()V" } : Jvm.MethodName)) ∈ lw_all := lw_g (lw_at lw_m3 166 rfl) rfl
theorem q701 : (Jvm.Cond.instanceMethod ({ cls := "WaterGrounds$OfPour", name := "run", desc := "()V" } : Jvm.MethodName)) ∈ lw_all := lw_g (lw_at lw_m3 167 rfl) rfl
theorem q702 : (Jvm.Cond.code ({ cls := "WaterGrounds$OfPour", name := "run", desc := "()V" } : Jvm.MethodName) prog_11_method_2_code (1 : Nat) (Option.none : Option Jvm.ClassFile.FieldType)) ∈ lw_all := lw_g (lw_at lw_m3 168 rfl) rfl
theorem q703 : (Jvm.Cond.methodLink "WaterGrounds$OfPour" (27 : Nat) ({ cls := "java/lang/System", name := "arraycopy", desc := "(Ljava/lang/Object;ILjava/lang/Object;II)V" } : Jvm.MethodName)) ∈ lw_all := lw_g (lw_at lw_m3 169 rfl) rfl
theorem q1360 : (Jvm.Cond.castable "WaterGrounds$OfPour" "WaterGrounds$Line") ∈ lw_tbl := lw_at lw_m6 106 rfl
theorem in_X14 : ∀ w ∈ wsX140, w ∈ lw_all := lw_in wsX140 [643, 644, 641] (by decide +kernel) (by decide +kernel)
/-! WaterGrounds$OfOne -/
set_option maxRecDepth 100000
def RX15 : String := "WaterGrounds$OfOne"
def TX15 : u_T := fun k => match k with
  | 0 => ("WaterGrounds$Line", "told", "[I", true)
  | 1 => ("WaterGrounds$Line", "this$0", "LWaterGrounds;", true)
  | 2 => ("WaterGrounds$OfOne", "what", "I", true)
  | _ => ("WaterGrounds$OfOne", "this$0", "LWaterGrounds;", true)
def tyX15 : Nat → FieldType := fun k => match k with
  | 0 => .array .int
  | 1 => .object "WaterGrounds"
  | 2 => .int
  | _ => .object "WaterGrounds"
abbrev wsX150 : List Cond := u_ws RX15 TX15 4
-- two fields of one name: no nmX15
theorem tyX15_ok : ∀ k, k < 4 → parseFieldDescriptor (TX15 k).2.2.1 = some (tyX15 k) := by decide +kernel
abbrev cX15_init : ByteArray := prog_10_method_1_code
def yX15_init : MethodName := ⟨RX15, "<init>", "(LWaterGrounds;I[I)V"⟩
def dkwX15_init_0 : List UInt8 := [42, 43, 181, 0, 1, 42, 43, 45, 183, 0, 7, 42, 28, 181, 0, 13, 177]
abbrev dktX15_init_0 : List UInt8 := dkwX15_init_0 ++ []
theorem dksX15_init_0 : cX15_init.data.toList.drop 0 = dktX15_init_0 := by decide +kernel
theorem dX15_init_0 : decode cX15_init 0 = .ok (.aload_n 0, 1) := dk_42 (dk_at dksX15_init_0 0 rfl rfl)
theorem dX15_init_1 : decode cX15_init 1 = .ok (.aload_n 1, 1) := dk_43 (dk_at dksX15_init_0 1 rfl rfl)
theorem dX15_init_2 : decode cX15_init 2 = .ok (.putfield 1, 3) := dk_181 0 1 (dk_at dksX15_init_0 2 rfl rfl)
theorem dX15_init_5 : decode cX15_init 5 = .ok (.aload_n 0, 1) := dk_42 (dk_at dksX15_init_0 5 rfl rfl)
theorem dX15_init_6 : decode cX15_init 6 = .ok (.aload_n 1, 1) := dk_43 (dk_at dksX15_init_0 6 rfl rfl)
theorem dX15_init_7 : decode cX15_init 7 = .ok (.aload_n 3, 1) := dk_45 (dk_at dksX15_init_0 7 rfl rfl)
theorem dX15_init_8 : decode cX15_init 8 = .ok (.invokespecial 7, 3) := dk_183 0 7 (dk_at dksX15_init_0 8 rfl rfl)
theorem dX15_init_11 : decode cX15_init 11 = .ok (.aload_n 0, 1) := dk_42 (dk_at dksX15_init_0 11 rfl rfl)
theorem dX15_init_12 : decode cX15_init 12 = .ok (.iload_n 2, 1) := dk_28 (dk_at dksX15_init_0 12 rfl rfl)
theorem dX15_init_13 : decode cX15_init 13 = .ok (.putfield 13, 3) := dk_181 0 13 (dk_at dksX15_init_0 13 rfl rfl)
theorem dX15_init_16 : decode cX15_init 16 = .ok (.return_, 1) := dk_177 (dk_at dksX15_init_0 16 rfl rfl)
abbrev cX15_run : ByteArray := prog_10_method_2_code
def yX15_run : MethodName := ⟨RX15, "run", "()V"⟩
def dkwX15_run_7 : List UInt8 := [160, 0, 12, 42, 180, 0, 17, 3, 46, 167, 0, 10, 42, 180, 0, 1, 180, 0, 38, 181, 0, 38, 177]
abbrev dktX15_run_7 : List UInt8 := dkwX15_run_7 ++ []
def dkwX15_run_6 : List UInt8 := [167, 0, 10, 42, 180, 0, 1, 180, 0, 35, 181, 0, 35, 42, 180, 0, 1, 42, 180, 0, 13, 8]
abbrev dktX15_run_6 : List UInt8 := dkwX15_run_6 ++ dktX15_run_7
def dkwX15_run_5 : List UInt8 := [180, 0, 32, 181, 0, 32, 42, 180, 0, 1, 42, 180, 0, 13, 7, 160, 0, 12, 42, 180, 0, 17, 3, 46]
abbrev dktX15_run_5 : List UInt8 := dkwX15_run_5 ++ dktX15_run_6
def dkwX15_run_4 : List UInt8 := [180, 0, 1, 42, 180, 0, 13, 6, 160, 0, 12, 42, 180, 0, 17, 3, 46, 167, 0, 10, 42, 180, 0, 1]
abbrev dktX15_run_4 : List UInt8 := dkwX15_run_4 ++ dktX15_run_5
def dkwX15_run_3 : List UInt8 := [160, 0, 12, 42, 180, 0, 17, 3, 46, 167, 0, 10, 42, 180, 0, 1, 180, 0, 29, 181, 0, 29, 42]
abbrev dktX15_run_3 : List UInt8 := dkwX15_run_3 ++ dktX15_run_4
def dkwX15_run_2 : List UInt8 := [167, 0, 10, 42, 180, 0, 1, 180, 0, 26, 181, 0, 26, 42, 180, 0, 1, 42, 180, 0, 13, 5]
abbrev dktX15_run_2 : List UInt8 := dkwX15_run_2 ++ dktX15_run_3
def dkwX15_run_1 : List UInt8 := [180, 0, 21, 181, 0, 21, 42, 180, 0, 1, 42, 180, 0, 13, 4, 160, 0, 12, 42, 180, 0, 17, 3, 46]
abbrev dktX15_run_1 : List UInt8 := dkwX15_run_1 ++ dktX15_run_2
def dkwX15_run_0 : List UInt8 := [42, 180, 0, 1, 42, 180, 0, 13, 154, 0, 12, 42, 180, 0, 17, 3, 46, 167, 0, 10, 42, 180, 0, 1]
abbrev dktX15_run_0 : List UInt8 := dkwX15_run_0 ++ dktX15_run_1
theorem dksX15_run_0 : cX15_run.data.toList.drop 0 = dktX15_run_0 := by decide +kernel
theorem dksX15_run_1 : cX15_run.data.toList.drop 24 = dktX15_run_1 := dk_seg dksX15_run_0 24 rfl rfl
theorem dksX15_run_2 : cX15_run.data.toList.drop 48 = dktX15_run_2 := dk_seg dksX15_run_1 24 rfl rfl
theorem dksX15_run_3 : cX15_run.data.toList.drop 70 = dktX15_run_3 := dk_seg dksX15_run_2 22 rfl rfl
theorem dksX15_run_4 : cX15_run.data.toList.drop 93 = dktX15_run_4 := dk_seg dksX15_run_3 23 rfl rfl
theorem dksX15_run_5 : cX15_run.data.toList.drop 117 = dktX15_run_5 := dk_seg dksX15_run_4 24 rfl rfl
theorem dksX15_run_6 : cX15_run.data.toList.drop 141 = dktX15_run_6 := dk_seg dksX15_run_5 24 rfl rfl
theorem dksX15_run_7 : cX15_run.data.toList.drop 163 = dktX15_run_7 := dk_seg dksX15_run_6 22 rfl rfl
theorem dX15_run_0 : decode cX15_run 0 = .ok (.aload_n 0, 1) := dk_42 (dk_at dksX15_run_0 0 rfl rfl)
theorem dX15_run_1 : decode cX15_run 1 = .ok (.getfield 1, 3) := dk_180 0 1 (dk_at dksX15_run_0 1 rfl rfl)
theorem dX15_run_4 : decode cX15_run 4 = .ok (.aload_n 0, 1) := dk_42 (dk_at dksX15_run_0 4 rfl rfl)
theorem dX15_run_5 : decode cX15_run 5 = .ok (.getfield 13, 3) := dk_180 0 13 (dk_at dksX15_run_0 5 rfl rfl)
theorem dX15_run_8 : decode cX15_run 8 = .ok (.ifCond .ne 12, 3) := dk_154 0 12 (dk_at dksX15_run_0 8 rfl rfl)
theorem dX15_run_11 : decode cX15_run 11 = .ok (.aload_n 0, 1) := dk_42 (dk_at dksX15_run_0 11 rfl rfl)
theorem dX15_run_12 : decode cX15_run 12 = .ok (.getfield 17, 3) := dk_180 0 17 (dk_at dksX15_run_0 12 rfl rfl)
theorem dX15_run_15 : decode cX15_run 15 = .ok (.iconst 0, 1) := dk_3 (dk_at dksX15_run_0 15 rfl rfl)
theorem dX15_run_16 : decode cX15_run 16 = .ok (.iaload, 1) := dk_46 (dk_at dksX15_run_0 16 rfl rfl)
theorem dX15_run_17 : decode cX15_run 17 = .ok (.goto 10, 3) := dk_167 0 10 (dk_at dksX15_run_0 17 rfl rfl)
theorem dX15_run_20 : decode cX15_run 20 = .ok (.aload_n 0, 1) := dk_42 (dk_at dksX15_run_0 20 rfl rfl)
theorem dX15_run_21 : decode cX15_run 21 = .ok (.getfield 1, 3) := dk_180 0 1 (dk_at dksX15_run_0 21 rfl rfl)
theorem dX15_run_24 : decode cX15_run 24 = .ok (.getfield 21, 3) := dk_180 0 21 (dk_at dksX15_run_1 0 rfl rfl)
theorem dX15_run_27 : decode cX15_run 27 = .ok (.putfield 21, 3) := dk_181 0 21 (dk_at dksX15_run_1 3 rfl rfl)
theorem dX15_run_30 : decode cX15_run 30 = .ok (.aload_n 0, 1) := dk_42 (dk_at dksX15_run_1 6 rfl rfl)
theorem dX15_run_31 : decode cX15_run 31 = .ok (.getfield 1, 3) := dk_180 0 1 (dk_at dksX15_run_1 7 rfl rfl)
theorem dX15_run_34 : decode cX15_run 34 = .ok (.aload_n 0, 1) := dk_42 (dk_at dksX15_run_1 10 rfl rfl)
theorem dX15_run_35 : decode cX15_run 35 = .ok (.getfield 13, 3) := dk_180 0 13 (dk_at dksX15_run_1 11 rfl rfl)
theorem dX15_run_38 : decode cX15_run 38 = .ok (.iconst 1, 1) := dk_4 (dk_at dksX15_run_1 14 rfl rfl)
theorem dX15_run_39 : decode cX15_run 39 = .ok (.if_icmp .ne 12, 3) := dk_160 0 12 (dk_at dksX15_run_1 15 rfl rfl)
theorem dX15_run_42 : decode cX15_run 42 = .ok (.aload_n 0, 1) := dk_42 (dk_at dksX15_run_1 18 rfl rfl)
theorem dX15_run_43 : decode cX15_run 43 = .ok (.getfield 17, 3) := dk_180 0 17 (dk_at dksX15_run_1 19 rfl rfl)
theorem dX15_run_46 : decode cX15_run 46 = .ok (.iconst 0, 1) := dk_3 (dk_at dksX15_run_1 22 rfl rfl)
theorem dX15_run_47 : decode cX15_run 47 = .ok (.iaload, 1) := dk_46 (dk_at dksX15_run_1 23 rfl rfl)
theorem dX15_run_48 : decode cX15_run 48 = .ok (.goto 10, 3) := dk_167 0 10 (dk_at dksX15_run_2 0 rfl rfl)
theorem dX15_run_51 : decode cX15_run 51 = .ok (.aload_n 0, 1) := dk_42 (dk_at dksX15_run_2 3 rfl rfl)
theorem dX15_run_52 : decode cX15_run 52 = .ok (.getfield 1, 3) := dk_180 0 1 (dk_at dksX15_run_2 4 rfl rfl)
theorem dX15_run_55 : decode cX15_run 55 = .ok (.getfield 26, 3) := dk_180 0 26 (dk_at dksX15_run_2 7 rfl rfl)
theorem dX15_run_58 : decode cX15_run 58 = .ok (.putfield 26, 3) := dk_181 0 26 (dk_at dksX15_run_2 10 rfl rfl)
theorem dX15_run_61 : decode cX15_run 61 = .ok (.aload_n 0, 1) := dk_42 (dk_at dksX15_run_2 13 rfl rfl)
theorem dX15_run_62 : decode cX15_run 62 = .ok (.getfield 1, 3) := dk_180 0 1 (dk_at dksX15_run_2 14 rfl rfl)
theorem dX15_run_65 : decode cX15_run 65 = .ok (.aload_n 0, 1) := dk_42 (dk_at dksX15_run_2 17 rfl rfl)
theorem dX15_run_66 : decode cX15_run 66 = .ok (.getfield 13, 3) := dk_180 0 13 (dk_at dksX15_run_2 18 rfl rfl)
theorem dX15_run_69 : decode cX15_run 69 = .ok (.iconst 2, 1) := dk_5 (dk_at dksX15_run_2 21 rfl rfl)
theorem dX15_run_70 : decode cX15_run 70 = .ok (.if_icmp .ne 12, 3) := dk_160 0 12 (dk_at dksX15_run_3 0 rfl rfl)
theorem dX15_run_73 : decode cX15_run 73 = .ok (.aload_n 0, 1) := dk_42 (dk_at dksX15_run_3 3 rfl rfl)
theorem dX15_run_74 : decode cX15_run 74 = .ok (.getfield 17, 3) := dk_180 0 17 (dk_at dksX15_run_3 4 rfl rfl)
theorem dX15_run_77 : decode cX15_run 77 = .ok (.iconst 0, 1) := dk_3 (dk_at dksX15_run_3 7 rfl rfl)
theorem dX15_run_78 : decode cX15_run 78 = .ok (.iaload, 1) := dk_46 (dk_at dksX15_run_3 8 rfl rfl)
theorem dX15_run_79 : decode cX15_run 79 = .ok (.goto 10, 3) := dk_167 0 10 (dk_at dksX15_run_3 9 rfl rfl)
theorem dX15_run_82 : decode cX15_run 82 = .ok (.aload_n 0, 1) := dk_42 (dk_at dksX15_run_3 12 rfl rfl)
theorem dX15_run_83 : decode cX15_run 83 = .ok (.getfield 1, 3) := dk_180 0 1 (dk_at dksX15_run_3 13 rfl rfl)
theorem dX15_run_86 : decode cX15_run 86 = .ok (.getfield 29, 3) := dk_180 0 29 (dk_at dksX15_run_3 16 rfl rfl)
theorem dX15_run_89 : decode cX15_run 89 = .ok (.putfield 29, 3) := dk_181 0 29 (dk_at dksX15_run_3 19 rfl rfl)
theorem dX15_run_92 : decode cX15_run 92 = .ok (.aload_n 0, 1) := dk_42 (dk_at dksX15_run_3 22 rfl rfl)
theorem dX15_run_93 : decode cX15_run 93 = .ok (.getfield 1, 3) := dk_180 0 1 (dk_at dksX15_run_4 0 rfl rfl)
theorem dX15_run_96 : decode cX15_run 96 = .ok (.aload_n 0, 1) := dk_42 (dk_at dksX15_run_4 3 rfl rfl)
theorem dX15_run_97 : decode cX15_run 97 = .ok (.getfield 13, 3) := dk_180 0 13 (dk_at dksX15_run_4 4 rfl rfl)
theorem dX15_run_100 : decode cX15_run 100 = .ok (.iconst 3, 1) := dk_6 (dk_at dksX15_run_4 7 rfl rfl)
theorem dX15_run_101 : decode cX15_run 101 = .ok (.if_icmp .ne 12, 3) := dk_160 0 12 (dk_at dksX15_run_4 8 rfl rfl)
theorem dX15_run_104 : decode cX15_run 104 = .ok (.aload_n 0, 1) := dk_42 (dk_at dksX15_run_4 11 rfl rfl)
theorem dX15_run_105 : decode cX15_run 105 = .ok (.getfield 17, 3) := dk_180 0 17 (dk_at dksX15_run_4 12 rfl rfl)
theorem dX15_run_108 : decode cX15_run 108 = .ok (.iconst 0, 1) := dk_3 (dk_at dksX15_run_4 15 rfl rfl)
theorem dX15_run_109 : decode cX15_run 109 = .ok (.iaload, 1) := dk_46 (dk_at dksX15_run_4 16 rfl rfl)
theorem dX15_run_110 : decode cX15_run 110 = .ok (.goto 10, 3) := dk_167 0 10 (dk_at dksX15_run_4 17 rfl rfl)
theorem dX15_run_113 : decode cX15_run 113 = .ok (.aload_n 0, 1) := dk_42 (dk_at dksX15_run_4 20 rfl rfl)
theorem dX15_run_114 : decode cX15_run 114 = .ok (.getfield 1, 3) := dk_180 0 1 (dk_at dksX15_run_4 21 rfl rfl)
theorem dX15_run_117 : decode cX15_run 117 = .ok (.getfield 32, 3) := dk_180 0 32 (dk_at dksX15_run_5 0 rfl rfl)
theorem dX15_run_120 : decode cX15_run 120 = .ok (.putfield 32, 3) := dk_181 0 32 (dk_at dksX15_run_5 3 rfl rfl)
theorem dX15_run_123 : decode cX15_run 123 = .ok (.aload_n 0, 1) := dk_42 (dk_at dksX15_run_5 6 rfl rfl)
theorem dX15_run_124 : decode cX15_run 124 = .ok (.getfield 1, 3) := dk_180 0 1 (dk_at dksX15_run_5 7 rfl rfl)
theorem dX15_run_127 : decode cX15_run 127 = .ok (.aload_n 0, 1) := dk_42 (dk_at dksX15_run_5 10 rfl rfl)
theorem dX15_run_128 : decode cX15_run 128 = .ok (.getfield 13, 3) := dk_180 0 13 (dk_at dksX15_run_5 11 rfl rfl)
theorem dX15_run_131 : decode cX15_run 131 = .ok (.iconst 4, 1) := dk_7 (dk_at dksX15_run_5 14 rfl rfl)
theorem dX15_run_132 : decode cX15_run 132 = .ok (.if_icmp .ne 12, 3) := dk_160 0 12 (dk_at dksX15_run_5 15 rfl rfl)
theorem dX15_run_135 : decode cX15_run 135 = .ok (.aload_n 0, 1) := dk_42 (dk_at dksX15_run_5 18 rfl rfl)
theorem dX15_run_136 : decode cX15_run 136 = .ok (.getfield 17, 3) := dk_180 0 17 (dk_at dksX15_run_5 19 rfl rfl)
theorem dX15_run_139 : decode cX15_run 139 = .ok (.iconst 0, 1) := dk_3 (dk_at dksX15_run_5 22 rfl rfl)
theorem dX15_run_140 : decode cX15_run 140 = .ok (.iaload, 1) := dk_46 (dk_at dksX15_run_5 23 rfl rfl)
theorem dX15_run_141 : decode cX15_run 141 = .ok (.goto 10, 3) := dk_167 0 10 (dk_at dksX15_run_6 0 rfl rfl)
theorem dX15_run_144 : decode cX15_run 144 = .ok (.aload_n 0, 1) := dk_42 (dk_at dksX15_run_6 3 rfl rfl)
theorem dX15_run_145 : decode cX15_run 145 = .ok (.getfield 1, 3) := dk_180 0 1 (dk_at dksX15_run_6 4 rfl rfl)
theorem dX15_run_148 : decode cX15_run 148 = .ok (.getfield 35, 3) := dk_180 0 35 (dk_at dksX15_run_6 7 rfl rfl)
theorem dX15_run_151 : decode cX15_run 151 = .ok (.putfield 35, 3) := dk_181 0 35 (dk_at dksX15_run_6 10 rfl rfl)
theorem dX15_run_154 : decode cX15_run 154 = .ok (.aload_n 0, 1) := dk_42 (dk_at dksX15_run_6 13 rfl rfl)
theorem dX15_run_155 : decode cX15_run 155 = .ok (.getfield 1, 3) := dk_180 0 1 (dk_at dksX15_run_6 14 rfl rfl)
theorem dX15_run_158 : decode cX15_run 158 = .ok (.aload_n 0, 1) := dk_42 (dk_at dksX15_run_6 17 rfl rfl)
theorem dX15_run_159 : decode cX15_run 159 = .ok (.getfield 13, 3) := dk_180 0 13 (dk_at dksX15_run_6 18 rfl rfl)
theorem dX15_run_162 : decode cX15_run 162 = .ok (.iconst 5, 1) := dk_8 (dk_at dksX15_run_6 21 rfl rfl)
theorem dX15_run_163 : decode cX15_run 163 = .ok (.if_icmp .ne 12, 3) := dk_160 0 12 (dk_at dksX15_run_7 0 rfl rfl)
theorem dX15_run_166 : decode cX15_run 166 = .ok (.aload_n 0, 1) := dk_42 (dk_at dksX15_run_7 3 rfl rfl)
theorem dX15_run_167 : decode cX15_run 167 = .ok (.getfield 17, 3) := dk_180 0 17 (dk_at dksX15_run_7 4 rfl rfl)
theorem dX15_run_170 : decode cX15_run 170 = .ok (.iconst 0, 1) := dk_3 (dk_at dksX15_run_7 7 rfl rfl)
theorem dX15_run_171 : decode cX15_run 171 = .ok (.iaload, 1) := dk_46 (dk_at dksX15_run_7 8 rfl rfl)
theorem dX15_run_172 : decode cX15_run 172 = .ok (.goto 10, 3) := dk_167 0 10 (dk_at dksX15_run_7 9 rfl rfl)
theorem dX15_run_175 : decode cX15_run 175 = .ok (.aload_n 0, 1) := dk_42 (dk_at dksX15_run_7 12 rfl rfl)
theorem dX15_run_176 : decode cX15_run 176 = .ok (.getfield 1, 3) := dk_180 0 1 (dk_at dksX15_run_7 13 rfl rfl)
theorem dX15_run_179 : decode cX15_run 179 = .ok (.getfield 38, 3) := dk_180 0 38 (dk_at dksX15_run_7 16 rfl rfl)
theorem dX15_run_182 : decode cX15_run 182 = .ok (.putfield 38, 3) := dk_181 0 38 (dk_at dksX15_run_7 19 rfl rfl)
theorem dX15_run_185 : decode cX15_run 185 = .ok (.return_, 1) := dk_177 (dk_at dksX15_run_7 22 rfl rfl)
theorem q76 : (Jvm.Cond.initialized "WaterGrounds$OfOne") ∈ lw_all := lw_g (lw_at lw_m1 22 rfl) rfl
theorem q286 : (Jvm.Cond.fieldLinkNest "WaterGrounds$OfOne" (21 : Nat) "WaterGrounds" "side" "I" "WaterGrounds") ∈ lw_tbl := lw_at lw_m1 232 rfl
theorem q289 : (Jvm.Cond.fieldLinkNest "WaterGrounds$OfOne" (26 : Nat) "WaterGrounds" "run" "I" "WaterGrounds") ∈ lw_tbl := lw_at lw_m1 235 rfl
theorem q294 : (Jvm.Cond.fieldLinkNest "WaterGrounds$OfOne" (29 : Nat) "WaterGrounds" "mill" "I" "WaterGrounds") ∈ lw_tbl := lw_at lw_m2 0 rfl
theorem q298 : (Jvm.Cond.fieldLinkNest "WaterGrounds$OfOne" (32 : Nat) "WaterGrounds" "warm" "I" "WaterGrounds") ∈ lw_tbl := lw_at lw_m2 4 rfl
theorem q302 : (Jvm.Cond.fieldLinkNest "WaterGrounds$OfOne" (35 : Nat) "WaterGrounds" "grams" "I" "WaterGrounds") ∈ lw_tbl := lw_at lw_m2 8 rfl
theorem q305 : (Jvm.Cond.fieldLinkNest "WaterGrounds$OfOne" (38 : Nat) "WaterGrounds" "ticks" "I" "WaterGrounds") ∈ lw_tbl := lw_at lw_m2 11 rfl
theorem q568 : (Jvm.Cond.fieldLink "WaterGrounds$OfOne" (17 : Nat) "WaterGrounds$OfOne" "told" "[I") ∈ lw_all := lw_g (lw_at lw_m3 34 rfl) rfl
theorem q569 : (Jvm.Cond.sameField "WaterGrounds$OfOne" "WaterGrounds$Line" "told" "[I") ∈ lw_all := lw_g (lw_at lw_m3 35 rfl) rfl
theorem q665 : (Jvm.Cond.instantiable "WaterGrounds$OfOne" (4 : Nat)) ∈ lw_all := lw_g (lw_at lw_m3 131 rfl) rfl
theorem q667 : (Jvm.Cond.instanceMethod ({ cls := "WaterGrounds$OfOne", name := "<init>", desc := "(LWaterGrounds;I[I)V" } : Jvm.MethodName)) ∈ lw_all := lw_g (lw_at lw_m3 133 rfl) rfl
theorem q668 : (Jvm.Cond.code ({ cls := "WaterGrounds$OfOne", name := "<init>", desc := "(LWaterGrounds;I[I)V" } : Jvm.MethodName) prog_10_method_1_code (4 : Nat) (Option.none : Option Jvm.ClassFile.FieldType)) ∈ lw_all := lw_g (lw_at lw_m3 134 rfl) rfl
theorem q669 : (Jvm.Cond.methodLink "WaterGrounds$OfOne" (7 : Nat) ({ cls := "WaterGrounds$Line", name := "<init>", desc := "(LWaterGrounds;[I)V" } : Jvm.MethodName)) ∈ lw_all := lw_g (lw_at lw_m3 135 rfl) rfl
theorem q670 : (Jvm.Cond.fieldLink "WaterGrounds$OfOne" (13 : Nat) "WaterGrounds$OfOne" "what" "I") ∈ lw_all := lw_g (lw_at lw_m3 136 rfl) rfl
theorem q671 : (Jvm.Cond.fieldLink "WaterGrounds$OfOne" (1 : Nat) "WaterGrounds$OfOne" "this$0" "LWaterGrounds;") ∈ lw_all := lw_g (lw_at lw_m3 137 rfl) rfl
theorem q672 : (Jvm.Cond.laysFinal "WaterGrounds$OfOne" "WaterGrounds$OfOne" "what" "I") ∈ lw_all := lw_g (lw_at lw_m3 138 rfl) rfl
theorem q673 : (Jvm.Cond.soleField "WaterGrounds$OfOne" "what") ∈ lw_all := lw_g (lw_at lw_m3 139 rfl) rfl
theorem q674 : (Jvm.Cond.laysFinal "WaterGrounds$OfOne" "WaterGrounds$OfOne" "this$0" "LWaterGrounds;") ∈ lw_all := lw_g (lw_at lw_m3 140 rfl) rfl
theorem q675 : (Jvm.Cond.soleField "WaterGrounds$OfOne" "this$0") ∈ lw_all := lw_g (lw_at lw_m3 141 rfl) rfl
theorem q676 : (Jvm.Cond.laysFinal "WaterGrounds$OfOne" "WaterGrounds$Line" "told" "[I") ∈ lw_all := lw_g (lw_at lw_m3 142 rfl) rfl
theorem q677 : (Jvm.Cond.laysFinal "WaterGrounds$OfOne" "WaterGrounds$Line" "this$0" "LWaterGrounds;") ∈ lw_all := lw_g (lw_at lw_m3 143 rfl) rfl
theorem q678 : (Jvm.Cond.superclass "WaterGrounds$OfOne" "WaterGrounds$Line") ∈ lw_all := lw_g (lw_at lw_m3 144 rfl) rfl
theorem q697 : (Jvm.Cond.selects "WaterGrounds$OfOne" ({ cls := "WaterGrounds$Line", name := "run", desc := "()V" } : Jvm.MethodName) ({ cls := "WaterGrounds$OfOne", name := "run", desc := "()V" } : Jvm.MethodName)) ∈ lw_all := lw_g (lw_at lw_m3 163 rfl) rfl
theorem q698 : (Jvm.Cond.instanceMethod ({ cls := "WaterGrounds$OfOne", name := "run", desc := "()V" } : Jvm.MethodName)) ∈ lw_all := lw_g (lw_at lw_m3 164 rfl) rfl
theorem q699 : (Jvm.Cond.code ({ cls := "WaterGrounds$OfOne", name := "run", desc := "()V" } : Jvm.MethodName) prog_10_method_2_code (1 : Nat) (Option.none : Option Jvm.ClassFile.FieldType)) ∈ lw_all := lw_g (lw_at lw_m3 165 rfl) rfl
theorem q1361 : (Jvm.Cond.castable "WaterGrounds$OfOne" "WaterGrounds$Line") ∈ lw_tbl := lw_at lw_m6 107 rfl
theorem in_X15 : ∀ w ∈ wsX150, w ∈ lw_all := lw_in wsX150 [676, 677, 672, 674] (by decide +kernel) (by decide +kernel)
/-! the law's own entry -/
set_option maxRecDepth 100000
abbrev cL_law : ByteArray := code
def dkwL_law_27 : List UInt8 := [172]
abbrev dktL_law_27 : List UInt8 := dkwL_law_27 ++ []
def dkwL_law_26 : List UInt8 := [182, 0, 105, 44, 42, 29, 4, 96, 46, 182, 0, 108, 159, 0, 5, 3, 172, 132, 3, 5, 167, 253, 90, 4]
abbrev dktL_law_26 : List UInt8 := dkwL_law_26 ++ dktL_law_27
def dkwL_law_25 : List UInt8 := [29, 6, 96, 46, 42, 29, 7, 96, 46, 182, 0, 104, 148, 153, 0, 28, 3, 172, 43, 42, 29, 4, 96, 46]
abbrev dktL_law_25 : List UInt8 := dkwL_law_25 ++ dktL_law_26
def dkwL_law_24 : List UInt8 := [29, 6, 96, 46, 42, 29, 7, 96, 46, 182, 0, 100, 44, 42, 29, 4, 96, 46, 42, 29, 5, 96, 46, 42]
abbrev dktL_law_24 : List UInt8 := dkwL_law_24 ++ dktL_law_25
def dkwL_law_23 : List UInt8 := [182, 0, 96, 44, 182, 0, 99, 159, 0, 82, 3, 172, 43, 42, 29, 4, 96, 46, 42, 29, 5, 96, 46, 42]
abbrev dktL_law_23 : List UInt8 := dkwL_law_23 ++ dktL_law_24
def dkwL_law_22 : List UInt8 := [182, 0, 91, 159, 0, 108, 3, 172, 43, 182, 0, 92, 44, 182, 0, 95, 159, 0, 95, 3, 172, 43]
abbrev dktL_law_22 : List UInt8 := dkwL_law_22 ++ dktL_law_23
def dkwL_law_21 : List UInt8 := [29, 4, 96, 46, 42, 29, 5, 96, 46, 182, 0, 87, 159, 0, 121, 3, 172, 43, 182, 0, 88, 44]
abbrev dktL_law_21 : List UInt8 := dkwL_law_21 ++ dktL_law_22
def dkwL_law_20 : List UInt8 := [182, 0, 83, 159, 0, 154, 3, 172, 43, 42, 29, 4, 96, 46, 42, 29, 5, 96, 46, 182, 0, 84, 44, 42]
abbrev dktL_law_20 : List UInt8 := dkwL_law_20 ++ dktL_law_21
def dkwL_law_19 : List UInt8 := [182, 0, 79, 159, 0, 177, 3, 172, 43, 42, 29, 4, 96, 46, 182, 0, 80, 44, 42, 29, 4, 96, 46]
abbrev dktL_law_19 : List UInt8 := dkwL_law_19 ++ dktL_law_20
def dkwL_law_18 : List UInt8 := [182, 0, 75, 159, 0, 200, 3, 172, 43, 42, 29, 4, 96, 46, 182, 0, 76, 44, 42, 29, 4, 96, 46]
abbrev dktL_law_18 : List UInt8 := dkwL_law_18 ++ dktL_law_19
def dkwL_law_17 : List UInt8 := [182, 0, 71, 159, 0, 223, 3, 172, 43, 42, 29, 4, 96, 46, 182, 0, 72, 44, 42, 29, 4, 96, 46]
abbrev dktL_law_17 : List UInt8 := dkwL_law_17 ++ dktL_law_18
def dkwL_law_16 : List UInt8 := [182, 0, 67, 159, 0, 246, 3, 172, 43, 42, 29, 4, 96, 46, 182, 0, 68, 44, 42, 29, 4, 96, 46]
abbrev dktL_law_16 : List UInt8 := dkwL_law_16 ++ dktL_law_17
def dkwL_law_15 : List UInt8 := [182, 0, 63, 159, 1, 13, 3, 172, 43, 42, 29, 4, 96, 46, 182, 0, 64, 44, 42, 29, 4, 96, 46]
abbrev dktL_law_15 : List UInt8 := dkwL_law_15 ++ dktL_law_16
def dkwL_law_14 : List UInt8 := [182, 0, 59, 159, 1, 36, 3, 172, 43, 42, 29, 4, 96, 46, 182, 0, 60, 44, 42, 29, 4, 96, 46]
abbrev dktL_law_14 : List UInt8 := dkwL_law_14 ++ dktL_law_15
def dkwL_law_13 : List UInt8 := [46, 182, 0, 55, 159, 1, 59, 3, 172, 43, 42, 29, 4, 96, 46, 182, 0, 56, 44, 42, 29, 4, 96, 46]
abbrev dktL_law_13 : List UInt8 := dkwL_law_13 ++ dktL_law_14
def dkwL_law_12 : List UInt8 := [46, 42, 29, 6, 96, 46, 182, 0, 51, 44, 42, 29, 4, 96, 46, 42, 29, 5, 96, 46, 42, 29, 6, 96]
abbrev dktL_law_12 : List UInt8 := dkwL_law_12 ++ dktL_law_13
def dkwL_law_11 : List UInt8 := [172, 43, 182, 0, 47, 44, 182, 0, 50, 159, 1, 102, 3, 172, 43, 42, 29, 4, 96, 46, 42, 29, 5, 96]
abbrev dktL_law_11 : List UInt8 := dkwL_law_11 ++ dktL_law_12
def dkwL_law_10 : List UInt8 := [3, 172, 43, 42, 29, 4, 96, 46, 182, 0, 42, 44, 42, 29, 4, 96, 46, 182, 0, 46, 159, 1, 115, 3]
abbrev dktL_law_10 : List UInt8 := dkwL_law_10 ++ dktL_law_11
def dkwL_law_9 : List UInt8 := [29, 5, 96, 46, 182, 0, 38, 44, 42, 29, 4, 96, 46, 42, 29, 5, 96, 46, 182, 0, 41, 159, 1, 138]
abbrev dktL_law_9 : List UInt8 := dkwL_law_9 ++ dktL_law_10
def dkwL_law_8 : List UInt8 := [29, 4, 96, 46, 42, 29, 5, 96, 46, 182, 0, 37, 159, 1, 171, 3, 172, 43, 42, 29, 4, 96, 46, 42]
abbrev dktL_law_8 : List UInt8 := dkwL_law_8 ++ dktL_law_9
def dkwL_law_7 : List UInt8 := [182, 0, 32, 159, 1, 204, 3, 172, 43, 42, 29, 4, 96, 46, 42, 29, 5, 96, 46, 182, 0, 33, 44, 42]
abbrev dktL_law_7 : List UInt8 := dkwL_law_7 ++ dktL_law_8
def dkwL_law_6 : List UInt8 := [159, 1, 230, 3, 172, 43, 182, 0, 25, 44, 182, 0, 28, 159, 1, 217, 3, 172, 43, 182, 0, 29, 44]
abbrev dktL_law_6 : List UInt8 := dkwL_law_6 ++ dktL_law_7
def dkwL_law_5 : List UInt8 := [127, 129, 42, 29, 6, 96, 46, 182, 0, 19, 159, 1, 243, 3, 172, 43, 182, 0, 20, 44, 182, 0, 24]
abbrev dktL_law_5 : List UInt8 := dkwL_law_5 ++ dktL_law_6
def dkwL_law_4 : List UInt8 := [96, 46, 182, 0, 15, 44, 42, 29, 4, 96, 46, 133, 16, 32, 121, 42, 29, 5, 96, 46, 133, 20, 0, 13]
abbrev dktL_law_4 : List UInt8 := dkwL_law_4 ++ dktL_law_5
def dkwL_law_3 : List UInt8 := [43, 42, 29, 4, 96, 46, 133, 16, 32, 121, 42, 29, 5, 96, 46, 133, 20, 0, 13, 127, 129, 42, 29, 6]
abbrev dktL_law_3 : List UInt8 := dkwL_law_3 ++ dktL_law_4
def dkwL_law_2 : List UInt8 := [170, 0, 0, 0, 0, 0, 2, 149, 0, 0, 0, 0, 0, 0, 0, 21, 0, 0, 0, 104, 0, 0, 0, 167, 0, 0, 0, 180, 0, 0, 0, 193, 0, 0, 0, 206, 0, 0, 0, 239, 0, 0, 1, 16, 0, 0, 1, 39, 0, 0, 1, 52, 0, 0, 1, 95, 0, 0, 1, 118, 0, 0, 1, 141, 0, 0, 1, 164, 0, 0, 1, 187, 0, 0, 1, 210, 0, 0, 1, 233, 0, 0, 2, 0, 0, 0, 2, 33, 0, 0, 2, 46, 0, 0, 2, 59, 0, 0, 2, 72, 0, 0, 2, 126]
abbrev dktL_law_2 : List UInt8 := dkwL_law_2 ++ dktL_law_3
def dkwL_law_1 : List UInt8 := [163, 2, 164, 42, 29, 46, 16, 31, 126]
abbrev dktL_law_1 : List UInt8 := dkwL_law_1 ++ dktL_law_2
def dkwL_law_0 : List UInt8 := [187, 0, 7, 89, 183, 0, 9, 76, 187, 0, 10, 89, 183, 0, 12, 77, 3, 62, 29, 42, 190, 8, 100]
abbrev dktL_law_0 : List UInt8 := dkwL_law_0 ++ dktL_law_1
theorem dksL_law_0 : cL_law.data.toList.drop 0 = dktL_law_0 := by decide +kernel
theorem dksL_law_1 : cL_law.data.toList.drop 23 = dktL_law_1 := dk_seg dksL_law_0 23 rfl rfl
theorem dksL_law_2 : cL_law.data.toList.drop 32 = dktL_law_2 := dk_seg dksL_law_1 9 rfl rfl
theorem dksL_law_3 : cL_law.data.toList.drop 136 = dktL_law_3 := dk_seg dksL_law_2 104 rfl rfl
theorem dksL_law_4 : cL_law.data.toList.drop 160 = dktL_law_4 := dk_seg dksL_law_3 24 rfl rfl
theorem dksL_law_5 : cL_law.data.toList.drop 184 = dktL_law_5 := dk_seg dksL_law_4 24 rfl rfl
theorem dksL_law_6 : cL_law.data.toList.drop 207 = dktL_law_6 := dk_seg dksL_law_5 23 rfl rfl
theorem dksL_law_7 : cL_law.data.toList.drop 230 = dktL_law_7 := dk_seg dksL_law_6 23 rfl rfl
theorem dksL_law_8 : cL_law.data.toList.drop 254 = dktL_law_8 := dk_seg dksL_law_7 24 rfl rfl
theorem dksL_law_9 : cL_law.data.toList.drop 278 = dktL_law_9 := dk_seg dksL_law_8 24 rfl rfl
theorem dksL_law_10 : cL_law.data.toList.drop 302 = dktL_law_10 := dk_seg dksL_law_9 24 rfl rfl
theorem dksL_law_11 : cL_law.data.toList.drop 326 = dktL_law_11 := dk_seg dksL_law_10 24 rfl rfl
theorem dksL_law_12 : cL_law.data.toList.drop 350 = dktL_law_12 := dk_seg dksL_law_11 24 rfl rfl
theorem dksL_law_13 : cL_law.data.toList.drop 374 = dktL_law_13 := dk_seg dksL_law_12 24 rfl rfl
theorem dksL_law_14 : cL_law.data.toList.drop 398 = dktL_law_14 := dk_seg dksL_law_13 24 rfl rfl
theorem dksL_law_15 : cL_law.data.toList.drop 421 = dktL_law_15 := dk_seg dksL_law_14 23 rfl rfl
theorem dksL_law_16 : cL_law.data.toList.drop 444 = dktL_law_16 := dk_seg dksL_law_15 23 rfl rfl
theorem dksL_law_17 : cL_law.data.toList.drop 467 = dktL_law_17 := dk_seg dksL_law_16 23 rfl rfl
theorem dksL_law_18 : cL_law.data.toList.drop 490 = dktL_law_18 := dk_seg dksL_law_17 23 rfl rfl
theorem dksL_law_19 : cL_law.data.toList.drop 513 = dktL_law_19 := dk_seg dksL_law_18 23 rfl rfl
theorem dksL_law_20 : cL_law.data.toList.drop 536 = dktL_law_20 := dk_seg dksL_law_19 23 rfl rfl
theorem dksL_law_21 : cL_law.data.toList.drop 560 = dktL_law_21 := dk_seg dksL_law_20 24 rfl rfl
theorem dksL_law_22 : cL_law.data.toList.drop 582 = dktL_law_22 := dk_seg dksL_law_21 22 rfl rfl
theorem dksL_law_23 : cL_law.data.toList.drop 604 = dktL_law_23 := dk_seg dksL_law_22 22 rfl rfl
theorem dksL_law_24 : cL_law.data.toList.drop 628 = dktL_law_24 := dk_seg dksL_law_23 24 rfl rfl
theorem dksL_law_25 : cL_law.data.toList.drop 652 = dktL_law_25 := dk_seg dksL_law_24 24 rfl rfl
theorem dksL_law_26 : cL_law.data.toList.drop 676 = dktL_law_26 := dk_seg dksL_law_25 24 rfl rfl
theorem dksL_law_27 : cL_law.data.toList.drop 700 = dktL_law_27 := dk_seg dksL_law_26 24 rfl rfl
theorem dL_law_0 : decode cL_law 0 = .ok (.new 7, 3) := dk_187 0 7 (dk_at dksL_law_0 0 rfl rfl)
theorem dL_law_3 : decode cL_law 3 = .ok (.dup, 1) := dk_89 (dk_at dksL_law_0 3 rfl rfl)
theorem dL_law_4 : decode cL_law 4 = .ok (.invokespecial 9, 3) := dk_183 0 9 (dk_at dksL_law_0 4 rfl rfl)
theorem dL_law_7 : decode cL_law 7 = .ok (.astore_n 1, 1) := dk_76 (dk_at dksL_law_0 7 rfl rfl)
theorem dL_law_8 : decode cL_law 8 = .ok (.new 10, 3) := dk_187 0 10 (dk_at dksL_law_0 8 rfl rfl)
theorem dL_law_11 : decode cL_law 11 = .ok (.dup, 1) := dk_89 (dk_at dksL_law_0 11 rfl rfl)
theorem dL_law_12 : decode cL_law 12 = .ok (.invokespecial 12, 3) := dk_183 0 12 (dk_at dksL_law_0 12 rfl rfl)
theorem dL_law_15 : decode cL_law 15 = .ok (.astore_n 2, 1) := dk_77 (dk_at dksL_law_0 15 rfl rfl)
theorem dL_law_16 : decode cL_law 16 = .ok (.iconst 0, 1) := dk_3 (dk_at dksL_law_0 16 rfl rfl)
theorem dL_law_17 : decode cL_law 17 = .ok (.istore_n 3, 1) := dk_62 (dk_at dksL_law_0 17 rfl rfl)
theorem dL_law_18 : decode cL_law 18 = .ok (.iload_n 3, 1) := dk_29 (dk_at dksL_law_0 18 rfl rfl)
theorem dL_law_19 : decode cL_law 19 = .ok (.aload_n 0, 1) := dk_42 (dk_at dksL_law_0 19 rfl rfl)
theorem dL_law_20 : decode cL_law 20 = .ok (.arraylength, 1) := dk_190 (dk_at dksL_law_0 20 rfl rfl)
theorem dL_law_21 : decode cL_law 21 = .ok (.iconst 5, 1) := dk_8 (dk_at dksL_law_0 21 rfl rfl)
theorem dL_law_22 : decode cL_law 22 = .ok (.isub, 1) := dk_100 (dk_at dksL_law_0 22 rfl rfl)
theorem dL_law_23 : decode cL_law 23 = .ok (.if_icmp .gt 676, 3) := dk_163 2 164 (dk_at dksL_law_1 0 rfl rfl)
theorem dL_law_26 : decode cL_law 26 = .ok (.aload_n 0, 1) := dk_42 (dk_at dksL_law_1 3 rfl rfl)
theorem dL_law_27 : decode cL_law 27 = .ok (.iload_n 3, 1) := dk_29 (dk_at dksL_law_1 4 rfl rfl)
theorem dL_law_28 : decode cL_law 28 = .ok (.iaload, 1) := dk_46 (dk_at dksL_law_1 5 rfl rfl)
theorem dL_law_29 : decode cL_law 29 = .ok (.bipush 31, 2) := dk_16 31 (dk_at dksL_law_1 6 rfl rfl)
theorem dL_law_31 : decode cL_law 31 = .ok (.iand, 1) := dk_126 (dk_at dksL_law_1 8 rfl rfl)
theorem dL_law_32 : decode cL_law 32 = .ok (.tableswitch 661 0 21 #[104, 167, 180, 193, 206, 239, 272, 295, 308, 351, 374, 397, 420, 443, 466, 489, 512, 545, 558, 571, 584, 638], 104) := by decide +kernel
theorem dL_law_136 : decode cL_law 136 = .ok (.aload_n 1, 1) := dk_43 (dk_at dksL_law_3 0 rfl rfl)
theorem dL_law_137 : decode cL_law 137 = .ok (.aload_n 0, 1) := dk_42 (dk_at dksL_law_3 1 rfl rfl)
theorem dL_law_138 : decode cL_law 138 = .ok (.iload_n 3, 1) := dk_29 (dk_at dksL_law_3 2 rfl rfl)
theorem dL_law_139 : decode cL_law 139 = .ok (.iconst 1, 1) := dk_4 (dk_at dksL_law_3 3 rfl rfl)
theorem dL_law_140 : decode cL_law 140 = .ok (.iadd, 1) := dk_96 (dk_at dksL_law_3 4 rfl rfl)
theorem dL_law_141 : decode cL_law 141 = .ok (.iaload, 1) := dk_46 (dk_at dksL_law_3 5 rfl rfl)
theorem dL_law_142 : decode cL_law 142 = .ok (.i2l, 1) := dk_133 (dk_at dksL_law_3 6 rfl rfl)
theorem dL_law_143 : decode cL_law 143 = .ok (.bipush 32, 2) := dk_16 32 (dk_at dksL_law_3 7 rfl rfl)
theorem dL_law_145 : decode cL_law 145 = .ok (.lshl, 1) := dk_121 (dk_at dksL_law_3 9 rfl rfl)
theorem dL_law_146 : decode cL_law 146 = .ok (.aload_n 0, 1) := dk_42 (dk_at dksL_law_3 10 rfl rfl)
theorem dL_law_147 : decode cL_law 147 = .ok (.iload_n 3, 1) := dk_29 (dk_at dksL_law_3 11 rfl rfl)
theorem dL_law_148 : decode cL_law 148 = .ok (.iconst 2, 1) := dk_5 (dk_at dksL_law_3 12 rfl rfl)
theorem dL_law_149 : decode cL_law 149 = .ok (.iadd, 1) := dk_96 (dk_at dksL_law_3 13 rfl rfl)
theorem dL_law_150 : decode cL_law 150 = .ok (.iaload, 1) := dk_46 (dk_at dksL_law_3 14 rfl rfl)
theorem dL_law_151 : decode cL_law 151 = .ok (.i2l, 1) := dk_133 (dk_at dksL_law_3 15 rfl rfl)
theorem dL_law_152 : decode cL_law 152 = .ok (.ldc2_w 13, 3) := dk_20 0 13 (dk_at dksL_law_3 16 rfl rfl)
theorem dL_law_155 : decode cL_law 155 = .ok (.land, 1) := dk_127 (dk_at dksL_law_3 19 rfl rfl)
theorem dL_law_156 : decode cL_law 156 = .ok (.lor, 1) := dk_129 (dk_at dksL_law_3 20 rfl rfl)
theorem dL_law_157 : decode cL_law 157 = .ok (.aload_n 0, 1) := dk_42 (dk_at dksL_law_3 21 rfl rfl)
theorem dL_law_158 : decode cL_law 158 = .ok (.iload_n 3, 1) := dk_29 (dk_at dksL_law_3 22 rfl rfl)
theorem dL_law_159 : decode cL_law 159 = .ok (.iconst 3, 1) := dk_6 (dk_at dksL_law_3 23 rfl rfl)
theorem dL_law_160 : decode cL_law 160 = .ok (.iadd, 1) := dk_96 (dk_at dksL_law_4 0 rfl rfl)
theorem dL_law_161 : decode cL_law 161 = .ok (.iaload, 1) := dk_46 (dk_at dksL_law_4 1 rfl rfl)
theorem dL_law_162 : decode cL_law 162 = .ok (.invokevirtual 15, 3) := dk_182 0 15 (dk_at dksL_law_4 2 rfl rfl)
theorem dL_law_165 : decode cL_law 165 = .ok (.aload_n 2, 1) := dk_44 (dk_at dksL_law_4 5 rfl rfl)
theorem dL_law_166 : decode cL_law 166 = .ok (.aload_n 0, 1) := dk_42 (dk_at dksL_law_4 6 rfl rfl)
theorem dL_law_167 : decode cL_law 167 = .ok (.iload_n 3, 1) := dk_29 (dk_at dksL_law_4 7 rfl rfl)
theorem dL_law_168 : decode cL_law 168 = .ok (.iconst 1, 1) := dk_4 (dk_at dksL_law_4 8 rfl rfl)
theorem dL_law_169 : decode cL_law 169 = .ok (.iadd, 1) := dk_96 (dk_at dksL_law_4 9 rfl rfl)
theorem dL_law_170 : decode cL_law 170 = .ok (.iaload, 1) := dk_46 (dk_at dksL_law_4 10 rfl rfl)
theorem dL_law_171 : decode cL_law 171 = .ok (.i2l, 1) := dk_133 (dk_at dksL_law_4 11 rfl rfl)
theorem dL_law_172 : decode cL_law 172 = .ok (.bipush 32, 2) := dk_16 32 (dk_at dksL_law_4 12 rfl rfl)
theorem dL_law_174 : decode cL_law 174 = .ok (.lshl, 1) := dk_121 (dk_at dksL_law_4 14 rfl rfl)
theorem dL_law_175 : decode cL_law 175 = .ok (.aload_n 0, 1) := dk_42 (dk_at dksL_law_4 15 rfl rfl)
theorem dL_law_176 : decode cL_law 176 = .ok (.iload_n 3, 1) := dk_29 (dk_at dksL_law_4 16 rfl rfl)
theorem dL_law_177 : decode cL_law 177 = .ok (.iconst 2, 1) := dk_5 (dk_at dksL_law_4 17 rfl rfl)
theorem dL_law_178 : decode cL_law 178 = .ok (.iadd, 1) := dk_96 (dk_at dksL_law_4 18 rfl rfl)
theorem dL_law_179 : decode cL_law 179 = .ok (.iaload, 1) := dk_46 (dk_at dksL_law_4 19 rfl rfl)
theorem dL_law_180 : decode cL_law 180 = .ok (.i2l, 1) := dk_133 (dk_at dksL_law_4 20 rfl rfl)
theorem dL_law_181 : decode cL_law 181 = .ok (.ldc2_w 13, 3) := dk_20 0 13 (dk_at dksL_law_4 21 rfl rfl)
theorem dL_law_184 : decode cL_law 184 = .ok (.land, 1) := dk_127 (dk_at dksL_law_5 0 rfl rfl)
theorem dL_law_185 : decode cL_law 185 = .ok (.lor, 1) := dk_129 (dk_at dksL_law_5 1 rfl rfl)
theorem dL_law_186 : decode cL_law 186 = .ok (.aload_n 0, 1) := dk_42 (dk_at dksL_law_5 2 rfl rfl)
theorem dL_law_187 : decode cL_law 187 = .ok (.iload_n 3, 1) := dk_29 (dk_at dksL_law_5 3 rfl rfl)
theorem dL_law_188 : decode cL_law 188 = .ok (.iconst 3, 1) := dk_6 (dk_at dksL_law_5 4 rfl rfl)
theorem dL_law_189 : decode cL_law 189 = .ok (.iadd, 1) := dk_96 (dk_at dksL_law_5 5 rfl rfl)
theorem dL_law_190 : decode cL_law 190 = .ok (.iaload, 1) := dk_46 (dk_at dksL_law_5 6 rfl rfl)
theorem dL_law_191 : decode cL_law 191 = .ok (.invokevirtual 19, 3) := dk_182 0 19 (dk_at dksL_law_5 7 rfl rfl)
theorem dL_law_194 : decode cL_law 194 = .ok (.if_icmp .eq 499, 3) := dk_159 1 243 (dk_at dksL_law_5 10 rfl rfl)
theorem dL_law_197 : decode cL_law 197 = .ok (.iconst 0, 1) := dk_3 (dk_at dksL_law_5 13 rfl rfl)
theorem dL_law_198 : decode cL_law 198 = .ok (.ireturn, 1) := dk_172 (dk_at dksL_law_5 14 rfl rfl)
theorem dL_law_199 : decode cL_law 199 = .ok (.aload_n 1, 1) := dk_43 (dk_at dksL_law_5 15 rfl rfl)
theorem dL_law_200 : decode cL_law 200 = .ok (.invokevirtual 20, 3) := dk_182 0 20 (dk_at dksL_law_5 16 rfl rfl)
theorem dL_law_203 : decode cL_law 203 = .ok (.aload_n 2, 1) := dk_44 (dk_at dksL_law_5 19 rfl rfl)
theorem dL_law_204 : decode cL_law 204 = .ok (.invokevirtual 24, 3) := dk_182 0 24 (dk_at dksL_law_5 20 rfl rfl)
theorem dL_law_207 : decode cL_law 207 = .ok (.if_icmp .eq 486, 3) := dk_159 1 230 (dk_at dksL_law_6 0 rfl rfl)
theorem dL_law_210 : decode cL_law 210 = .ok (.iconst 0, 1) := dk_3 (dk_at dksL_law_6 3 rfl rfl)
theorem dL_law_211 : decode cL_law 211 = .ok (.ireturn, 1) := dk_172 (dk_at dksL_law_6 4 rfl rfl)
theorem dL_law_212 : decode cL_law 212 = .ok (.aload_n 1, 1) := dk_43 (dk_at dksL_law_6 5 rfl rfl)
theorem dL_law_213 : decode cL_law 213 = .ok (.invokevirtual 25, 3) := dk_182 0 25 (dk_at dksL_law_6 6 rfl rfl)
theorem dL_law_216 : decode cL_law 216 = .ok (.aload_n 2, 1) := dk_44 (dk_at dksL_law_6 9 rfl rfl)
theorem dL_law_217 : decode cL_law 217 = .ok (.invokevirtual 28, 3) := dk_182 0 28 (dk_at dksL_law_6 10 rfl rfl)
theorem dL_law_220 : decode cL_law 220 = .ok (.if_icmp .eq 473, 3) := dk_159 1 217 (dk_at dksL_law_6 13 rfl rfl)
theorem dL_law_223 : decode cL_law 223 = .ok (.iconst 0, 1) := dk_3 (dk_at dksL_law_6 16 rfl rfl)
theorem dL_law_224 : decode cL_law 224 = .ok (.ireturn, 1) := dk_172 (dk_at dksL_law_6 17 rfl rfl)
theorem dL_law_225 : decode cL_law 225 = .ok (.aload_n 1, 1) := dk_43 (dk_at dksL_law_6 18 rfl rfl)
theorem dL_law_226 : decode cL_law 226 = .ok (.invokevirtual 29, 3) := dk_182 0 29 (dk_at dksL_law_6 19 rfl rfl)
theorem dL_law_229 : decode cL_law 229 = .ok (.aload_n 2, 1) := dk_44 (dk_at dksL_law_6 22 rfl rfl)
theorem dL_law_230 : decode cL_law 230 = .ok (.invokevirtual 32, 3) := dk_182 0 32 (dk_at dksL_law_7 0 rfl rfl)
theorem dL_law_233 : decode cL_law 233 = .ok (.if_icmp .eq 460, 3) := dk_159 1 204 (dk_at dksL_law_7 3 rfl rfl)
theorem dL_law_236 : decode cL_law 236 = .ok (.iconst 0, 1) := dk_3 (dk_at dksL_law_7 6 rfl rfl)
theorem dL_law_237 : decode cL_law 237 = .ok (.ireturn, 1) := dk_172 (dk_at dksL_law_7 7 rfl rfl)
theorem dL_law_238 : decode cL_law 238 = .ok (.aload_n 1, 1) := dk_43 (dk_at dksL_law_7 8 rfl rfl)
theorem dL_law_239 : decode cL_law 239 = .ok (.aload_n 0, 1) := dk_42 (dk_at dksL_law_7 9 rfl rfl)
theorem dL_law_240 : decode cL_law 240 = .ok (.iload_n 3, 1) := dk_29 (dk_at dksL_law_7 10 rfl rfl)
theorem dL_law_241 : decode cL_law 241 = .ok (.iconst 1, 1) := dk_4 (dk_at dksL_law_7 11 rfl rfl)
theorem dL_law_242 : decode cL_law 242 = .ok (.iadd, 1) := dk_96 (dk_at dksL_law_7 12 rfl rfl)
theorem dL_law_243 : decode cL_law 243 = .ok (.iaload, 1) := dk_46 (dk_at dksL_law_7 13 rfl rfl)
theorem dL_law_244 : decode cL_law 244 = .ok (.aload_n 0, 1) := dk_42 (dk_at dksL_law_7 14 rfl rfl)
theorem dL_law_245 : decode cL_law 245 = .ok (.iload_n 3, 1) := dk_29 (dk_at dksL_law_7 15 rfl rfl)
theorem dL_law_246 : decode cL_law 246 = .ok (.iconst 2, 1) := dk_5 (dk_at dksL_law_7 16 rfl rfl)
theorem dL_law_247 : decode cL_law 247 = .ok (.iadd, 1) := dk_96 (dk_at dksL_law_7 17 rfl rfl)
theorem dL_law_248 : decode cL_law 248 = .ok (.iaload, 1) := dk_46 (dk_at dksL_law_7 18 rfl rfl)
theorem dL_law_249 : decode cL_law 249 = .ok (.invokevirtual 33, 3) := dk_182 0 33 (dk_at dksL_law_7 19 rfl rfl)
theorem dL_law_252 : decode cL_law 252 = .ok (.aload_n 2, 1) := dk_44 (dk_at dksL_law_7 22 rfl rfl)
theorem dL_law_253 : decode cL_law 253 = .ok (.aload_n 0, 1) := dk_42 (dk_at dksL_law_7 23 rfl rfl)
theorem dL_law_254 : decode cL_law 254 = .ok (.iload_n 3, 1) := dk_29 (dk_at dksL_law_8 0 rfl rfl)
theorem dL_law_255 : decode cL_law 255 = .ok (.iconst 1, 1) := dk_4 (dk_at dksL_law_8 1 rfl rfl)
theorem dL_law_256 : decode cL_law 256 = .ok (.iadd, 1) := dk_96 (dk_at dksL_law_8 2 rfl rfl)
theorem dL_law_257 : decode cL_law 257 = .ok (.iaload, 1) := dk_46 (dk_at dksL_law_8 3 rfl rfl)
theorem dL_law_258 : decode cL_law 258 = .ok (.aload_n 0, 1) := dk_42 (dk_at dksL_law_8 4 rfl rfl)
theorem dL_law_259 : decode cL_law 259 = .ok (.iload_n 3, 1) := dk_29 (dk_at dksL_law_8 5 rfl rfl)
theorem dL_law_260 : decode cL_law 260 = .ok (.iconst 2, 1) := dk_5 (dk_at dksL_law_8 6 rfl rfl)
theorem dL_law_261 : decode cL_law 261 = .ok (.iadd, 1) := dk_96 (dk_at dksL_law_8 7 rfl rfl)
theorem dL_law_262 : decode cL_law 262 = .ok (.iaload, 1) := dk_46 (dk_at dksL_law_8 8 rfl rfl)
theorem dL_law_263 : decode cL_law 263 = .ok (.invokevirtual 37, 3) := dk_182 0 37 (dk_at dksL_law_8 9 rfl rfl)
theorem dL_law_266 : decode cL_law 266 = .ok (.if_icmp .eq 427, 3) := dk_159 1 171 (dk_at dksL_law_8 12 rfl rfl)
theorem dL_law_269 : decode cL_law 269 = .ok (.iconst 0, 1) := dk_3 (dk_at dksL_law_8 15 rfl rfl)
theorem dL_law_270 : decode cL_law 270 = .ok (.ireturn, 1) := dk_172 (dk_at dksL_law_8 16 rfl rfl)
theorem dL_law_271 : decode cL_law 271 = .ok (.aload_n 1, 1) := dk_43 (dk_at dksL_law_8 17 rfl rfl)
theorem dL_law_272 : decode cL_law 272 = .ok (.aload_n 0, 1) := dk_42 (dk_at dksL_law_8 18 rfl rfl)
theorem dL_law_273 : decode cL_law 273 = .ok (.iload_n 3, 1) := dk_29 (dk_at dksL_law_8 19 rfl rfl)
theorem dL_law_274 : decode cL_law 274 = .ok (.iconst 1, 1) := dk_4 (dk_at dksL_law_8 20 rfl rfl)
theorem dL_law_275 : decode cL_law 275 = .ok (.iadd, 1) := dk_96 (dk_at dksL_law_8 21 rfl rfl)
theorem dL_law_276 : decode cL_law 276 = .ok (.iaload, 1) := dk_46 (dk_at dksL_law_8 22 rfl rfl)
theorem dL_law_277 : decode cL_law 277 = .ok (.aload_n 0, 1) := dk_42 (dk_at dksL_law_8 23 rfl rfl)
theorem dL_law_278 : decode cL_law 278 = .ok (.iload_n 3, 1) := dk_29 (dk_at dksL_law_9 0 rfl rfl)
theorem dL_law_279 : decode cL_law 279 = .ok (.iconst 2, 1) := dk_5 (dk_at dksL_law_9 1 rfl rfl)
theorem dL_law_280 : decode cL_law 280 = .ok (.iadd, 1) := dk_96 (dk_at dksL_law_9 2 rfl rfl)
theorem dL_law_281 : decode cL_law 281 = .ok (.iaload, 1) := dk_46 (dk_at dksL_law_9 3 rfl rfl)
theorem dL_law_282 : decode cL_law 282 = .ok (.invokevirtual 38, 3) := dk_182 0 38 (dk_at dksL_law_9 4 rfl rfl)
theorem dL_law_285 : decode cL_law 285 = .ok (.aload_n 2, 1) := dk_44 (dk_at dksL_law_9 7 rfl rfl)
theorem dL_law_286 : decode cL_law 286 = .ok (.aload_n 0, 1) := dk_42 (dk_at dksL_law_9 8 rfl rfl)
theorem dL_law_287 : decode cL_law 287 = .ok (.iload_n 3, 1) := dk_29 (dk_at dksL_law_9 9 rfl rfl)
theorem dL_law_288 : decode cL_law 288 = .ok (.iconst 1, 1) := dk_4 (dk_at dksL_law_9 10 rfl rfl)
theorem dL_law_289 : decode cL_law 289 = .ok (.iadd, 1) := dk_96 (dk_at dksL_law_9 11 rfl rfl)
theorem dL_law_290 : decode cL_law 290 = .ok (.iaload, 1) := dk_46 (dk_at dksL_law_9 12 rfl rfl)
theorem dL_law_291 : decode cL_law 291 = .ok (.aload_n 0, 1) := dk_42 (dk_at dksL_law_9 13 rfl rfl)
theorem dL_law_292 : decode cL_law 292 = .ok (.iload_n 3, 1) := dk_29 (dk_at dksL_law_9 14 rfl rfl)
theorem dL_law_293 : decode cL_law 293 = .ok (.iconst 2, 1) := dk_5 (dk_at dksL_law_9 15 rfl rfl)
theorem dL_law_294 : decode cL_law 294 = .ok (.iadd, 1) := dk_96 (dk_at dksL_law_9 16 rfl rfl)
theorem dL_law_295 : decode cL_law 295 = .ok (.iaload, 1) := dk_46 (dk_at dksL_law_9 17 rfl rfl)
theorem dL_law_296 : decode cL_law 296 = .ok (.invokevirtual 41, 3) := dk_182 0 41 (dk_at dksL_law_9 18 rfl rfl)
theorem dL_law_299 : decode cL_law 299 = .ok (.if_icmp .eq 394, 3) := dk_159 1 138 (dk_at dksL_law_9 21 rfl rfl)
theorem dL_law_302 : decode cL_law 302 = .ok (.iconst 0, 1) := dk_3 (dk_at dksL_law_10 0 rfl rfl)
theorem dL_law_303 : decode cL_law 303 = .ok (.ireturn, 1) := dk_172 (dk_at dksL_law_10 1 rfl rfl)
theorem dL_law_304 : decode cL_law 304 = .ok (.aload_n 1, 1) := dk_43 (dk_at dksL_law_10 2 rfl rfl)
theorem dL_law_305 : decode cL_law 305 = .ok (.aload_n 0, 1) := dk_42 (dk_at dksL_law_10 3 rfl rfl)
theorem dL_law_306 : decode cL_law 306 = .ok (.iload_n 3, 1) := dk_29 (dk_at dksL_law_10 4 rfl rfl)
theorem dL_law_307 : decode cL_law 307 = .ok (.iconst 1, 1) := dk_4 (dk_at dksL_law_10 5 rfl rfl)
theorem dL_law_308 : decode cL_law 308 = .ok (.iadd, 1) := dk_96 (dk_at dksL_law_10 6 rfl rfl)
theorem dL_law_309 : decode cL_law 309 = .ok (.iaload, 1) := dk_46 (dk_at dksL_law_10 7 rfl rfl)
theorem dL_law_310 : decode cL_law 310 = .ok (.invokevirtual 42, 3) := dk_182 0 42 (dk_at dksL_law_10 8 rfl rfl)
theorem dL_law_313 : decode cL_law 313 = .ok (.aload_n 2, 1) := dk_44 (dk_at dksL_law_10 11 rfl rfl)
theorem dL_law_314 : decode cL_law 314 = .ok (.aload_n 0, 1) := dk_42 (dk_at dksL_law_10 12 rfl rfl)
theorem dL_law_315 : decode cL_law 315 = .ok (.iload_n 3, 1) := dk_29 (dk_at dksL_law_10 13 rfl rfl)
theorem dL_law_316 : decode cL_law 316 = .ok (.iconst 1, 1) := dk_4 (dk_at dksL_law_10 14 rfl rfl)
theorem dL_law_317 : decode cL_law 317 = .ok (.iadd, 1) := dk_96 (dk_at dksL_law_10 15 rfl rfl)
theorem dL_law_318 : decode cL_law 318 = .ok (.iaload, 1) := dk_46 (dk_at dksL_law_10 16 rfl rfl)
theorem dL_law_319 : decode cL_law 319 = .ok (.invokevirtual 46, 3) := dk_182 0 46 (dk_at dksL_law_10 17 rfl rfl)
theorem dL_law_322 : decode cL_law 322 = .ok (.if_icmp .eq 371, 3) := dk_159 1 115 (dk_at dksL_law_10 20 rfl rfl)
theorem dL_law_325 : decode cL_law 325 = .ok (.iconst 0, 1) := dk_3 (dk_at dksL_law_10 23 rfl rfl)
theorem dL_law_326 : decode cL_law 326 = .ok (.ireturn, 1) := dk_172 (dk_at dksL_law_11 0 rfl rfl)
theorem dL_law_327 : decode cL_law 327 = .ok (.aload_n 1, 1) := dk_43 (dk_at dksL_law_11 1 rfl rfl)
theorem dL_law_328 : decode cL_law 328 = .ok (.invokevirtual 47, 3) := dk_182 0 47 (dk_at dksL_law_11 2 rfl rfl)
theorem dL_law_331 : decode cL_law 331 = .ok (.aload_n 2, 1) := dk_44 (dk_at dksL_law_11 5 rfl rfl)
theorem dL_law_332 : decode cL_law 332 = .ok (.invokevirtual 50, 3) := dk_182 0 50 (dk_at dksL_law_11 6 rfl rfl)
theorem dL_law_335 : decode cL_law 335 = .ok (.if_icmp .eq 358, 3) := dk_159 1 102 (dk_at dksL_law_11 9 rfl rfl)
theorem dL_law_338 : decode cL_law 338 = .ok (.iconst 0, 1) := dk_3 (dk_at dksL_law_11 12 rfl rfl)
theorem dL_law_339 : decode cL_law 339 = .ok (.ireturn, 1) := dk_172 (dk_at dksL_law_11 13 rfl rfl)
theorem dL_law_340 : decode cL_law 340 = .ok (.aload_n 1, 1) := dk_43 (dk_at dksL_law_11 14 rfl rfl)
theorem dL_law_341 : decode cL_law 341 = .ok (.aload_n 0, 1) := dk_42 (dk_at dksL_law_11 15 rfl rfl)
theorem dL_law_342 : decode cL_law 342 = .ok (.iload_n 3, 1) := dk_29 (dk_at dksL_law_11 16 rfl rfl)
theorem dL_law_343 : decode cL_law 343 = .ok (.iconst 1, 1) := dk_4 (dk_at dksL_law_11 17 rfl rfl)
theorem dL_law_344 : decode cL_law 344 = .ok (.iadd, 1) := dk_96 (dk_at dksL_law_11 18 rfl rfl)
theorem dL_law_345 : decode cL_law 345 = .ok (.iaload, 1) := dk_46 (dk_at dksL_law_11 19 rfl rfl)
theorem dL_law_346 : decode cL_law 346 = .ok (.aload_n 0, 1) := dk_42 (dk_at dksL_law_11 20 rfl rfl)
theorem dL_law_347 : decode cL_law 347 = .ok (.iload_n 3, 1) := dk_29 (dk_at dksL_law_11 21 rfl rfl)
theorem dL_law_348 : decode cL_law 348 = .ok (.iconst 2, 1) := dk_5 (dk_at dksL_law_11 22 rfl rfl)
theorem dL_law_349 : decode cL_law 349 = .ok (.iadd, 1) := dk_96 (dk_at dksL_law_11 23 rfl rfl)
theorem dL_law_350 : decode cL_law 350 = .ok (.iaload, 1) := dk_46 (dk_at dksL_law_12 0 rfl rfl)
theorem dL_law_351 : decode cL_law 351 = .ok (.aload_n 0, 1) := dk_42 (dk_at dksL_law_12 1 rfl rfl)
theorem dL_law_352 : decode cL_law 352 = .ok (.iload_n 3, 1) := dk_29 (dk_at dksL_law_12 2 rfl rfl)
theorem dL_law_353 : decode cL_law 353 = .ok (.iconst 3, 1) := dk_6 (dk_at dksL_law_12 3 rfl rfl)
theorem dL_law_354 : decode cL_law 354 = .ok (.iadd, 1) := dk_96 (dk_at dksL_law_12 4 rfl rfl)
theorem dL_law_355 : decode cL_law 355 = .ok (.iaload, 1) := dk_46 (dk_at dksL_law_12 5 rfl rfl)
theorem dL_law_356 : decode cL_law 356 = .ok (.invokevirtual 51, 3) := dk_182 0 51 (dk_at dksL_law_12 6 rfl rfl)
theorem dL_law_359 : decode cL_law 359 = .ok (.aload_n 2, 1) := dk_44 (dk_at dksL_law_12 9 rfl rfl)
theorem dL_law_360 : decode cL_law 360 = .ok (.aload_n 0, 1) := dk_42 (dk_at dksL_law_12 10 rfl rfl)
theorem dL_law_361 : decode cL_law 361 = .ok (.iload_n 3, 1) := dk_29 (dk_at dksL_law_12 11 rfl rfl)
theorem dL_law_362 : decode cL_law 362 = .ok (.iconst 1, 1) := dk_4 (dk_at dksL_law_12 12 rfl rfl)
theorem dL_law_363 : decode cL_law 363 = .ok (.iadd, 1) := dk_96 (dk_at dksL_law_12 13 rfl rfl)
theorem dL_law_364 : decode cL_law 364 = .ok (.iaload, 1) := dk_46 (dk_at dksL_law_12 14 rfl rfl)
theorem dL_law_365 : decode cL_law 365 = .ok (.aload_n 0, 1) := dk_42 (dk_at dksL_law_12 15 rfl rfl)
theorem dL_law_366 : decode cL_law 366 = .ok (.iload_n 3, 1) := dk_29 (dk_at dksL_law_12 16 rfl rfl)
theorem dL_law_367 : decode cL_law 367 = .ok (.iconst 2, 1) := dk_5 (dk_at dksL_law_12 17 rfl rfl)
theorem dL_law_368 : decode cL_law 368 = .ok (.iadd, 1) := dk_96 (dk_at dksL_law_12 18 rfl rfl)
theorem dL_law_369 : decode cL_law 369 = .ok (.iaload, 1) := dk_46 (dk_at dksL_law_12 19 rfl rfl)
theorem dL_law_370 : decode cL_law 370 = .ok (.aload_n 0, 1) := dk_42 (dk_at dksL_law_12 20 rfl rfl)
theorem dL_law_371 : decode cL_law 371 = .ok (.iload_n 3, 1) := dk_29 (dk_at dksL_law_12 21 rfl rfl)
theorem dL_law_372 : decode cL_law 372 = .ok (.iconst 3, 1) := dk_6 (dk_at dksL_law_12 22 rfl rfl)
theorem dL_law_373 : decode cL_law 373 = .ok (.iadd, 1) := dk_96 (dk_at dksL_law_12 23 rfl rfl)
theorem dL_law_374 : decode cL_law 374 = .ok (.iaload, 1) := dk_46 (dk_at dksL_law_13 0 rfl rfl)
theorem dL_law_375 : decode cL_law 375 = .ok (.invokevirtual 55, 3) := dk_182 0 55 (dk_at dksL_law_13 1 rfl rfl)
theorem dL_law_378 : decode cL_law 378 = .ok (.if_icmp .eq 315, 3) := dk_159 1 59 (dk_at dksL_law_13 4 rfl rfl)
theorem dL_law_381 : decode cL_law 381 = .ok (.iconst 0, 1) := dk_3 (dk_at dksL_law_13 7 rfl rfl)
theorem dL_law_382 : decode cL_law 382 = .ok (.ireturn, 1) := dk_172 (dk_at dksL_law_13 8 rfl rfl)
theorem dL_law_383 : decode cL_law 383 = .ok (.aload_n 1, 1) := dk_43 (dk_at dksL_law_13 9 rfl rfl)
theorem dL_law_384 : decode cL_law 384 = .ok (.aload_n 0, 1) := dk_42 (dk_at dksL_law_13 10 rfl rfl)
theorem dL_law_385 : decode cL_law 385 = .ok (.iload_n 3, 1) := dk_29 (dk_at dksL_law_13 11 rfl rfl)
theorem dL_law_386 : decode cL_law 386 = .ok (.iconst 1, 1) := dk_4 (dk_at dksL_law_13 12 rfl rfl)
theorem dL_law_387 : decode cL_law 387 = .ok (.iadd, 1) := dk_96 (dk_at dksL_law_13 13 rfl rfl)
theorem dL_law_388 : decode cL_law 388 = .ok (.iaload, 1) := dk_46 (dk_at dksL_law_13 14 rfl rfl)
theorem dL_law_389 : decode cL_law 389 = .ok (.invokevirtual 56, 3) := dk_182 0 56 (dk_at dksL_law_13 15 rfl rfl)
theorem dL_law_392 : decode cL_law 392 = .ok (.aload_n 2, 1) := dk_44 (dk_at dksL_law_13 18 rfl rfl)
theorem dL_law_393 : decode cL_law 393 = .ok (.aload_n 0, 1) := dk_42 (dk_at dksL_law_13 19 rfl rfl)
theorem dL_law_394 : decode cL_law 394 = .ok (.iload_n 3, 1) := dk_29 (dk_at dksL_law_13 20 rfl rfl)
theorem dL_law_395 : decode cL_law 395 = .ok (.iconst 1, 1) := dk_4 (dk_at dksL_law_13 21 rfl rfl)
theorem dL_law_396 : decode cL_law 396 = .ok (.iadd, 1) := dk_96 (dk_at dksL_law_13 22 rfl rfl)
theorem dL_law_397 : decode cL_law 397 = .ok (.iaload, 1) := dk_46 (dk_at dksL_law_13 23 rfl rfl)
theorem dL_law_398 : decode cL_law 398 = .ok (.invokevirtual 59, 3) := dk_182 0 59 (dk_at dksL_law_14 0 rfl rfl)
theorem dL_law_401 : decode cL_law 401 = .ok (.if_icmp .eq 292, 3) := dk_159 1 36 (dk_at dksL_law_14 3 rfl rfl)
theorem dL_law_404 : decode cL_law 404 = .ok (.iconst 0, 1) := dk_3 (dk_at dksL_law_14 6 rfl rfl)
theorem dL_law_405 : decode cL_law 405 = .ok (.ireturn, 1) := dk_172 (dk_at dksL_law_14 7 rfl rfl)
theorem dL_law_406 : decode cL_law 406 = .ok (.aload_n 1, 1) := dk_43 (dk_at dksL_law_14 8 rfl rfl)
theorem dL_law_407 : decode cL_law 407 = .ok (.aload_n 0, 1) := dk_42 (dk_at dksL_law_14 9 rfl rfl)
theorem dL_law_408 : decode cL_law 408 = .ok (.iload_n 3, 1) := dk_29 (dk_at dksL_law_14 10 rfl rfl)
theorem dL_law_409 : decode cL_law 409 = .ok (.iconst 1, 1) := dk_4 (dk_at dksL_law_14 11 rfl rfl)
theorem dL_law_410 : decode cL_law 410 = .ok (.iadd, 1) := dk_96 (dk_at dksL_law_14 12 rfl rfl)
theorem dL_law_411 : decode cL_law 411 = .ok (.iaload, 1) := dk_46 (dk_at dksL_law_14 13 rfl rfl)
theorem dL_law_412 : decode cL_law 412 = .ok (.invokevirtual 60, 3) := dk_182 0 60 (dk_at dksL_law_14 14 rfl rfl)
theorem dL_law_415 : decode cL_law 415 = .ok (.aload_n 2, 1) := dk_44 (dk_at dksL_law_14 17 rfl rfl)
theorem dL_law_416 : decode cL_law 416 = .ok (.aload_n 0, 1) := dk_42 (dk_at dksL_law_14 18 rfl rfl)
theorem dL_law_417 : decode cL_law 417 = .ok (.iload_n 3, 1) := dk_29 (dk_at dksL_law_14 19 rfl rfl)
theorem dL_law_418 : decode cL_law 418 = .ok (.iconst 1, 1) := dk_4 (dk_at dksL_law_14 20 rfl rfl)
theorem dL_law_419 : decode cL_law 419 = .ok (.iadd, 1) := dk_96 (dk_at dksL_law_14 21 rfl rfl)
theorem dL_law_420 : decode cL_law 420 = .ok (.iaload, 1) := dk_46 (dk_at dksL_law_14 22 rfl rfl)
theorem dL_law_421 : decode cL_law 421 = .ok (.invokevirtual 63, 3) := dk_182 0 63 (dk_at dksL_law_15 0 rfl rfl)
theorem dL_law_424 : decode cL_law 424 = .ok (.if_icmp .eq 269, 3) := dk_159 1 13 (dk_at dksL_law_15 3 rfl rfl)
theorem dL_law_427 : decode cL_law 427 = .ok (.iconst 0, 1) := dk_3 (dk_at dksL_law_15 6 rfl rfl)
theorem dL_law_428 : decode cL_law 428 = .ok (.ireturn, 1) := dk_172 (dk_at dksL_law_15 7 rfl rfl)
theorem dL_law_429 : decode cL_law 429 = .ok (.aload_n 1, 1) := dk_43 (dk_at dksL_law_15 8 rfl rfl)
theorem dL_law_430 : decode cL_law 430 = .ok (.aload_n 0, 1) := dk_42 (dk_at dksL_law_15 9 rfl rfl)
theorem dL_law_431 : decode cL_law 431 = .ok (.iload_n 3, 1) := dk_29 (dk_at dksL_law_15 10 rfl rfl)
theorem dL_law_432 : decode cL_law 432 = .ok (.iconst 1, 1) := dk_4 (dk_at dksL_law_15 11 rfl rfl)
theorem dL_law_433 : decode cL_law 433 = .ok (.iadd, 1) := dk_96 (dk_at dksL_law_15 12 rfl rfl)
theorem dL_law_434 : decode cL_law 434 = .ok (.iaload, 1) := dk_46 (dk_at dksL_law_15 13 rfl rfl)
theorem dL_law_435 : decode cL_law 435 = .ok (.invokevirtual 64, 3) := dk_182 0 64 (dk_at dksL_law_15 14 rfl rfl)
theorem dL_law_438 : decode cL_law 438 = .ok (.aload_n 2, 1) := dk_44 (dk_at dksL_law_15 17 rfl rfl)
theorem dL_law_439 : decode cL_law 439 = .ok (.aload_n 0, 1) := dk_42 (dk_at dksL_law_15 18 rfl rfl)
theorem dL_law_440 : decode cL_law 440 = .ok (.iload_n 3, 1) := dk_29 (dk_at dksL_law_15 19 rfl rfl)
theorem dL_law_441 : decode cL_law 441 = .ok (.iconst 1, 1) := dk_4 (dk_at dksL_law_15 20 rfl rfl)
theorem dL_law_442 : decode cL_law 442 = .ok (.iadd, 1) := dk_96 (dk_at dksL_law_15 21 rfl rfl)
theorem dL_law_443 : decode cL_law 443 = .ok (.iaload, 1) := dk_46 (dk_at dksL_law_15 22 rfl rfl)
theorem dL_law_444 : decode cL_law 444 = .ok (.invokevirtual 67, 3) := dk_182 0 67 (dk_at dksL_law_16 0 rfl rfl)
theorem dL_law_447 : decode cL_law 447 = .ok (.if_icmp .eq 246, 3) := dk_159 0 246 (dk_at dksL_law_16 3 rfl rfl)
theorem dL_law_450 : decode cL_law 450 = .ok (.iconst 0, 1) := dk_3 (dk_at dksL_law_16 6 rfl rfl)
theorem dL_law_451 : decode cL_law 451 = .ok (.ireturn, 1) := dk_172 (dk_at dksL_law_16 7 rfl rfl)
theorem dL_law_452 : decode cL_law 452 = .ok (.aload_n 1, 1) := dk_43 (dk_at dksL_law_16 8 rfl rfl)
theorem dL_law_453 : decode cL_law 453 = .ok (.aload_n 0, 1) := dk_42 (dk_at dksL_law_16 9 rfl rfl)
theorem dL_law_454 : decode cL_law 454 = .ok (.iload_n 3, 1) := dk_29 (dk_at dksL_law_16 10 rfl rfl)
theorem dL_law_455 : decode cL_law 455 = .ok (.iconst 1, 1) := dk_4 (dk_at dksL_law_16 11 rfl rfl)
theorem dL_law_456 : decode cL_law 456 = .ok (.iadd, 1) := dk_96 (dk_at dksL_law_16 12 rfl rfl)
theorem dL_law_457 : decode cL_law 457 = .ok (.iaload, 1) := dk_46 (dk_at dksL_law_16 13 rfl rfl)
theorem dL_law_458 : decode cL_law 458 = .ok (.invokevirtual 68, 3) := dk_182 0 68 (dk_at dksL_law_16 14 rfl rfl)
theorem dL_law_461 : decode cL_law 461 = .ok (.aload_n 2, 1) := dk_44 (dk_at dksL_law_16 17 rfl rfl)
theorem dL_law_462 : decode cL_law 462 = .ok (.aload_n 0, 1) := dk_42 (dk_at dksL_law_16 18 rfl rfl)
theorem dL_law_463 : decode cL_law 463 = .ok (.iload_n 3, 1) := dk_29 (dk_at dksL_law_16 19 rfl rfl)
theorem dL_law_464 : decode cL_law 464 = .ok (.iconst 1, 1) := dk_4 (dk_at dksL_law_16 20 rfl rfl)
theorem dL_law_465 : decode cL_law 465 = .ok (.iadd, 1) := dk_96 (dk_at dksL_law_16 21 rfl rfl)
theorem dL_law_466 : decode cL_law 466 = .ok (.iaload, 1) := dk_46 (dk_at dksL_law_16 22 rfl rfl)
theorem dL_law_467 : decode cL_law 467 = .ok (.invokevirtual 71, 3) := dk_182 0 71 (dk_at dksL_law_17 0 rfl rfl)
theorem dL_law_470 : decode cL_law 470 = .ok (.if_icmp .eq 223, 3) := dk_159 0 223 (dk_at dksL_law_17 3 rfl rfl)
theorem dL_law_473 : decode cL_law 473 = .ok (.iconst 0, 1) := dk_3 (dk_at dksL_law_17 6 rfl rfl)
theorem dL_law_474 : decode cL_law 474 = .ok (.ireturn, 1) := dk_172 (dk_at dksL_law_17 7 rfl rfl)
theorem dL_law_475 : decode cL_law 475 = .ok (.aload_n 1, 1) := dk_43 (dk_at dksL_law_17 8 rfl rfl)
theorem dL_law_476 : decode cL_law 476 = .ok (.aload_n 0, 1) := dk_42 (dk_at dksL_law_17 9 rfl rfl)
theorem dL_law_477 : decode cL_law 477 = .ok (.iload_n 3, 1) := dk_29 (dk_at dksL_law_17 10 rfl rfl)
theorem dL_law_478 : decode cL_law 478 = .ok (.iconst 1, 1) := dk_4 (dk_at dksL_law_17 11 rfl rfl)
theorem dL_law_479 : decode cL_law 479 = .ok (.iadd, 1) := dk_96 (dk_at dksL_law_17 12 rfl rfl)
theorem dL_law_480 : decode cL_law 480 = .ok (.iaload, 1) := dk_46 (dk_at dksL_law_17 13 rfl rfl)
theorem dL_law_481 : decode cL_law 481 = .ok (.invokevirtual 72, 3) := dk_182 0 72 (dk_at dksL_law_17 14 rfl rfl)
theorem dL_law_484 : decode cL_law 484 = .ok (.aload_n 2, 1) := dk_44 (dk_at dksL_law_17 17 rfl rfl)
theorem dL_law_485 : decode cL_law 485 = .ok (.aload_n 0, 1) := dk_42 (dk_at dksL_law_17 18 rfl rfl)
theorem dL_law_486 : decode cL_law 486 = .ok (.iload_n 3, 1) := dk_29 (dk_at dksL_law_17 19 rfl rfl)
theorem dL_law_487 : decode cL_law 487 = .ok (.iconst 1, 1) := dk_4 (dk_at dksL_law_17 20 rfl rfl)
theorem dL_law_488 : decode cL_law 488 = .ok (.iadd, 1) := dk_96 (dk_at dksL_law_17 21 rfl rfl)
theorem dL_law_489 : decode cL_law 489 = .ok (.iaload, 1) := dk_46 (dk_at dksL_law_17 22 rfl rfl)
theorem dL_law_490 : decode cL_law 490 = .ok (.invokevirtual 75, 3) := dk_182 0 75 (dk_at dksL_law_18 0 rfl rfl)
theorem dL_law_493 : decode cL_law 493 = .ok (.if_icmp .eq 200, 3) := dk_159 0 200 (dk_at dksL_law_18 3 rfl rfl)
theorem dL_law_496 : decode cL_law 496 = .ok (.iconst 0, 1) := dk_3 (dk_at dksL_law_18 6 rfl rfl)
theorem dL_law_497 : decode cL_law 497 = .ok (.ireturn, 1) := dk_172 (dk_at dksL_law_18 7 rfl rfl)
theorem dL_law_498 : decode cL_law 498 = .ok (.aload_n 1, 1) := dk_43 (dk_at dksL_law_18 8 rfl rfl)
theorem dL_law_499 : decode cL_law 499 = .ok (.aload_n 0, 1) := dk_42 (dk_at dksL_law_18 9 rfl rfl)
theorem dL_law_500 : decode cL_law 500 = .ok (.iload_n 3, 1) := dk_29 (dk_at dksL_law_18 10 rfl rfl)
theorem dL_law_501 : decode cL_law 501 = .ok (.iconst 1, 1) := dk_4 (dk_at dksL_law_18 11 rfl rfl)
theorem dL_law_502 : decode cL_law 502 = .ok (.iadd, 1) := dk_96 (dk_at dksL_law_18 12 rfl rfl)
theorem dL_law_503 : decode cL_law 503 = .ok (.iaload, 1) := dk_46 (dk_at dksL_law_18 13 rfl rfl)
theorem dL_law_504 : decode cL_law 504 = .ok (.invokevirtual 76, 3) := dk_182 0 76 (dk_at dksL_law_18 14 rfl rfl)
theorem dL_law_507 : decode cL_law 507 = .ok (.aload_n 2, 1) := dk_44 (dk_at dksL_law_18 17 rfl rfl)
theorem dL_law_508 : decode cL_law 508 = .ok (.aload_n 0, 1) := dk_42 (dk_at dksL_law_18 18 rfl rfl)
theorem dL_law_509 : decode cL_law 509 = .ok (.iload_n 3, 1) := dk_29 (dk_at dksL_law_18 19 rfl rfl)
theorem dL_law_510 : decode cL_law 510 = .ok (.iconst 1, 1) := dk_4 (dk_at dksL_law_18 20 rfl rfl)
theorem dL_law_511 : decode cL_law 511 = .ok (.iadd, 1) := dk_96 (dk_at dksL_law_18 21 rfl rfl)
theorem dL_law_512 : decode cL_law 512 = .ok (.iaload, 1) := dk_46 (dk_at dksL_law_18 22 rfl rfl)
theorem dL_law_513 : decode cL_law 513 = .ok (.invokevirtual 79, 3) := dk_182 0 79 (dk_at dksL_law_19 0 rfl rfl)
theorem dL_law_516 : decode cL_law 516 = .ok (.if_icmp .eq 177, 3) := dk_159 0 177 (dk_at dksL_law_19 3 rfl rfl)
theorem dL_law_519 : decode cL_law 519 = .ok (.iconst 0, 1) := dk_3 (dk_at dksL_law_19 6 rfl rfl)
theorem dL_law_520 : decode cL_law 520 = .ok (.ireturn, 1) := dk_172 (dk_at dksL_law_19 7 rfl rfl)
theorem dL_law_521 : decode cL_law 521 = .ok (.aload_n 1, 1) := dk_43 (dk_at dksL_law_19 8 rfl rfl)
theorem dL_law_522 : decode cL_law 522 = .ok (.aload_n 0, 1) := dk_42 (dk_at dksL_law_19 9 rfl rfl)
theorem dL_law_523 : decode cL_law 523 = .ok (.iload_n 3, 1) := dk_29 (dk_at dksL_law_19 10 rfl rfl)
theorem dL_law_524 : decode cL_law 524 = .ok (.iconst 1, 1) := dk_4 (dk_at dksL_law_19 11 rfl rfl)
theorem dL_law_525 : decode cL_law 525 = .ok (.iadd, 1) := dk_96 (dk_at dksL_law_19 12 rfl rfl)
theorem dL_law_526 : decode cL_law 526 = .ok (.iaload, 1) := dk_46 (dk_at dksL_law_19 13 rfl rfl)
theorem dL_law_527 : decode cL_law 527 = .ok (.invokevirtual 80, 3) := dk_182 0 80 (dk_at dksL_law_19 14 rfl rfl)
theorem dL_law_530 : decode cL_law 530 = .ok (.aload_n 2, 1) := dk_44 (dk_at dksL_law_19 17 rfl rfl)
theorem dL_law_531 : decode cL_law 531 = .ok (.aload_n 0, 1) := dk_42 (dk_at dksL_law_19 18 rfl rfl)
theorem dL_law_532 : decode cL_law 532 = .ok (.iload_n 3, 1) := dk_29 (dk_at dksL_law_19 19 rfl rfl)
theorem dL_law_533 : decode cL_law 533 = .ok (.iconst 1, 1) := dk_4 (dk_at dksL_law_19 20 rfl rfl)
theorem dL_law_534 : decode cL_law 534 = .ok (.iadd, 1) := dk_96 (dk_at dksL_law_19 21 rfl rfl)
theorem dL_law_535 : decode cL_law 535 = .ok (.iaload, 1) := dk_46 (dk_at dksL_law_19 22 rfl rfl)
theorem dL_law_536 : decode cL_law 536 = .ok (.invokevirtual 83, 3) := dk_182 0 83 (dk_at dksL_law_20 0 rfl rfl)
theorem dL_law_539 : decode cL_law 539 = .ok (.if_icmp .eq 154, 3) := dk_159 0 154 (dk_at dksL_law_20 3 rfl rfl)
theorem dL_law_542 : decode cL_law 542 = .ok (.iconst 0, 1) := dk_3 (dk_at dksL_law_20 6 rfl rfl)
theorem dL_law_543 : decode cL_law 543 = .ok (.ireturn, 1) := dk_172 (dk_at dksL_law_20 7 rfl rfl)
theorem dL_law_544 : decode cL_law 544 = .ok (.aload_n 1, 1) := dk_43 (dk_at dksL_law_20 8 rfl rfl)
theorem dL_law_545 : decode cL_law 545 = .ok (.aload_n 0, 1) := dk_42 (dk_at dksL_law_20 9 rfl rfl)
theorem dL_law_546 : decode cL_law 546 = .ok (.iload_n 3, 1) := dk_29 (dk_at dksL_law_20 10 rfl rfl)
theorem dL_law_547 : decode cL_law 547 = .ok (.iconst 1, 1) := dk_4 (dk_at dksL_law_20 11 rfl rfl)
theorem dL_law_548 : decode cL_law 548 = .ok (.iadd, 1) := dk_96 (dk_at dksL_law_20 12 rfl rfl)
theorem dL_law_549 : decode cL_law 549 = .ok (.iaload, 1) := dk_46 (dk_at dksL_law_20 13 rfl rfl)
theorem dL_law_550 : decode cL_law 550 = .ok (.aload_n 0, 1) := dk_42 (dk_at dksL_law_20 14 rfl rfl)
theorem dL_law_551 : decode cL_law 551 = .ok (.iload_n 3, 1) := dk_29 (dk_at dksL_law_20 15 rfl rfl)
theorem dL_law_552 : decode cL_law 552 = .ok (.iconst 2, 1) := dk_5 (dk_at dksL_law_20 16 rfl rfl)
theorem dL_law_553 : decode cL_law 553 = .ok (.iadd, 1) := dk_96 (dk_at dksL_law_20 17 rfl rfl)
theorem dL_law_554 : decode cL_law 554 = .ok (.iaload, 1) := dk_46 (dk_at dksL_law_20 18 rfl rfl)
theorem dL_law_555 : decode cL_law 555 = .ok (.invokevirtual 84, 3) := dk_182 0 84 (dk_at dksL_law_20 19 rfl rfl)
theorem dL_law_558 : decode cL_law 558 = .ok (.aload_n 2, 1) := dk_44 (dk_at dksL_law_20 22 rfl rfl)
theorem dL_law_559 : decode cL_law 559 = .ok (.aload_n 0, 1) := dk_42 (dk_at dksL_law_20 23 rfl rfl)
theorem dL_law_560 : decode cL_law 560 = .ok (.iload_n 3, 1) := dk_29 (dk_at dksL_law_21 0 rfl rfl)
theorem dL_law_561 : decode cL_law 561 = .ok (.iconst 1, 1) := dk_4 (dk_at dksL_law_21 1 rfl rfl)
theorem dL_law_562 : decode cL_law 562 = .ok (.iadd, 1) := dk_96 (dk_at dksL_law_21 2 rfl rfl)
theorem dL_law_563 : decode cL_law 563 = .ok (.iaload, 1) := dk_46 (dk_at dksL_law_21 3 rfl rfl)
theorem dL_law_564 : decode cL_law 564 = .ok (.aload_n 0, 1) := dk_42 (dk_at dksL_law_21 4 rfl rfl)
theorem dL_law_565 : decode cL_law 565 = .ok (.iload_n 3, 1) := dk_29 (dk_at dksL_law_21 5 rfl rfl)
theorem dL_law_566 : decode cL_law 566 = .ok (.iconst 2, 1) := dk_5 (dk_at dksL_law_21 6 rfl rfl)
theorem dL_law_567 : decode cL_law 567 = .ok (.iadd, 1) := dk_96 (dk_at dksL_law_21 7 rfl rfl)
theorem dL_law_568 : decode cL_law 568 = .ok (.iaload, 1) := dk_46 (dk_at dksL_law_21 8 rfl rfl)
theorem dL_law_569 : decode cL_law 569 = .ok (.invokevirtual 87, 3) := dk_182 0 87 (dk_at dksL_law_21 9 rfl rfl)
theorem dL_law_572 : decode cL_law 572 = .ok (.if_icmp .eq 121, 3) := dk_159 0 121 (dk_at dksL_law_21 12 rfl rfl)
theorem dL_law_575 : decode cL_law 575 = .ok (.iconst 0, 1) := dk_3 (dk_at dksL_law_21 15 rfl rfl)
theorem dL_law_576 : decode cL_law 576 = .ok (.ireturn, 1) := dk_172 (dk_at dksL_law_21 16 rfl rfl)
theorem dL_law_577 : decode cL_law 577 = .ok (.aload_n 1, 1) := dk_43 (dk_at dksL_law_21 17 rfl rfl)
theorem dL_law_578 : decode cL_law 578 = .ok (.invokevirtual 88, 3) := dk_182 0 88 (dk_at dksL_law_21 18 rfl rfl)
theorem dL_law_581 : decode cL_law 581 = .ok (.aload_n 2, 1) := dk_44 (dk_at dksL_law_21 21 rfl rfl)
theorem dL_law_582 : decode cL_law 582 = .ok (.invokevirtual 91, 3) := dk_182 0 91 (dk_at dksL_law_22 0 rfl rfl)
theorem dL_law_585 : decode cL_law 585 = .ok (.if_icmp .eq 108, 3) := dk_159 0 108 (dk_at dksL_law_22 3 rfl rfl)
theorem dL_law_588 : decode cL_law 588 = .ok (.iconst 0, 1) := dk_3 (dk_at dksL_law_22 6 rfl rfl)
theorem dL_law_589 : decode cL_law 589 = .ok (.ireturn, 1) := dk_172 (dk_at dksL_law_22 7 rfl rfl)
theorem dL_law_590 : decode cL_law 590 = .ok (.aload_n 1, 1) := dk_43 (dk_at dksL_law_22 8 rfl rfl)
theorem dL_law_591 : decode cL_law 591 = .ok (.invokevirtual 92, 3) := dk_182 0 92 (dk_at dksL_law_22 9 rfl rfl)
theorem dL_law_594 : decode cL_law 594 = .ok (.aload_n 2, 1) := dk_44 (dk_at dksL_law_22 12 rfl rfl)
theorem dL_law_595 : decode cL_law 595 = .ok (.invokevirtual 95, 3) := dk_182 0 95 (dk_at dksL_law_22 13 rfl rfl)
theorem dL_law_598 : decode cL_law 598 = .ok (.if_icmp .eq 95, 3) := dk_159 0 95 (dk_at dksL_law_22 16 rfl rfl)
theorem dL_law_601 : decode cL_law 601 = .ok (.iconst 0, 1) := dk_3 (dk_at dksL_law_22 19 rfl rfl)
theorem dL_law_602 : decode cL_law 602 = .ok (.ireturn, 1) := dk_172 (dk_at dksL_law_22 20 rfl rfl)
theorem dL_law_603 : decode cL_law 603 = .ok (.aload_n 1, 1) := dk_43 (dk_at dksL_law_22 21 rfl rfl)
theorem dL_law_604 : decode cL_law 604 = .ok (.invokevirtual 96, 3) := dk_182 0 96 (dk_at dksL_law_23 0 rfl rfl)
theorem dL_law_607 : decode cL_law 607 = .ok (.aload_n 2, 1) := dk_44 (dk_at dksL_law_23 3 rfl rfl)
theorem dL_law_608 : decode cL_law 608 = .ok (.invokevirtual 99, 3) := dk_182 0 99 (dk_at dksL_law_23 4 rfl rfl)
theorem dL_law_611 : decode cL_law 611 = .ok (.if_icmp .eq 82, 3) := dk_159 0 82 (dk_at dksL_law_23 7 rfl rfl)
theorem dL_law_614 : decode cL_law 614 = .ok (.iconst 0, 1) := dk_3 (dk_at dksL_law_23 10 rfl rfl)
theorem dL_law_615 : decode cL_law 615 = .ok (.ireturn, 1) := dk_172 (dk_at dksL_law_23 11 rfl rfl)
theorem dL_law_616 : decode cL_law 616 = .ok (.aload_n 1, 1) := dk_43 (dk_at dksL_law_23 12 rfl rfl)
theorem dL_law_617 : decode cL_law 617 = .ok (.aload_n 0, 1) := dk_42 (dk_at dksL_law_23 13 rfl rfl)
theorem dL_law_618 : decode cL_law 618 = .ok (.iload_n 3, 1) := dk_29 (dk_at dksL_law_23 14 rfl rfl)
theorem dL_law_619 : decode cL_law 619 = .ok (.iconst 1, 1) := dk_4 (dk_at dksL_law_23 15 rfl rfl)
theorem dL_law_620 : decode cL_law 620 = .ok (.iadd, 1) := dk_96 (dk_at dksL_law_23 16 rfl rfl)
theorem dL_law_621 : decode cL_law 621 = .ok (.iaload, 1) := dk_46 (dk_at dksL_law_23 17 rfl rfl)
theorem dL_law_622 : decode cL_law 622 = .ok (.aload_n 0, 1) := dk_42 (dk_at dksL_law_23 18 rfl rfl)
theorem dL_law_623 : decode cL_law 623 = .ok (.iload_n 3, 1) := dk_29 (dk_at dksL_law_23 19 rfl rfl)
theorem dL_law_624 : decode cL_law 624 = .ok (.iconst 2, 1) := dk_5 (dk_at dksL_law_23 20 rfl rfl)
theorem dL_law_625 : decode cL_law 625 = .ok (.iadd, 1) := dk_96 (dk_at dksL_law_23 21 rfl rfl)
theorem dL_law_626 : decode cL_law 626 = .ok (.iaload, 1) := dk_46 (dk_at dksL_law_23 22 rfl rfl)
theorem dL_law_627 : decode cL_law 627 = .ok (.aload_n 0, 1) := dk_42 (dk_at dksL_law_23 23 rfl rfl)
theorem dL_law_628 : decode cL_law 628 = .ok (.iload_n 3, 1) := dk_29 (dk_at dksL_law_24 0 rfl rfl)
theorem dL_law_629 : decode cL_law 629 = .ok (.iconst 3, 1) := dk_6 (dk_at dksL_law_24 1 rfl rfl)
theorem dL_law_630 : decode cL_law 630 = .ok (.iadd, 1) := dk_96 (dk_at dksL_law_24 2 rfl rfl)
theorem dL_law_631 : decode cL_law 631 = .ok (.iaload, 1) := dk_46 (dk_at dksL_law_24 3 rfl rfl)
theorem dL_law_632 : decode cL_law 632 = .ok (.aload_n 0, 1) := dk_42 (dk_at dksL_law_24 4 rfl rfl)
theorem dL_law_633 : decode cL_law 633 = .ok (.iload_n 3, 1) := dk_29 (dk_at dksL_law_24 5 rfl rfl)
theorem dL_law_634 : decode cL_law 634 = .ok (.iconst 4, 1) := dk_7 (dk_at dksL_law_24 6 rfl rfl)
theorem dL_law_635 : decode cL_law 635 = .ok (.iadd, 1) := dk_96 (dk_at dksL_law_24 7 rfl rfl)
theorem dL_law_636 : decode cL_law 636 = .ok (.iaload, 1) := dk_46 (dk_at dksL_law_24 8 rfl rfl)
theorem dL_law_637 : decode cL_law 637 = .ok (.invokevirtual 100, 3) := dk_182 0 100 (dk_at dksL_law_24 9 rfl rfl)
theorem dL_law_640 : decode cL_law 640 = .ok (.aload_n 2, 1) := dk_44 (dk_at dksL_law_24 12 rfl rfl)
theorem dL_law_641 : decode cL_law 641 = .ok (.aload_n 0, 1) := dk_42 (dk_at dksL_law_24 13 rfl rfl)
theorem dL_law_642 : decode cL_law 642 = .ok (.iload_n 3, 1) := dk_29 (dk_at dksL_law_24 14 rfl rfl)
theorem dL_law_643 : decode cL_law 643 = .ok (.iconst 1, 1) := dk_4 (dk_at dksL_law_24 15 rfl rfl)
theorem dL_law_644 : decode cL_law 644 = .ok (.iadd, 1) := dk_96 (dk_at dksL_law_24 16 rfl rfl)
theorem dL_law_645 : decode cL_law 645 = .ok (.iaload, 1) := dk_46 (dk_at dksL_law_24 17 rfl rfl)
theorem dL_law_646 : decode cL_law 646 = .ok (.aload_n 0, 1) := dk_42 (dk_at dksL_law_24 18 rfl rfl)
theorem dL_law_647 : decode cL_law 647 = .ok (.iload_n 3, 1) := dk_29 (dk_at dksL_law_24 19 rfl rfl)
theorem dL_law_648 : decode cL_law 648 = .ok (.iconst 2, 1) := dk_5 (dk_at dksL_law_24 20 rfl rfl)
theorem dL_law_649 : decode cL_law 649 = .ok (.iadd, 1) := dk_96 (dk_at dksL_law_24 21 rfl rfl)
theorem dL_law_650 : decode cL_law 650 = .ok (.iaload, 1) := dk_46 (dk_at dksL_law_24 22 rfl rfl)
theorem dL_law_651 : decode cL_law 651 = .ok (.aload_n 0, 1) := dk_42 (dk_at dksL_law_24 23 rfl rfl)
theorem dL_law_652 : decode cL_law 652 = .ok (.iload_n 3, 1) := dk_29 (dk_at dksL_law_25 0 rfl rfl)
theorem dL_law_653 : decode cL_law 653 = .ok (.iconst 3, 1) := dk_6 (dk_at dksL_law_25 1 rfl rfl)
theorem dL_law_654 : decode cL_law 654 = .ok (.iadd, 1) := dk_96 (dk_at dksL_law_25 2 rfl rfl)
theorem dL_law_655 : decode cL_law 655 = .ok (.iaload, 1) := dk_46 (dk_at dksL_law_25 3 rfl rfl)
theorem dL_law_656 : decode cL_law 656 = .ok (.aload_n 0, 1) := dk_42 (dk_at dksL_law_25 4 rfl rfl)
theorem dL_law_657 : decode cL_law 657 = .ok (.iload_n 3, 1) := dk_29 (dk_at dksL_law_25 5 rfl rfl)
theorem dL_law_658 : decode cL_law 658 = .ok (.iconst 4, 1) := dk_7 (dk_at dksL_law_25 6 rfl rfl)
theorem dL_law_659 : decode cL_law 659 = .ok (.iadd, 1) := dk_96 (dk_at dksL_law_25 7 rfl rfl)
theorem dL_law_660 : decode cL_law 660 = .ok (.iaload, 1) := dk_46 (dk_at dksL_law_25 8 rfl rfl)
theorem dL_law_661 : decode cL_law 661 = .ok (.invokevirtual 104, 3) := dk_182 0 104 (dk_at dksL_law_25 9 rfl rfl)
theorem dL_law_664 : decode cL_law 664 = .ok (.lcmp, 1) := dk_148 (dk_at dksL_law_25 12 rfl rfl)
theorem dL_law_665 : decode cL_law 665 = .ok (.ifCond .eq 28, 3) := dk_153 0 28 (dk_at dksL_law_25 13 rfl rfl)
theorem dL_law_668 : decode cL_law 668 = .ok (.iconst 0, 1) := dk_3 (dk_at dksL_law_25 16 rfl rfl)
theorem dL_law_669 : decode cL_law 669 = .ok (.ireturn, 1) := dk_172 (dk_at dksL_law_25 17 rfl rfl)
theorem dL_law_670 : decode cL_law 670 = .ok (.aload_n 1, 1) := dk_43 (dk_at dksL_law_25 18 rfl rfl)
theorem dL_law_671 : decode cL_law 671 = .ok (.aload_n 0, 1) := dk_42 (dk_at dksL_law_25 19 rfl rfl)
theorem dL_law_672 : decode cL_law 672 = .ok (.iload_n 3, 1) := dk_29 (dk_at dksL_law_25 20 rfl rfl)
theorem dL_law_673 : decode cL_law 673 = .ok (.iconst 1, 1) := dk_4 (dk_at dksL_law_25 21 rfl rfl)
theorem dL_law_674 : decode cL_law 674 = .ok (.iadd, 1) := dk_96 (dk_at dksL_law_25 22 rfl rfl)
theorem dL_law_675 : decode cL_law 675 = .ok (.iaload, 1) := dk_46 (dk_at dksL_law_25 23 rfl rfl)
theorem dL_law_676 : decode cL_law 676 = .ok (.invokevirtual 105, 3) := dk_182 0 105 (dk_at dksL_law_26 0 rfl rfl)
theorem dL_law_679 : decode cL_law 679 = .ok (.aload_n 2, 1) := dk_44 (dk_at dksL_law_26 3 rfl rfl)
theorem dL_law_680 : decode cL_law 680 = .ok (.aload_n 0, 1) := dk_42 (dk_at dksL_law_26 4 rfl rfl)
theorem dL_law_681 : decode cL_law 681 = .ok (.iload_n 3, 1) := dk_29 (dk_at dksL_law_26 5 rfl rfl)
theorem dL_law_682 : decode cL_law 682 = .ok (.iconst 1, 1) := dk_4 (dk_at dksL_law_26 6 rfl rfl)
theorem dL_law_683 : decode cL_law 683 = .ok (.iadd, 1) := dk_96 (dk_at dksL_law_26 7 rfl rfl)
theorem dL_law_684 : decode cL_law 684 = .ok (.iaload, 1) := dk_46 (dk_at dksL_law_26 8 rfl rfl)
theorem dL_law_685 : decode cL_law 685 = .ok (.invokevirtual 108, 3) := dk_182 0 108 (dk_at dksL_law_26 9 rfl rfl)
theorem dL_law_688 : decode cL_law 688 = .ok (.if_icmp .eq 5, 3) := dk_159 0 5 (dk_at dksL_law_26 12 rfl rfl)
theorem dL_law_691 : decode cL_law 691 = .ok (.iconst 0, 1) := dk_3 (dk_at dksL_law_26 15 rfl rfl)
theorem dL_law_692 : decode cL_law 692 = .ok (.ireturn, 1) := dk_172 (dk_at dksL_law_26 16 rfl rfl)
theorem dL_law_693 : decode cL_law 693 = .ok (.iinc 3 5, 3) := dk_132 3 5 (dk_at dksL_law_26 17 rfl rfl)
theorem dL_law_696 : decode cL_law 696 = .ok (.goto (-678), 3) := dk_167 253 90 (dk_at dksL_law_26 20 rfl rfl)
theorem dL_law_699 : decode cL_law 699 = .ok (.iconst 1, 1) := dk_4 (dk_at dksL_law_26 23 rfl rfl)
theorem dL_law_700 : decode cL_law 700 = .ok (.ireturn, 1) := dk_172 (dk_at dksL_law_27 0 rfl rfl)
