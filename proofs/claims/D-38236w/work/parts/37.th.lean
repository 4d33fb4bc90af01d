/-! ROW: new X() is thrown -/
set_option maxRecDepth 100000
def okW (w : Cond) : Bool := goodWord w || (match w with | .declares _ => true | .castable _ _ => true | .privateMethod _ => true | _ => false)
def exN : List String := ["java/lang/RuntimeException", "java/lang/Exception"]
theorem at_A : ∀ w ∈ vx_at0 "Versorhall" 3 "java/lang/IllegalArgumentException" exN, w ∈ lw_tbl := by decide +kernel
theorem at_S : ∀ w ∈ vx_at0 "Versorhall" 9 "java/lang/IllegalStateException" exN, w ∈ lw_tbl := by decide +kernel
theorem at_I : ∀ w ∈ vx_at0 "Versorhall" 12 "java/lang/IndexOutOfBoundsException" exN, w ∈ lw_tbl := by decide +kernel
