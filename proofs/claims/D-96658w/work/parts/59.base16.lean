/-! BASE 16: the words of the exceptions -/
def eR : List String := ["java/lang/RuntimeException", "java/lang/Exception"]
def eCCE : List Cond := vx_atM "java/lang/ClassCastException" eR
def eAIO : List Cond := vx_atM "java/lang/ArrayIndexOutOfBoundsException" ("java/lang/IndexOutOfBoundsException" :: eR)
def eNAS : List Cond := vx_atM "java/lang/NegativeArraySizeException" eR
def eNPE : List Cond := vx_atN 8
def eIAE : List Cond := vx_at0 "CakesToTheWatched" 349 "java/lang/IllegalArgumentException" eR
def eISE : List Cond := vx_at0 "CakesToTheWatched" 354 "java/lang/IllegalStateException" eR
/-- the words for the call of a super constructor (cls) of an exception of the class C7, which has 7 fields -/
def supAtoms (own : String) (ic : Nat) (C7 cls : String) (names : List String) : List Cond :=
  Bundle.throwableAtoms ++ Bundle.chain0Atoms cls names ++
  [.methodLink own ic (Bundle.init0 cls), .instantiable C7 7, .selects C7 Bundle.tFill0 Bundle.tFill0, .selects C7 Bundle.tFill Bundle.tFill,
   .lays C7 Bundle.tN "cause" "Ljava/lang/Throwable;", .lays C7 Bundle.tN "stackTrace" Bundle.steD, .lays C7 Bundle.tN "suppressedExceptions" Bundle.listD,
   .isRef (.static Bundle.tN "UNASSIGNED_STACK" Bundle.steD), .isRef (.static Bundle.tN "SUPPRESSED_SENTINEL" Bundle.listD),
   .fieldLink Bundle.tN 198 Bundle.tN "backtrace" "Ljava/lang/Object;", .lays Bundle.tN Bundle.tN "backtrace" "Ljava/lang/Object;", .lays C7 Bundle.tN "backtrace" "Ljava/lang/Object;"]
def eBrk : List Cond := (supAtoms "CakesToTheWatched$Broken" 1 "CakesToTheWatched$Broken" "java/lang/Exception" []).filter vx_no
def eTos : List Cond := (supAtoms "CakesToTheWatched$Tossed" 1 "CakesToTheWatched$Tossed" "java/lang/RuntimeException" ["java/lang/Exception"]).filter vx_no
def eAll : List Cond := eCCE ++ eAIO ++ eNAS ++ eNPE ++ eIAE ++ eISE ++ eBrk ++ eTos
theorem eAll_ot : ∀ w ∈ eAll, vx_ot w = true := by decide +kernel
theorem eAll_good : ∀ w ∈ eAll, goodWord w = true ∨ (∃ q ∈ xd, w = .declares q) ∨ (∃ q ∈ xc, w = .castable q.1 q.2) := by decide +kernel
theorem eCCE_tbl : ∀ w ∈ eCCE, w ∈ lw_tbl := by decide +kernel
theorem eAIO_tbl : ∀ w ∈ eAIO, w ∈ lw_tbl := by decide +kernel
theorem eNAS_tbl : ∀ w ∈ eNAS, w ∈ lw_tbl := by decide +kernel
theorem eNPE_tbl : ∀ w ∈ eNPE, w ∈ lw_tbl := by decide +kernel
theorem eIAE_tbl : ∀ w ∈ eIAE, w ∈ lw_tbl := by decide +kernel
theorem eISE_tbl : ∀ w ∈ eISE, w ∈ lw_tbl := by decide +kernel
theorem eBrk_tbl : ∀ w ∈ eBrk, w ∈ lw_tbl := by decide +kernel
theorem eTos_tbl : ∀ w ∈ eTos, w ∈ lw_tbl := by decide +kernel
