/-! the words of a machine-made ArrayStoreException -/
set_option maxRecDepth 100000
def ze_N : List String := ["java/lang/RuntimeException", "java/lang/Exception"]
abbrev ze_W : List Cond := vx_atM "java/lang/ArrayStoreException" ze_N
theorem ze_good : ∀ w ∈ ze_W.filter goodWord, w ∈ lw_all := lw_in (ze_W.filter goodWord) [127, 413, 422, 426, 429, 431, 414, 415, 171, 172, 416, 421, 427, 445, 403, 446, 405, 447, 407, 417, 419, 409, 787, 788, 444, 409, 778, 779, 780, 781, 781, 782, 783, 784, 784, 785, 786, 787, 137, 800, 214, 801, 803, 802, 804, 148, 777, 799, 424, 791, 792, 794, 790, 412, 411, 789] (by decide +kernel) (by decide +kernel)
def ze_sp : List Cond := [.castable "java/lang/ArrayStoreException" "java/lang/ArrayStoreException", .declares ⟨"java/lang/RuntimeException", "<init>", "(Ljava/lang/String;)V"⟩, .declares ⟨"java/lang/Exception", "<init>", "(Ljava/lang/String;)V"⟩, .declares ⟨"java/lang/Throwable", "<init>", "(Ljava/lang/String;)V"⟩]
theorem ze_bad : ∀ w ∈ ze_W, goodWord w = true ∨ w ∈ ze_sp := by decide +kernel
theorem ze_ot : ∀ w ∈ ze_W, vx_ot w = true := by decide +kernel
