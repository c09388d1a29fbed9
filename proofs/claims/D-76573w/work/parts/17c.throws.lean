set_option maxRecDepth 100000
/-! ===== the words of the machine's own throws ===== -/
def wTb (ps : List Nat) : List Cond := ps.filterMap (fun i => lw_tbl[i]?)
def wOk (w : Cond) : Bool := vx_ot w && (goodWord w || isNw w)
theorem w_hat {D : va_G} {aC : Nat → ClassId} {args : Array Value} {s : State} {L : List Cond} (ps : List Nat) (h : L = wTb ps) (hk : L.all wOk = true) (hts : ∀ w ∈ lw_all, w.before args s = true) (hK : KC D aC s) : (∀ w ∈ L, w.before args s = true) ∧ ∀ w ∈ L, vx_ot w = true := by
  refine ⟨fun w hw => ?_, fun w hw => ?_⟩
  · have hm : w ∈ lw_tbl := by
      rw [h] at hw
      obtain ⟨i, -, hi⟩ := List.mem_filterMap.mp hw
      exact List.mem_of_getElem? hi
    have := List.all_eq_true.mp hk w hw
    simp only [wOk, Bool.and_eq_true, Bool.or_eq_true] at this
    rcases this.2 with g | g
    · exact hts w (lw_g hm g)
    · exact hK.nw hm g
  · have := List.all_eq_true.mp hk w hw
    simp only [wOk, Bool.and_eq_true] at this
    exact this.1
theorem wpC {D : va_G} {aC : Nat → ClassId} {args : Array Value} {s : State} (hts : ∀ w ∈ lw_all, w.before args s = true) (hK : KC D aC s) : (∀ w ∈ vx_atM "java/lang/ClassCastException" ["java/lang/RuntimeException", "java/lang/Exception"], w.before args s = true) ∧ ∀ w ∈ vx_atM "java/lang/ClassCastException" ["java/lang/RuntimeException", "java/lang/Exception"], vx_ot w = true := w_hat [94, 422, 365, 384, 387, 389, 423, 424, 140, 141, 359, 364, 385, 392, 416, 393, 417, 394, 418, 360, 362, 419, 357, 358, 391, 419, 348, 349, 350, 351, 410, 351, 352, 353, 354, 412, 354, 355, 356, 357, 414, 98, 425, 158, 426, 428, 427, 429, 97, 347, 408, 415, 368, 399, 401, 405, 397, 390, 420, 395] (by decide +kernel) (by decide +kernel) hts hK
theorem wpI {D : va_G} {aC : Nat → ClassId} {args : Array Value} {s : State} (hts : ∀ w ∈ lw_all, w.before args s = true) (hK : KC D aC s) : (∀ w ∈ vx_atM "java/lang/ArrayIndexOutOfBoundsException" ["java/lang/IndexOutOfBoundsException", "java/lang/RuntimeException", "java/lang/Exception"], w.before args s = true) ∧ ∀ w ∈ vx_atM "java/lang/ArrayIndexOutOfBoundsException" ["java/lang/IndexOutOfBoundsException", "java/lang/RuntimeException", "java/lang/Exception"], vx_ot w = true := w_hat [94, 422, 365, 384, 387, 389, 423, 424, 140, 141, 359, 364, 385, 392, 416, 393, 417, 394, 418, 360, 362, 419, 357, 358, 391, 419, 457, 458, 459, 460, 472, 460, 461, 462, 351, 410, 351, 352, 353, 354, 412, 354, 355, 356, 357, 414, 98, 425, 158, 426, 428, 427, 429, 101, 456, 470, 473, 367, 465, 466, 468, 464, 390, 420, 463] (by decide +kernel) (by decide +kernel) hts hK
theorem wpG {D : va_G} {aC : Nat → ClassId} {args : Array Value} {s : State} (hts : ∀ w ∈ lw_all, w.before args s = true) (hK : KC D aC s) : (∀ w ∈ vx_atM "java/lang/NegativeArraySizeException" ["java/lang/RuntimeException", "java/lang/Exception"], w.before args s = true) ∧ ∀ w ∈ vx_atM "java/lang/NegativeArraySizeException" ["java/lang/RuntimeException", "java/lang/Exception"], vx_ot w = true := w_hat [94, 422, 365, 384, 387, 389, 423, 424, 140, 141, 359, 364, 385, 392, 416, 393, 417, 394, 418, 360, 362, 419, 357, 358, 391, 419, 1320, 1321, 1322, 351, 410, 351, 352, 353, 354, 412, 354, 355, 356, 357, 414, 98, 425, 158, 426, 428, 427, 429, 127, 1319, 1330, 1331, 369, 1325, 1326, 1328, 1324, 390, 420, 1323] (by decide +kernel) (by decide +kernel) hts hK
theorem wpN {D : va_G} {aC : Nat → ClassId} {args : Array Value} {s : State} (hts : ∀ w ∈ lw_all, w.before args s = true) (hK : KC D aC s) : (∀ w ∈ vx_atN 8, w.before args s = true) ∧ ∀ w ∈ vx_atN 8, vx_ot w = true := w_hat [94, 422, 365, 384, 387, 389, 423, 424, 140, 141, 359, 364, 385, 392, 416, 393, 417, 394, 418, 360, 362, 419, 381, 371, 372, 440, 442, 378, 379, 454, 431, 432, 433, 434, 409, 434, 435, 436, 437, 411, 437, 438, 439, 423, 413, 99, 376, 452, 453, 370, 448, 449, 451, 390, 420, 446] (by decide +kernel) (by decide +kernel) hts hK
