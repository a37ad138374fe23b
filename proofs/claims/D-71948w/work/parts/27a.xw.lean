/-! the words of what the machine throws, by their places in the tables (printed by gen/mkxw.py) -/
theorem cx_tbl {ws : List Cond} (ps : List Nat) (hp : ws = ps.filterMap (fun i => lw_tbl[i]?)) : ∀ w ∈ ws, w ∈ lw_tbl := by
  intro w h
  rw [hp] at h
  obtain ⟨i, -, hi⟩ := List.mem_filterMap.mp h
  exact List.mem_of_getElem? hi
def cx_okw (w : Cond) : Bool := goodWord w || (cl_okw w && decide (w ∈ cl_nws))
theorem cx_hat {ws : List Cond} (ht : ∀ w ∈ ws, w ∈ lw_tbl) (ho : ∀ w ∈ ws, cx_okw w = true) {args : Array Value} {s : State} (hts : ∀ w ∈ lw_all, w.before args s = true) (hn : ∀ w ∈ cl_nws, va_Nw w s) : ∀ w ∈ ws, w.before args s = true := by
  intro w hw
  have h1 := ho w hw
  simp only [cx_okw, Bool.or_eq_true, Bool.and_eq_true, decide_eq_true_eq] at h1
  rcases h1 with h1 | ⟨h1, h2⟩
  · exact hts _ (lw_g (ht w hw) h1)
  · exact va_Nw.use (cl_okw_tbl h1) (hn w h2)
theorem cx_wN : ∀ w ∈ vx_atN 8, w ∈ lw_tbl := cx_tbl [84, 390, 331, 352, 355, 357, 391, 392, 123, 124, 325, 330, 353, 360, 384, 361, 385, 362, 386, 326, 328, 387, 349, 339, 340, 434, 436, 346, 347, 448, 425, 426, 427, 428, 377, 428, 429, 430, 431, 379, 431, 432, 433, 391, 381, 89, 344, 446, 447, 338, 442, 443, 445, 358, 388, 440] (by decide +kernel)
theorem cx_oN : ∀ w ∈ vx_atN 8, cx_okw w = true := by decide +kernel
theorem cx_gN : ∀ w ∈ vx_atN 8, vx_ot w = true := by decide +kernel
theorem cx_wS : ∀ w ∈ vx_atM "java/lang/NegativeArraySizeException" ["java/lang/RuntimeException", "java/lang/Exception"], w ∈ lw_tbl := cx_tbl [84, 390, 331, 352, 355, 357, 391, 392, 123, 124, 325, 330, 353, 360, 384, 361, 385, 362, 386, 326, 328, 387, 323, 324, 359, 387, 314, 315, 316, 317, 378, 317, 318, 319, 320, 380, 320, 321, 322, 323, 382, 88, 393, 206, 394, 396, 395, 397, 87, 313, 376, 383, 337, 367, 369, 373, 365, 358, 388, 363] (by decide +kernel)
theorem cx_oS : ∀ w ∈ vx_atM "java/lang/NegativeArraySizeException" ["java/lang/RuntimeException", "java/lang/Exception"], cx_okw w = true := by decide +kernel
theorem cx_gS : ∀ w ∈ vx_atM "java/lang/NegativeArraySizeException" ["java/lang/RuntimeException", "java/lang/Exception"], vx_ot w = true := by decide +kernel
theorem cx_wI : ∀ w ∈ vx_atM "java/lang/ArrayIndexOutOfBoundsException" ["java/lang/IndexOutOfBoundsException", "java/lang/RuntimeException", "java/lang/Exception"], w ∈ lw_tbl := cx_tbl [84, 390, 331, 352, 355, 357, 391, 392, 123, 124, 325, 330, 353, 360, 384, 361, 385, 362, 386, 326, 328, 387, 323, 324, 359, 387, 451, 452, 453, 454, 466, 454, 455, 456, 317, 378, 317, 318, 319, 320, 380, 320, 321, 322, 323, 382, 88, 393, 206, 394, 396, 395, 397, 91, 450, 464, 467, 334, 459, 460, 462, 458, 358, 388, 457] (by decide +kernel)
theorem cx_oI : ∀ w ∈ vx_atM "java/lang/ArrayIndexOutOfBoundsException" ["java/lang/IndexOutOfBoundsException", "java/lang/RuntimeException", "java/lang/Exception"], cx_okw w = true := by decide +kernel
theorem cx_gI : ∀ w ∈ vx_atM "java/lang/ArrayIndexOutOfBoundsException" ["java/lang/IndexOutOfBoundsException", "java/lang/RuntimeException", "java/lang/Exception"], vx_ot w = true := by decide +kernel
theorem cx_wA : ∀ w ∈ vx_atM "java/lang/ArrayStoreException" ["java/lang/RuntimeException", "java/lang/Exception"], w ∈ lw_tbl := cx_tbl [84, 390, 331, 352, 355, 357, 391, 392, 123, 124, 325, 330, 353, 360, 384, 361, 385, 362, 386, 326, 328, 387, 323, 324, 359, 387, 485, 486, 487, 317, 378, 317, 318, 319, 320, 380, 320, 321, 322, 323, 382, 88, 393, 206, 394, 396, 395, 397, 92, 484, 495, 496, 335, 490, 491, 493, 489, 358, 388, 488] (by decide +kernel)
theorem cx_oA : ∀ w ∈ vx_atM "java/lang/ArrayStoreException" ["java/lang/RuntimeException", "java/lang/Exception"], cx_okw w = true := by decide +kernel
theorem cx_gA : ∀ w ∈ vx_atM "java/lang/ArrayStoreException" ["java/lang/RuntimeException", "java/lang/Exception"], vx_ot w = true := by decide +kernel
theorem cx_wC : ∀ w ∈ vx_atM "java/lang/ClassCastException" ["java/lang/RuntimeException", "java/lang/Exception"], w ∈ lw_tbl := cx_tbl [84, 390, 331, 352, 355, 357, 391, 392, 123, 124, 325, 330, 353, 360, 384, 361, 385, 362, 386, 326, 328, 387, 323, 324, 359, 387, 1454, 1455, 1456, 317, 378, 317, 318, 319, 320, 380, 320, 321, 322, 323, 382, 88, 393, 206, 394, 396, 395, 397, 115, 1453, 1464, 1465, 336, 1459, 1460, 1462, 1458, 358, 388, 1457] (by decide +kernel)
theorem cx_oC : ∀ w ∈ vx_atM "java/lang/ClassCastException" ["java/lang/RuntimeException", "java/lang/Exception"], cx_okw w = true := by decide +kernel
theorem cx_gC : ∀ w ∈ vx_atM "java/lang/ClassCastException" ["java/lang/RuntimeException", "java/lang/Exception"], vx_ot w = true := by decide +kernel
theorem cx_wT : ∀ w ∈ vx_at0 "DatedContacts" 148 "java/lang/ArrayIndexOutOfBoundsException" ["java/lang/IndexOutOfBoundsException", "java/lang/RuntimeException", "java/lang/Exception"], w ∈ lw_tbl := cx_tbl [84, 390, 331, 352, 355, 357, 391, 392, 123, 124, 325, 330, 353, 360, 384, 361, 385, 362, 386, 326, 328, 387, 1383, 1384, 1385, 1386, 465, 1386, 1387, 1388, 428, 377, 428, 429, 430, 431, 379, 431, 432, 433, 391, 381, 1382, 450, 464, 467, 334, 459, 460, 462, 458, 358, 388, 457] (by decide +kernel)
theorem cx_oT : ∀ w ∈ vx_at0 "DatedContacts" 148 "java/lang/ArrayIndexOutOfBoundsException" ["java/lang/IndexOutOfBoundsException", "java/lang/RuntimeException", "java/lang/Exception"], cx_okw w = true := by decide +kernel
theorem cx_gT : ∀ w ∈ vx_at0 "DatedContacts" 148 "java/lang/ArrayIndexOutOfBoundsException" ["java/lang/IndexOutOfBoundsException", "java/lang/RuntimeException", "java/lang/Exception"], vx_ot w = true := by decide +kernel
