/-! what the machine itself throws: casts that fail, division by 0, sizes below 0, nothing -/
set_option maxRecDepth 100000
theorem at_CCE : ∀ w ∈ vx_atM "java/lang/ClassCastException" ["java/lang/RuntimeException", "java/lang/Exception"], w ∈ lw_all ∨ w ∈ nwL := List.forall_mem_cons.mpr ⟨Or.inl (lw_g (lw_at lw_m1 2 rfl) rfl), List.forall_mem_cons.mpr ⟨Or.inl (lw_g (lw_at lw_m1 66 rfl) rfl), List.forall_mem_cons.mpr ⟨Or.inl (lw_g (lw_at lw_m1 75 rfl) rfl), List.forall_mem_cons.mpr ⟨Or.inl (lw_g (lw_at lw_m1 95 rfl) rfl), List.forall_mem_cons.mpr ⟨Or.inl (lw_g (lw_at lw_m1 98 rfl) rfl), List.forall_mem_cons.mpr ⟨Or.inl (lw_g (lw_at lw_m1 100 rfl) rfl), List.forall_mem_cons.mpr ⟨Or.inl (lw_g (lw_at lw_m1 67 rfl) rfl), List.forall_mem_cons.mpr ⟨Or.inl (lw_g (lw_at lw_m1 68 rfl) rfl), List.forall_mem_cons.mpr ⟨Or.inl (lw_g (lw_at lw_m1 42 rfl) rfl), List.forall_mem_cons.mpr ⟨Or.inl (lw_g (lw_at lw_m1 43 rfl) rfl), List.forall_mem_cons.mpr ⟨Or.inl (lw_g (lw_at lw_m1 69 rfl) rfl), List.forall_mem_cons.mpr ⟨Or.inl (lw_g (lw_at lw_m1 74 rfl) rfl), List.forall_mem_cons.mpr ⟨Or.inl (lw_g (lw_at lw_m1 96 rfl) rfl), List.forall_mem_cons.mpr ⟨Or.inl (lw_g (lw_at lw_m1 119 rfl) rfl), List.forall_mem_cons.mpr ⟨Or.inl (lw_g (lw_at lw_m1 56 rfl) rfl), List.forall_mem_cons.mpr ⟨Or.inl (lw_g (lw_at lw_m1 120 rfl) rfl), List.forall_mem_cons.mpr ⟨Or.inl (lw_g (lw_at lw_m1 58 rfl) rfl), List.forall_mem_cons.mpr ⟨Or.inl (lw_g (lw_at lw_m1 121 rfl) rfl), List.forall_mem_cons.mpr ⟨Or.inl (lw_g (lw_at lw_m1 60 rfl) rfl), List.forall_mem_cons.mpr ⟨Or.inl (lw_g (lw_at lw_m1 70 rfl) rfl), List.forall_mem_cons.mpr ⟨Or.inl (lw_g (lw_at lw_m1 72 rfl) rfl), List.forall_mem_cons.mpr ⟨Or.inl (lw_g (lw_at lw_m1 62 rfl) rfl), List.forall_mem_cons.mpr ⟨Or.inl (lw_g (lw_at lw_m5 102 rfl) rfl), List.forall_mem_cons.mpr ⟨Or.inl (lw_g (lw_at lw_m5 103 rfl) rfl), List.forall_mem_cons.mpr ⟨Or.inl (lw_g (lw_at lw_m1 118 rfl) rfl), List.forall_mem_cons.mpr ⟨Or.inl (lw_g (lw_at lw_m1 62 rfl) rfl), List.forall_mem_cons.mpr ⟨Or.inl (lw_g (lw_at lw_m5 153 rfl) rfl), List.forall_mem_cons.mpr ⟨Or.inl (lw_g (lw_at lw_m5 154 rfl) rfl), List.forall_mem_cons.mpr ⟨Or.inl (lw_g (lw_at lw_m5 155 rfl) rfl), List.forall_mem_cons.mpr ⟨Or.inl (lw_g (lw_at lw_m5 96 rfl) rfl), List.forall_mem_cons.mpr ⟨Or.inr (List.mem_of_getElem? (i := 59) rfl), List.forall_mem_cons.mpr ⟨Or.inl (lw_g (lw_at lw_m5 96 rfl) rfl), List.forall_mem_cons.mpr ⟨Or.inl (lw_g (lw_at lw_m5 97 rfl) rfl), List.forall_mem_cons.mpr ⟨Or.inl (lw_g (lw_at lw_m5 98 rfl) rfl), List.forall_mem_cons.mpr ⟨Or.inl (lw_g (lw_at lw_m5 99 rfl) rfl), List.forall_mem_cons.mpr ⟨Or.inr (List.mem_of_getElem? (i := 57) rfl), List.forall_mem_cons.mpr ⟨Or.inl (lw_g (lw_at lw_m5 99 rfl) rfl), List.forall_mem_cons.mpr ⟨Or.inl (lw_g (lw_at lw_m5 100 rfl) rfl), List.forall_mem_cons.mpr ⟨Or.inl (lw_g (lw_at lw_m5 101 rfl) rfl), List.forall_mem_cons.mpr ⟨Or.inl (lw_g (lw_at lw_m5 102 rfl) rfl), List.forall_mem_cons.mpr ⟨Or.inr (List.mem_of_getElem? (i := 54) rfl), List.forall_mem_cons.mpr ⟨Or.inl (lw_g (lw_at lw_m1 19 rfl) rfl), List.forall_mem_cons.mpr ⟨Or.inl (lw_g (lw_at lw_m5 113 rfl) rfl), List.forall_mem_cons.mpr ⟨Or.inl (lw_g (lw_at lw_m2 30 rfl) rfl), List.forall_mem_cons.mpr ⟨Or.inl (lw_g (lw_at lw_m5 114 rfl) rfl), List.forall_mem_cons.mpr ⟨Or.inl (lw_g (lw_at lw_m5 116 rfl) rfl), List.forall_mem_cons.mpr ⟨Or.inl (lw_g (lw_at lw_m5 115 rfl) rfl), List.forall_mem_cons.mpr ⟨Or.inl (lw_g (lw_at lw_m5 117 rfl) rfl), List.forall_mem_cons.mpr ⟨Or.inl (lw_g (lw_at lw_m1 32 rfl) rfl), List.forall_mem_cons.mpr ⟨Or.inl (lw_g (lw_at lw_m5 152 rfl) rfl), List.forall_mem_cons.mpr ⟨Or.inr (List.mem_of_getElem? (i := 62) rfl), List.forall_mem_cons.mpr ⟨Or.inl (lw_g (lw_at lw_m5 164 rfl) rfl), List.forall_mem_cons.mpr ⟨Or.inl (lw_g (lw_at lw_m1 79 rfl) rfl), List.forall_mem_cons.mpr ⟨Or.inl (lw_g (lw_at lw_m5 158 rfl) rfl), List.forall_mem_cons.mpr ⟨Or.inl (lw_g (lw_at lw_m5 159 rfl) rfl), List.forall_mem_cons.mpr ⟨Or.inl (lw_g (lw_at lw_m5 161 rfl) rfl), List.forall_mem_cons.mpr ⟨Or.inl (lw_g (lw_at lw_m5 157 rfl) rfl), List.forall_mem_cons.mpr ⟨Or.inl (lw_g (lw_at lw_m1 65 rfl) rfl), List.forall_mem_cons.mpr ⟨Or.inl (lw_g (lw_at lw_m1 64 rfl) rfl), List.forall_mem_cons.mpr ⟨Or.inl (lw_g (lw_at lw_m5 156 rfl) rfl), (fun w h => nomatch h)⟩⟩⟩⟩⟩⟩⟩⟩⟩⟩⟩⟩⟩⟩⟩⟩⟩⟩⟩⟩⟩⟩⟩⟩⟩⟩⟩⟩⟩⟩⟩⟩⟩⟩⟩⟩⟩⟩⟩⟩⟩⟩⟩⟩⟩⟩⟩⟩⟩⟩⟩⟩⟩⟩⟩⟩⟩⟩⟩⟩
theorem ao_CCE : (vx_atM "java/lang/ClassCastException" ["java/lang/RuntimeException", "java/lang/Exception"]).all vx_ot = true := by decide +kernel
theorem at_ARI : ∀ w ∈ vx_atM "java/lang/ArithmeticException" ["java/lang/RuntimeException", "java/lang/Exception"], w ∈ lw_all ∨ w ∈ nwL := List.forall_mem_cons.mpr ⟨Or.inl (lw_g (lw_at lw_m1 2 rfl) rfl), List.forall_mem_cons.mpr ⟨Or.inl (lw_g (lw_at lw_m1 66 rfl) rfl), List.forall_mem_cons.mpr ⟨Or.inl (lw_g (lw_at lw_m1 75 rfl) rfl), List.forall_mem_cons.mpr ⟨Or.inl (lw_g (lw_at lw_m1 95 rfl) rfl), List.forall_mem_cons.mpr ⟨Or.inl (lw_g (lw_at lw_m1 98 rfl) rfl), List.forall_mem_cons.mpr ⟨Or.inl (lw_g (lw_at lw_m1 100 rfl) rfl), List.forall_mem_cons.mpr ⟨Or.inl (lw_g (lw_at lw_m1 67 rfl) rfl), List.forall_mem_cons.mpr ⟨Or.inl (lw_g (lw_at lw_m1 68 rfl) rfl), List.forall_mem_cons.mpr ⟨Or.inl (lw_g (lw_at lw_m1 42 rfl) rfl), List.forall_mem_cons.mpr ⟨Or.inl (lw_g (lw_at lw_m1 43 rfl) rfl), List.forall_mem_cons.mpr ⟨Or.inl (lw_g (lw_at lw_m1 69 rfl) rfl), List.forall_mem_cons.mpr ⟨Or.inl (lw_g (lw_at lw_m1 74 rfl) rfl), List.forall_mem_cons.mpr ⟨Or.inl (lw_g (lw_at lw_m1 96 rfl) rfl), List.forall_mem_cons.mpr ⟨Or.inl (lw_g (lw_at lw_m1 119 rfl) rfl), List.forall_mem_cons.mpr ⟨Or.inl (lw_g (lw_at lw_m1 56 rfl) rfl), List.forall_mem_cons.mpr ⟨Or.inl (lw_g (lw_at lw_m1 120 rfl) rfl), List.forall_mem_cons.mpr ⟨Or.inl (lw_g (lw_at lw_m1 58 rfl) rfl), List.forall_mem_cons.mpr ⟨Or.inl (lw_g (lw_at lw_m1 121 rfl) rfl), List.forall_mem_cons.mpr ⟨Or.inl (lw_g (lw_at lw_m1 60 rfl) rfl), List.forall_mem_cons.mpr ⟨Or.inl (lw_g (lw_at lw_m1 70 rfl) rfl), List.forall_mem_cons.mpr ⟨Or.inl (lw_g (lw_at lw_m1 72 rfl) rfl), List.forall_mem_cons.mpr ⟨Or.inl (lw_g (lw_at lw_m1 62 rfl) rfl), List.forall_mem_cons.mpr ⟨Or.inl (lw_g (lw_at lw_m5 102 rfl) rfl), List.forall_mem_cons.mpr ⟨Or.inl (lw_g (lw_at lw_m5 103 rfl) rfl), List.forall_mem_cons.mpr ⟨Or.inl (lw_g (lw_at lw_m1 118 rfl) rfl), List.forall_mem_cons.mpr ⟨Or.inl (lw_g (lw_at lw_m1 62 rfl) rfl), List.forall_mem_cons.mpr ⟨Or.inl (lw_g (lw_at lw_m6 9 rfl) rfl), List.forall_mem_cons.mpr ⟨Or.inl (lw_g (lw_at lw_m6 10 rfl) rfl), List.forall_mem_cons.mpr ⟨Or.inl (lw_g (lw_at lw_m6 11 rfl) rfl), List.forall_mem_cons.mpr ⟨Or.inl (lw_g (lw_at lw_m5 96 rfl) rfl), List.forall_mem_cons.mpr ⟨Or.inr (List.mem_of_getElem? (i := 59) rfl), List.forall_mem_cons.mpr ⟨Or.inl (lw_g (lw_at lw_m5 96 rfl) rfl), List.forall_mem_cons.mpr ⟨Or.inl (lw_g (lw_at lw_m5 97 rfl) rfl), List.forall_mem_cons.mpr ⟨Or.inl (lw_g (lw_at lw_m5 98 rfl) rfl), List.forall_mem_cons.mpr ⟨Or.inl (lw_g (lw_at lw_m5 99 rfl) rfl), List.forall_mem_cons.mpr ⟨Or.inr (List.mem_of_getElem? (i := 57) rfl), List.forall_mem_cons.mpr ⟨Or.inl (lw_g (lw_at lw_m5 99 rfl) rfl), List.forall_mem_cons.mpr ⟨Or.inl (lw_g (lw_at lw_m5 100 rfl) rfl), List.forall_mem_cons.mpr ⟨Or.inl (lw_g (lw_at lw_m5 101 rfl) rfl), List.forall_mem_cons.mpr ⟨Or.inl (lw_g (lw_at lw_m5 102 rfl) rfl), List.forall_mem_cons.mpr ⟨Or.inr (List.mem_of_getElem? (i := 54) rfl), List.forall_mem_cons.mpr ⟨Or.inl (lw_g (lw_at lw_m1 19 rfl) rfl), List.forall_mem_cons.mpr ⟨Or.inl (lw_g (lw_at lw_m5 113 rfl) rfl), List.forall_mem_cons.mpr ⟨Or.inl (lw_g (lw_at lw_m2 30 rfl) rfl), List.forall_mem_cons.mpr ⟨Or.inl (lw_g (lw_at lw_m5 114 rfl) rfl), List.forall_mem_cons.mpr ⟨Or.inl (lw_g (lw_at lw_m5 116 rfl) rfl), List.forall_mem_cons.mpr ⟨Or.inl (lw_g (lw_at lw_m5 115 rfl) rfl), List.forall_mem_cons.mpr ⟨Or.inl (lw_g (lw_at lw_m5 117 rfl) rfl), List.forall_mem_cons.mpr ⟨Or.inl (lw_g (lw_at lw_m1 35 rfl) rfl), List.forall_mem_cons.mpr ⟨Or.inl (lw_g (lw_at lw_m6 8 rfl) rfl), List.forall_mem_cons.mpr ⟨Or.inr (List.mem_of_getElem? (i := 64) rfl), List.forall_mem_cons.mpr ⟨Or.inl (lw_g (lw_at lw_m6 20 rfl) rfl), List.forall_mem_cons.mpr ⟨Or.inl (lw_g (lw_at lw_m1 78 rfl) rfl), List.forall_mem_cons.mpr ⟨Or.inl (lw_g (lw_at lw_m6 14 rfl) rfl), List.forall_mem_cons.mpr ⟨Or.inl (lw_g (lw_at lw_m6 15 rfl) rfl), List.forall_mem_cons.mpr ⟨Or.inl (lw_g (lw_at lw_m6 17 rfl) rfl), List.forall_mem_cons.mpr ⟨Or.inl (lw_g (lw_at lw_m6 13 rfl) rfl), List.forall_mem_cons.mpr ⟨Or.inl (lw_g (lw_at lw_m1 65 rfl) rfl), List.forall_mem_cons.mpr ⟨Or.inl (lw_g (lw_at lw_m1 64 rfl) rfl), List.forall_mem_cons.mpr ⟨Or.inl (lw_g (lw_at lw_m6 12 rfl) rfl), (fun w h => nomatch h)⟩⟩⟩⟩⟩⟩⟩⟩⟩⟩⟩⟩⟩⟩⟩⟩⟩⟩⟩⟩⟩⟩⟩⟩⟩⟩⟩⟩⟩⟩⟩⟩⟩⟩⟩⟩⟩⟩⟩⟩⟩⟩⟩⟩⟩⟩⟩⟩⟩⟩⟩⟩⟩⟩⟩⟩⟩⟩⟩⟩
theorem ao_ARI : (vx_atM "java/lang/ArithmeticException" ["java/lang/RuntimeException", "java/lang/Exception"]).all vx_ot = true := by decide +kernel
theorem at_NAS : ∀ w ∈ vx_atM "java/lang/NegativeArraySizeException" ["java/lang/RuntimeException", "java/lang/Exception"], w ∈ lw_all ∨ w ∈ nwL := List.forall_mem_cons.mpr ⟨Or.inl (lw_g (lw_at lw_m1 2 rfl) rfl), List.forall_mem_cons.mpr ⟨Or.inl (lw_g (lw_at lw_m1 66 rfl) rfl), List.forall_mem_cons.mpr ⟨Or.inl (lw_g (lw_at lw_m1 75 rfl) rfl), List.forall_mem_cons.mpr ⟨Or.inl (lw_g (lw_at lw_m1 95 rfl) rfl), List.forall_mem_cons.mpr ⟨Or.inl (lw_g (lw_at lw_m1 98 rfl) rfl), List.forall_mem_cons.mpr ⟨Or.inl (lw_g (lw_at lw_m1 100 rfl) rfl), List.forall_mem_cons.mpr ⟨Or.inl (lw_g (lw_at lw_m1 67 rfl) rfl), List.forall_mem_cons.mpr ⟨Or.inl (lw_g (lw_at lw_m1 68 rfl) rfl), List.forall_mem_cons.mpr ⟨Or.inl (lw_g (lw_at lw_m1 42 rfl) rfl), List.forall_mem_cons.mpr ⟨Or.inl (lw_g (lw_at lw_m1 43 rfl) rfl), List.forall_mem_cons.mpr ⟨Or.inl (lw_g (lw_at lw_m1 69 rfl) rfl), List.forall_mem_cons.mpr ⟨Or.inl (lw_g (lw_at lw_m1 74 rfl) rfl), List.forall_mem_cons.mpr ⟨Or.inl (lw_g (lw_at lw_m1 96 rfl) rfl), List.forall_mem_cons.mpr ⟨Or.inl (lw_g (lw_at lw_m1 119 rfl) rfl), List.forall_mem_cons.mpr ⟨Or.inl (lw_g (lw_at lw_m1 56 rfl) rfl), List.forall_mem_cons.mpr ⟨Or.inl (lw_g (lw_at lw_m1 120 rfl) rfl), List.forall_mem_cons.mpr ⟨Or.inl (lw_g (lw_at lw_m1 58 rfl) rfl), List.forall_mem_cons.mpr ⟨Or.inl (lw_g (lw_at lw_m1 121 rfl) rfl), List.forall_mem_cons.mpr ⟨Or.inl (lw_g (lw_at lw_m1 60 rfl) rfl), List.forall_mem_cons.mpr ⟨Or.inl (lw_g (lw_at lw_m1 70 rfl) rfl), List.forall_mem_cons.mpr ⟨Or.inl (lw_g (lw_at lw_m1 72 rfl) rfl), List.forall_mem_cons.mpr ⟨Or.inl (lw_g (lw_at lw_m1 62 rfl) rfl), List.forall_mem_cons.mpr ⟨Or.inl (lw_g (lw_at lw_m5 102 rfl) rfl), List.forall_mem_cons.mpr ⟨Or.inl (lw_g (lw_at lw_m5 103 rfl) rfl), List.forall_mem_cons.mpr ⟨Or.inl (lw_g (lw_at lw_m1 118 rfl) rfl), List.forall_mem_cons.mpr ⟨Or.inl (lw_g (lw_at lw_m1 62 rfl) rfl), List.forall_mem_cons.mpr ⟨Or.inl (lw_g (lw_at lw_m5 93 rfl) rfl), List.forall_mem_cons.mpr ⟨Or.inl (lw_g (lw_at lw_m5 94 rfl) rfl), List.forall_mem_cons.mpr ⟨Or.inl (lw_g (lw_at lw_m5 95 rfl) rfl), List.forall_mem_cons.mpr ⟨Or.inl (lw_g (lw_at lw_m5 96 rfl) rfl), List.forall_mem_cons.mpr ⟨Or.inr (List.mem_of_getElem? (i := 59) rfl), List.forall_mem_cons.mpr ⟨Or.inl (lw_g (lw_at lw_m5 96 rfl) rfl), List.forall_mem_cons.mpr ⟨Or.inl (lw_g (lw_at lw_m5 97 rfl) rfl), List.forall_mem_cons.mpr ⟨Or.inl (lw_g (lw_at lw_m5 98 rfl) rfl), List.forall_mem_cons.mpr ⟨Or.inl (lw_g (lw_at lw_m5 99 rfl) rfl), List.forall_mem_cons.mpr ⟨Or.inr (List.mem_of_getElem? (i := 57) rfl), List.forall_mem_cons.mpr ⟨Or.inl (lw_g (lw_at lw_m5 99 rfl) rfl), List.forall_mem_cons.mpr ⟨Or.inl (lw_g (lw_at lw_m5 100 rfl) rfl), List.forall_mem_cons.mpr ⟨Or.inl (lw_g (lw_at lw_m5 101 rfl) rfl), List.forall_mem_cons.mpr ⟨Or.inl (lw_g (lw_at lw_m5 102 rfl) rfl), List.forall_mem_cons.mpr ⟨Or.inr (List.mem_of_getElem? (i := 54) rfl), List.forall_mem_cons.mpr ⟨Or.inl (lw_g (lw_at lw_m1 19 rfl) rfl), List.forall_mem_cons.mpr ⟨Or.inl (lw_g (lw_at lw_m5 113 rfl) rfl), List.forall_mem_cons.mpr ⟨Or.inl (lw_g (lw_at lw_m2 30 rfl) rfl), List.forall_mem_cons.mpr ⟨Or.inl (lw_g (lw_at lw_m5 114 rfl) rfl), List.forall_mem_cons.mpr ⟨Or.inl (lw_g (lw_at lw_m5 116 rfl) rfl), List.forall_mem_cons.mpr ⟨Or.inl (lw_g (lw_at lw_m5 115 rfl) rfl), List.forall_mem_cons.mpr ⟨Or.inl (lw_g (lw_at lw_m5 117 rfl) rfl), List.forall_mem_cons.mpr ⟨Or.inl (lw_g (lw_at lw_m1 31 rfl) rfl), List.forall_mem_cons.mpr ⟨Or.inl (lw_g (lw_at lw_m5 92 rfl) rfl), List.forall_mem_cons.mpr ⟨Or.inr (List.mem_of_getElem? (i := 61) rfl), List.forall_mem_cons.mpr ⟨Or.inl (lw_g (lw_at lw_m5 112 rfl) rfl), List.forall_mem_cons.mpr ⟨Or.inl (lw_g (lw_at lw_m1 80 rfl) rfl), List.forall_mem_cons.mpr ⟨Or.inl (lw_g (lw_at lw_m5 106 rfl) rfl), List.forall_mem_cons.mpr ⟨Or.inl (lw_g (lw_at lw_m5 107 rfl) rfl), List.forall_mem_cons.mpr ⟨Or.inl (lw_g (lw_at lw_m5 109 rfl) rfl), List.forall_mem_cons.mpr ⟨Or.inl (lw_g (lw_at lw_m5 105 rfl) rfl), List.forall_mem_cons.mpr ⟨Or.inl (lw_g (lw_at lw_m1 65 rfl) rfl), List.forall_mem_cons.mpr ⟨Or.inl (lw_g (lw_at lw_m1 64 rfl) rfl), List.forall_mem_cons.mpr ⟨Or.inl (lw_g (lw_at lw_m5 104 rfl) rfl), (fun w h => nomatch h)⟩⟩⟩⟩⟩⟩⟩⟩⟩⟩⟩⟩⟩⟩⟩⟩⟩⟩⟩⟩⟩⟩⟩⟩⟩⟩⟩⟩⟩⟩⟩⟩⟩⟩⟩⟩⟩⟩⟩⟩⟩⟩⟩⟩⟩⟩⟩⟩⟩⟩⟩⟩⟩⟩⟩⟩⟩⟩⟩⟩
theorem ao_NAS : (vx_atM "java/lang/NegativeArraySizeException" ["java/lang/RuntimeException", "java/lang/Exception"]).all vx_ot = true := by decide +kernel
theorem at_NPE : ∀ w ∈ vx_atN 8, w ∈ lw_all ∨ w ∈ nwL := List.forall_mem_cons.mpr ⟨Or.inl (lw_g (lw_at lw_m1 2 rfl) rfl), List.forall_mem_cons.mpr ⟨Or.inl (lw_g (lw_at lw_m1 66 rfl) rfl), List.forall_mem_cons.mpr ⟨Or.inl (lw_g (lw_at lw_m1 75 rfl) rfl), List.forall_mem_cons.mpr ⟨Or.inl (lw_g (lw_at lw_m1 95 rfl) rfl), List.forall_mem_cons.mpr ⟨Or.inl (lw_g (lw_at lw_m1 98 rfl) rfl), List.forall_mem_cons.mpr ⟨Or.inl (lw_g (lw_at lw_m1 100 rfl) rfl), List.forall_mem_cons.mpr ⟨Or.inl (lw_g (lw_at lw_m1 67 rfl) rfl), List.forall_mem_cons.mpr ⟨Or.inl (lw_g (lw_at lw_m1 68 rfl) rfl), List.forall_mem_cons.mpr ⟨Or.inl (lw_g (lw_at lw_m1 42 rfl) rfl), List.forall_mem_cons.mpr ⟨Or.inl (lw_g (lw_at lw_m1 43 rfl) rfl), List.forall_mem_cons.mpr ⟨Or.inl (lw_g (lw_at lw_m1 69 rfl) rfl), List.forall_mem_cons.mpr ⟨Or.inl (lw_g (lw_at lw_m1 74 rfl) rfl), List.forall_mem_cons.mpr ⟨Or.inl (lw_g (lw_at lw_m1 96 rfl) rfl), List.forall_mem_cons.mpr ⟨Or.inl (lw_g (lw_at lw_m1 119 rfl) rfl), List.forall_mem_cons.mpr ⟨Or.inl (lw_g (lw_at lw_m1 56 rfl) rfl), List.forall_mem_cons.mpr ⟨Or.inl (lw_g (lw_at lw_m1 120 rfl) rfl), List.forall_mem_cons.mpr ⟨Or.inl (lw_g (lw_at lw_m1 58 rfl) rfl), List.forall_mem_cons.mpr ⟨Or.inl (lw_g (lw_at lw_m1 121 rfl) rfl), List.forall_mem_cons.mpr ⟨Or.inl (lw_g (lw_at lw_m1 60 rfl) rfl), List.forall_mem_cons.mpr ⟨Or.inl (lw_g (lw_at lw_m1 70 rfl) rfl), List.forall_mem_cons.mpr ⟨Or.inl (lw_g (lw_at lw_m1 72 rfl) rfl), List.forall_mem_cons.mpr ⟨Or.inl (lw_g (lw_at lw_m1 62 rfl) rfl), List.forall_mem_cons.mpr ⟨Or.inl (lw_g (lw_at lw_m1 92 rfl) rfl), List.forall_mem_cons.mpr ⟨Or.inl (lw_g (lw_at lw_m1 82 rfl) rfl), List.forall_mem_cons.mpr ⟨Or.inl (lw_g (lw_at lw_m1 83 rfl) rfl), List.forall_mem_cons.mpr ⟨Or.inl (lw_g (lw_at lw_m5 175 rfl) rfl), List.forall_mem_cons.mpr ⟨Or.inl (lw_g (lw_at lw_m5 177 rfl) rfl), List.forall_mem_cons.mpr ⟨Or.inl (lw_g (lw_at lw_m1 89 rfl) rfl), List.forall_mem_cons.mpr ⟨Or.inl (lw_g (lw_at lw_m1 90 rfl) rfl), List.forall_mem_cons.mpr ⟨Or.inr (List.mem_of_getElem? (i := 60) rfl), List.forall_mem_cons.mpr ⟨Or.inl (lw_g (lw_at lw_m5 166 rfl) rfl), List.forall_mem_cons.mpr ⟨Or.inl (lw_g (lw_at lw_m5 167 rfl) rfl), List.forall_mem_cons.mpr ⟨Or.inl (lw_g (lw_at lw_m5 168 rfl) rfl), List.forall_mem_cons.mpr ⟨Or.inl (lw_g (lw_at lw_m5 169 rfl) rfl), List.forall_mem_cons.mpr ⟨Or.inr (List.mem_of_getElem? (i := 58) rfl), List.forall_mem_cons.mpr ⟨Or.inl (lw_g (lw_at lw_m5 169 rfl) rfl), List.forall_mem_cons.mpr ⟨Or.inl (lw_g (lw_at lw_m5 170 rfl) rfl), List.forall_mem_cons.mpr ⟨Or.inl (lw_g (lw_at lw_m5 171 rfl) rfl), List.forall_mem_cons.mpr ⟨Or.inl (lw_g (lw_at lw_m5 172 rfl) rfl), List.forall_mem_cons.mpr ⟨Or.inr (List.mem_of_getElem? (i := 56) rfl), List.forall_mem_cons.mpr ⟨Or.inl (lw_g (lw_at lw_m5 172 rfl) rfl), List.forall_mem_cons.mpr ⟨Or.inl (lw_g (lw_at lw_m5 173 rfl) rfl), List.forall_mem_cons.mpr ⟨Or.inl (lw_g (lw_at lw_m5 174 rfl) rfl), List.forall_mem_cons.mpr ⟨Or.inl (lw_g (lw_at lw_m1 67 rfl) rfl), List.forall_mem_cons.mpr ⟨Or.inr (List.mem_of_getElem? (i := 53) rfl), List.forall_mem_cons.mpr ⟨Or.inl (lw_g (lw_at lw_m1 33 rfl) rfl), List.forall_mem_cons.mpr ⟨Or.inl (lw_g (lw_at lw_m1 87 rfl) rfl), List.forall_mem_cons.mpr ⟨Or.inr (List.mem_of_getElem? (i := 63) rfl), List.forall_mem_cons.mpr ⟨Or.inl (lw_g (lw_at lw_m5 188 rfl) rfl), List.forall_mem_cons.mpr ⟨Or.inl (lw_g (lw_at lw_m1 81 rfl) rfl), List.forall_mem_cons.mpr ⟨Or.inl (lw_g (lw_at lw_m5 183 rfl) rfl), List.forall_mem_cons.mpr ⟨Or.inl (lw_g (lw_at lw_m5 184 rfl) rfl), List.forall_mem_cons.mpr ⟨Or.inl (lw_g (lw_at lw_m5 186 rfl) rfl), List.forall_mem_cons.mpr ⟨Or.inl (lw_g (lw_at lw_m1 65 rfl) rfl), List.forall_mem_cons.mpr ⟨Or.inl (lw_g (lw_at lw_m1 64 rfl) rfl), List.forall_mem_cons.mpr ⟨Or.inl (lw_g (lw_at lw_m5 181 rfl) rfl), (fun w h => nomatch h)⟩⟩⟩⟩⟩⟩⟩⟩⟩⟩⟩⟩⟩⟩⟩⟩⟩⟩⟩⟩⟩⟩⟩⟩⟩⟩⟩⟩⟩⟩⟩⟩⟩⟩⟩⟩⟩⟩⟩⟩⟩⟩⟩⟩⟩⟩⟩⟩⟩⟩⟩⟩⟩⟩⟩⟩
theorem ao_NPE : (vx_atN 8).all vx_ot = true := by decide +kernel
section VC9
variable {p : Program} {l : Launch} {e : Env} {R : Room} {s : State} {m : MethodId} {args : Array Value} {below : List Frame} {meth : Method} {c : Code} {H : Heap} {locs : List Loc} {cells slots : Nat} {Q : State → Prop}
theorem va_castofNo {T : State} (X : Stand p l e R s m args below meth c T locs cells slots) (hexec : p.tables.exec = Jvm.exec)
    {own name : String} {index : Nat} (hown : s.vm.findClass own = some m.cls) (hlink : (Cond.classLink own index name).before args s = true)
    {a : Addr} {cell : Cell} {cT : ClassId} {ks : Class} (hcell : T.heap[a]? = some cell) (hobj : cell.vm.isStatics = false) (hks : s.vm.classes[cell.cls]? = some ks) (hcT : s.vm.findClass name = some cT) (hasg : s.vm.assignable cell.cls cT = false)
    {g : JFrame} (hg : g.method = m) {rest : List Value} (hstack : g.stack = .ref a :: rest) (hdg : decode c.code g.pc = .ok (.checkcast index, 3)) :
    ∃ (vm' : Vm) (k1 k2 : Class), Stand p l e R s m args below meth c (T.setVm vm') locs cells slots ∧ s.vm.Alike vm' ∧ vm'.classes[cell.cls]? = some k1 ∧ vm'.classes[cT]? = some k2 ∧
      ∀ target, Steps p.tables e below (((T.setVm vm').setTop g).pushFrame (.throwNew "java/lang/ClassCastException" (some (checkcast.message vm' k1 k2)) none)) target → Steps p.tables e below (T.setTop g) target := by
  have hpl : e.platform.magicAccessors = ({} : Platform).magicAccessors := by rw [X.admits.platform]
  obtain ⟨c', hc', hcl⟩ := Cond.classLink_spec hown hlink e.platform hpl
  cases hcT.symm.trans hc'
  obtain ⟨dk, _, _, kt, hd, _, _, _, _, hkt, _, hopen⟩ := hcl.here
  have hcl₀ := X.warmed.classLinks hcl
  have hW' : s.WarmedH (T.vm.noted m.cls index (.cls cT)) := X.warmed.noted hd hopen (State.rightAt_cls hcl)
  obtain ⟨ks', hks', -⟩ := hW'.alike.2.2 _ _ hks
  obtain ⟨kt', hkt', -⟩ := hW'.alike.2.2 _ _ hkt
  refine ⟨_, ks', kt', X.noted hW', hW'.alike, hks', hkt', fun target hrest => ?_⟩
  subst hg
  jvm_step X.here [hexec, hdg, checkcast.wp_cold (e := e) (s := T) (f := g) X.here.top hstack (resolveClass_links e.toSetting hcl₀) hcl₀.ready,
    checkcast.wp_ready (e := e) (s := T.setVm (T.vm.noted g.method.cls index (.cls cT))) (f := g) X.here.top hcl₀.ready hstack]
  refine ⟨cell, hcell, VmData.noStatics_of hobj, ks', hks', kt', hkt', ?_⟩
  have h1 : (T.vm.noted g.method.cls index (Resolved.cls cT)).assignable cell.cls cT = false := by rw [hW'.alike.assignable]; exact hasg
  simp only [h1]
  exact hrest
end VC9
theorem sby_len (u : Array UInt16) : (stringBytes u).size ≤ 2 * u.size := by
  unfold stringBytes
  split
  · rw [Array.size_map]; omega
  · rw [Array.size_flatMap]
    have : ∀ l : List UInt16, (l.map fun (u : UInt16) => (#[byteValue u.toUInt8, byteValue (u >>> 8).toUInt8]).size).sum = 2 * l.length := by
      intro l
      induction l with
      | nil => rfl
      | cons a l ih =>
        rw [List.map_cons, List.sum_cons, ih, List.length_cons]
        show 2 + 2 * l.length = _
        omega
    have h2 := this u.toList
    rw [← Array.sum_toList, Array.toList_map, h2, Array.length_toList]
    exact Nat.le_refl _
theorem u16_len (t : String) : (stringToUtf16 t).size ≤ 2 * t.toList.length := by
  unfold stringToUtf16
  have : ∀ (l : List Char) (acc : Array UInt16), (l.foldl (init := acc) fun acc c =>
    if c.toNat < 0x10000 then acc.push c.toNat.toUInt16
    else if 0x100000 ≤ c.toNat && c.toNat ≤ 0x1007FF then acc.push (0xD800 + (c.toNat - 0x100000)).toUInt16
    else (acc.push (0xD800 + (c.toNat - 0x10000) / 0x400).toUInt16).push (0xDC00 + (c.toNat - 0x10000) % 0x400).toUInt16).size ≤ acc.size + 2 * l.length := by
    intro l
    induction l with
    | nil => intro acc; simp
    | cons a l ih =>
      intro acc
      rw [List.foldl_cons]
      refine Nat.le_trans (ih _) ?_
      rw [List.length_cons]
      split
      · rw [Array.size_push]; omega
      · split
        · rw [Array.size_push]; omega
        · rw [Array.size_push, Array.size_push]; omega
  have h := this t.toList #[]
  simpa using h
theorem home_len {vm : Vm} {k : Class} (hm : (vm.modules.all fun m => m.loader.isSome || m.name == "java.base" || !(castPackages_1.any fun p => m.packages.contains p)) = true) (hp : packageOf k.name = "") (hl : k.loader = none) : (vm.home k).toList.length ≤ 38 := by
  have key : ∀ md, vm.moduleOf k = some md → md.name = "java.base" := by
    intro md h
    unfold Vm.moduleOf at h
    split at h
    · have := List.find?_some h
      exact eq_of_beq this
    · have h1 := List.find?_some h
      have h2 := List.mem_of_find?_eq_some h
      have h3 := List.all_eq_true.mp hm md h2
      rw [hp, hl, Bool.and_eq_true] at h1
      have h4 : md.loader = none := eq_of_beq h1.1
      rw [h4] at h3
      have h5 : (castPackages_1.any fun p => md.packages.contains p) = true := by
        unfold castPackages_1
        simp only [List.any_cons, h1.2, Bool.true_or]
      rw [h5] at h3
      simpa using h3
  unfold Vm.home
  rw [hl]
  cases h : vm.moduleOf k with
  | none =>
    show ("unnamed module of loader 'bootstrap'".toList.length ≤ 38)
    decide
  | some md =>
    show (("module " ++ md.name) ++ " of loader " ++ vm.loaderName none).toList.length ≤ 38
    rw [key md h]
    show ("module java.base of loader 'bootstrap'".toList.length ≤ 38)
    decide
theorem shown_len {k : Class} (hh : k.hidden = none) : k.shown.toList.length = k.name.toList.length := by
  unfold Class.shown
  rw [hh]
  show (dotted k.name).toList.length = _
  unfold dotted turned
  rw [String.toList_ofList, List.length_map]
theorem msg_len {vm : Vm} {a b : Class} (hm : (vm.modules.all fun m => m.loader.isSome || m.name == "java.base" || !(castPackages_1.any fun p => m.packages.contains p)) = true) (hp : packageOf a.name = "") (hl : a.loader = none) (hh : a.hidden = none) (hp2 : packageOf b.name = "") (hl2 : b.loader = none) (hh2 : b.hidden = none) (h1 : a.name.toList.length ≤ 20) (h2 : b.name.toList.length ≤ 20) : (checkcast.message vm a b).toList.length ≤ 210 ∧ ((checkcast.message vm a b) == notModelled) = false := by
  have e1 := shown_len hh
  have e2 := shown_len hh2
  have e3 := home_len hm hp hl
  have e4 := home_len hm hp2 hl2
  constructor
  · unfold checkcast.message Vm.homes
    split
    · simp only [String.toList_append, List.length_append, toString]
      rw [e1, e2]
      simp
      omega
    · simp only [String.toList_append, List.length_append, toString]
      rw [e1, e2]
      simp
      omega
  · rw [beq_eq_false_iff_ne]
    intro z
    have z2 := congrArg (fun s : String => s.toList.head?) z
    unfold checkcast.message at z2
    simp [String.toList_append] at z2
    have z3 : (toString "class ").toList.head? = some 'c' := by decide
    have z4 : notModelled.toList.head? = some (Char.ofNat 0) := by decide
    rw [z3, z4] at z2
    have z5 : (some 'c' : Option Char) = some (Char.ofNat 0) := z2
    exact absurd z5 (by decide)
theorem find_k {vm : Vm} {C : String} {c : ClassId} (h : vm.findClass C = some c) : ∃ k, vm.classes[c]? = some k ∧ k.name = C ∧ k.hidden = none ∧ k.loader = none := by
  obtain ⟨hlt, hp, _⟩ := Array.findIdx?_eq_some_iff_getElem.mp h
  refine ⟨vm.classes[c], by simp [hlt], ?_⟩
  simp only [Bool.and_eq_true, beq_iff_eq] at hp
  exact ⟨hp.1.1.1, by simpa using hp.1.1.2, by simpa using hp.2⟩
section VC8
variable {p : Program} {l : Launch} {e : Env} {R : Room} {s : State} {m : MethodId} {args : Array Value} {below : List Frame} {meth : Method} {c : Code} {H : Heap} {locs : List Loc} {cells slots : Nat} {Q : State → Prop} {cc : ByteArray} {pc : Nat} {ls : Array Slot} {rest : List Value} {a : Nat}
/-- a cast that fails -/
theorem vx_castNo (hexec : p.tables.exec = Jvm.exec) (hb : c.code = cc) {own C nm : String} {index : Nat} (hown : s.vm.findClass own = some m.cls) (hlink : (Cond.classLink own index nm).before args s = true) (hc : va_Nc C nm s) (hm : modulesRight_1 s = true) (hp : packageOf C = "" ∧ packageOf nm = "" ∧ C.toList.length ≤ 20 ∧ nm.toList.length ≤ 20)
    (hr : ∃ cell : Cell, H[a]? = some cell ∧ cell.vm.isStatics = false ∧ s.vm.findClass C = some cell.cls) (hdg : decode cc pc = .ok (.checkcast index, 3))
    (k : ∀ text : String, (text == notModelled) = false → text.toList.length ≤ 210 → vx_Note p l e R s m args below meth c H locs cells slots Q (F0 m pc ls (.ref a :: rest)) "java/lang/ClassCastException" text) : W p l e R s m args below meth c H locs cells slots Q (F0 m pc ls (.ref a :: rest)) := by
  obtain ⟨cell, h1, h2, h3⟩ := hr
  obtain ⟨c0, t0, f1, f2, f3⟩ := hc
  cases h3.symm.trans f1
  intro T hT X
  obtain ⟨ks, hks, -⟩ := Vm.findClass_spec h3
  obtain ⟨vm', k1, k2, X', hal, g1, g2, st⟩ := va_castofNo X hexec hown hlink (by rw [hT]; exact h1) h2 hks f2 f3 (g := F0 m pc ls (.ref a :: rest)) rfl rfl (by rw [hb]; exact hdg)
  obtain ⟨j1, u1, u2, u3, u4⟩ := find_k (vm := vm') (C := C) (by rw [hal.findClass]; exact h3)
  obtain ⟨j2, v1, v2, v3, v4⟩ := find_k (vm := vm') (C := nm) (by rw [hal.findClass]; exact f2)
  cases u1.symm.trans g1
  cases v1.symm.trans g2
  have hm2 : modulesRight_1 (T.setVm vm') = true := modulesRight_moved hal hm
  obtain ⟨w1, w2⟩ := msg_len (vm := vm') (a := k1) (b := k2) hm2 (by rw [u2]; exact hp.1) u4 u3 (by rw [v2]; exact hp.2.1) v4 v3 (by rw [u2]; exact hp.2.2.1) (by rw [v2]; exact hp.2.2.2)
  obtain ⟨t, a1, b1⟩ := k _ w2 w1 (T.setVm vm') hT X'
  exact ⟨t, st t a1, b1⟩
end VC8
section VC7
variable {σ : Type} {p : Program} {l : Launch} {e : Env} {R : Room} {s : State} {m : MethodId} {args : Array Value} {below : List Frame} {meth : Method} {c : Code} {Q : State → Prop} {D : va_G} {cl : List vw_C} {A : Nat → Prop} {Wd : σ → va_W} {nL ce sl : Nat} {g : σ} {pc : Nat} {lv : List (Nat × Value)} {st : List Value} {cc : ByteArray} {own : String} {tys : List (ClassId × FieldType)} {aK aV : Nat → Nat}
abbrev exN : List String := ["java/lang/RuntimeException", "java/lang/Exception"]
theorem P_kept {H H1 : Heap} (hP : va_P D cl (Wd g) H) (h : ∀ q : Nat, q < H.size → H1[q]? = H[q]?) : va_P D cl (Wd g) H1 := hP.kept (fun k x hx => h x.1 ((hP k x hx).lt))
theorem tx_note (Y : CY p c cc nL s args own m meth D cl tys A aK aV) (hl : l.stackTraces = false) {E text : String} (hA : ∀ w ∈ vx_atM E exN, w ∈ lw_all ∨ w ∈ nwL) (hG : (vx_atM E exN).all vx_ot = true) (hE : Bundle.fit E = true ∧ (E == "java/lang/StackOverflowError") = false ∧ (E == "java/lang/OutOfMemoryError") = false) (htx : (text == notModelled) = false) (hlen : text.toList.length ≤ 250) (hR : 6 < R.frames ∧ 10250 ≤ R.locals) (hc : ce + 3 ≤ R.cells ∧ sl + 1010 ≤ R.slots) (hW : (st.map fun v => v.category).sum ≤ 10) {H : Heap} (hP : va_P D cl (Wd g) H) (hD : va_D A (Wd g)) (kk : ∀ (t : State) (q : Addr), BW D cl A Wd g t → TV p l e R s m args below meth c Q A nL (ce + 3) (sl + 1010) t.heap pc lv st E q) {locs : List Loc} {ls : Array Slot} (hls : lv_has ls nL lv) (hS : va_S A s.heap H locs) : vx_Note p l e R s m args below meth c H locs ce sl Q (F0 m pc ls st) E text := by
  refine vx_vm (nb := 1000) Y.x.hx hl hE.1 (by decide) hE.2.1 hE.2.2 (fun w hw => (hA w hw).elim (fun h => Y.x.hts _ h) (fun h => va_Nw.use (nwL_K w h).on (Y.x.hN.1 _ h))) (fun w hw => List.all_eq_true.mp hG w hw) Y.n.2.2.2.2.1 Y.n.2.2.2.2.2.1 hS (hls.1.trans Y.x.hml.symm) htx (Nat.le_trans (sby_len _) (by have := u16_len text; omega)) (Nat.le_refl _) hR.1 (by omega) (Nat.le_of_ble_eq_true rfl) hc.1 hc.2 Y.x.hlocks (fun H1 q9 c9 h1 h2 h3 h4 h5 h6 => ?_)
  exact kk { s with heap := H1 } q9 ⟨P_kept hP h2, hD⟩ locs ls c9 hls h3 h4 h5 h6
theorem tx_noteN (Y : CY p c cc nL s args own m meth D cl tys A aK aV) (hl : l.stackTraces = false) (hR : 7 < R.frames ∧ 10250 ≤ R.locals) (hc : ce + 1 ≤ R.cells ∧ sl + 8 ≤ R.slots) (hW : (st.map fun v => v.category).sum ≤ 10) {H : Heap} (hP : va_P D cl (Wd g) H) (hD : va_D A (Wd g)) (kk : ∀ (t : State) (q : Addr), BW D cl A Wd g t → TV p l e R s m args below meth c Q A nL (ce + 1) (sl + 8) t.heap pc lv st "java/lang/NullPointerException" q) {locs : List Loc} {ls : Array Slot} (hls : lv_has ls nL lv) (hS : va_S A s.heap H locs) : vx_NoteN p l e R s m args below meth c H locs ce sl Q (F0 m pc ls st) := by
  refine vx_npe (nb := 8) Y.x.hx hl (fun w hw => (at_NPE w hw).elim (fun h => Y.x.hts _ h) (fun h => va_Nw.use (nwL_K w h).on (Y.x.hN.1 _ h))) (fun w hw => List.all_eq_true.mp ao_NPE w hw) Y.n.2.2.2.2.1 Y.n.2.2.2.2.2.1 hS (hls.1.trans Y.x.hml.symm) hR.1 (by omega) hc.1 hc.2 Y.x.hlocks (fun H1 q9 c9 h1 h2 h3 h4 h5 h6 => ?_)
  exact kk { s with heap := H1 } q9 ⟨P_kept hP h2, hD⟩ locs ls c9 hls h3 h4 h5 h6
/-- division by 0 -/
theorem tx_idivZ (Y : CY p c cc nL s args own m meth D cl tys A aK aV) (hl : l.stackTraces = false) {x : Int32} (hR : 6 < R.frames ∧ 10250 ≤ R.locals) (hc : ce + 3 ≤ R.cells ∧ sl + 1010 ≤ R.slots) (hW : (st.map fun v => v.category).sum ≤ 10) (hdg : decode cc pc = .ok (.idiv, 1)) (kk : ∀ (t : State) (q : Addr), BW D cl A Wd g t → TV p l e R s m args below meth c Q A nL (ce + 3) (sl + 1010) t.heap pc lv st "java/lang/ArithmeticException" q) : TW p l e R s m args below meth c Q D cl A Wd nL ce sl g pc lv (.int 0 :: .int x :: st) :=
  fun H locs ls hls hP hD hS => vx_idivZ Y.x.hx Y.x.hb rfl hdg (tx_note Y hl at_ARI ao_ARI (by decide +kernel) (by decide +kernel) (by decide +kernel) hR hc hW hP hD kk hls hS)
/-- a size below 0 -/
theorem tx_newZ (Y : CY p c cc nL s args own m meth D cl tys A aK aV) (hl : l.stackTraces = false) {n : Int32} {atype : ArrayType} (hn : n < 0) (hR : 6 < R.frames ∧ 10250 ≤ R.locals) (hc : ce + 3 ≤ R.cells ∧ sl + 1010 ≤ R.slots) (hW : (st.map fun v => v.category).sum ≤ 10) (hdg : decode cc pc = .ok (.newarray atype, 2)) (htx : ∀ tx : String, tx = toString n → (tx == notModelled) = false ∧ tx.toList.length ≤ 250) (kk : ∀ (t : State) (q : Addr), BW D cl A Wd g t → TV p l e R s m args below meth c Q A nL (ce + 3) (sl + 1010) t.heap pc lv st "java/lang/NegativeArraySizeException" q) : TW p l e R s m args below meth c Q D cl A Wd nL ce sl g pc lv (.int n :: st) :=
  fun H locs ls hls hP hD hS => vx_newarrayZ Y.x.hx Y.x.hb hn hdg (fun tx htx2 => tx_note Y hl at_NAS ao_NAS (by decide +kernel) (htx tx htx2).1 (htx tx htx2).2 hR hc hW hP hD kk hls hS)
/-- a cast that fails -/
theorem tx_castN (Y : CY p c cc nL s args own m meth D cl tys A aK aV) (hl : l.stackTraces = false) {C nm : String} {index a : Nat} (hlink : Cond.classLink own index nm ∈ lw_all) (hnc : (C, nm) ∈ ncL) (hp : packageOf C = "" ∧ packageOf nm = "" ∧ C.toList.length ≤ 20 ∧ nm.toList.length ≤ 20) (hr : ∀ H : Heap, va_P D cl (Wd g) H → ∃ cell : Cell, H[a]? = some cell ∧ cell.vm.isStatics = false ∧ s.vm.findClass C = some cell.cls) (hR : 6 < R.frames ∧ 10250 ≤ R.locals) (hc : ce + 3 ≤ R.cells ∧ sl + 1010 ≤ R.slots) (hW : (st.map fun v => v.category).sum ≤ 9) (hdg : decode cc pc = .ok (.checkcast index, 3)) (kk : ∀ (t : State) (q : Addr), BW D cl A Wd g t → TV p l e R s m args below meth c Q A nL (ce + 3) (sl + 1010) t.heap pc lv (.ref a :: st) "java/lang/ClassCastException" q) : TW p l e R s m args below meth c Q D cl A Wd nL ce sl g pc lv (.ref a :: st) :=
  fun H locs ls hls hP hD hS => vx_castNo Y.x.hx Y.x.hb Y.x.hown (Y.x.hts _ hlink) (Y.n.2.2.2.2.2.2.1 (C, nm) hnc) Y.n.2.2.2.2.2.2.2 hp (hr H hP) hdg (fun tx h1 h2 => tx_note Y hl at_CCE ao_CCE (by decide +kernel) h1 (by omega) hR hc (by show ((Value.ref a :: st).map fun v => v.category).sum ≤ 10; rw [List.map_cons, List.sum_cons]; show 1 + _ ≤ 10; omega) hP hD kk hls hS)
/-- the length of nothing -/
theorem tx_alenN (Y : CY p c cc nL s args own m meth D cl tys A aK aV) (hl : l.stackTraces = false) (hR : 7 < R.frames ∧ 10250 ≤ R.locals) (hc : ce + 1 ≤ R.cells ∧ sl + 8 ≤ R.slots) (hW : (st.map fun v => v.category).sum ≤ 10) (hdg : decode cc pc = .ok (.arraylength, 1)) (kk : ∀ (t : State) (q : Addr), BW D cl A Wd g t → TV p l e R s m args below meth c Q A nL (ce + 1) (sl + 8) t.heap pc lv st "java/lang/NullPointerException" q) : TW p l e R s m args below meth c Q D cl A Wd nL ce sl g pc lv (.null :: st) :=
  fun H locs ls hls hP hD hS => vx_arraylengthN Y.x.hx Y.x.hb hdg (tx_noteN Y hl hR hc hW hP hD kk hls hS)
/-- a method of nothing -/
theorem tx_invN (Y : CY p c cc nL s args own m meth D cl tys A aK aV) (hl : l.stackTraces = false) {C : String} {index maxL : Nat} {y : MethodName} {bytes : ByteArray} {ret : Option FieldType} (h1 : Cond.methodLink own index y ∈ lw_all) (h2 : Cond.instanceMethod y ∈ lw_all) (h3 : Cond.code y bytes maxL ret ∈ lw_all) (h4 : Cond.selects C y y ∈ lw_all) (h5 : y.cls ≠ "java/lang/invoke/MethodHandle" ∧ y.cls ≠ "java/lang/invoke/VarHandle") (h6 : (parseMethodDescriptor y.desc).map (fun d => d.parameters.length) = some 0) (hR : 7 < R.frames ∧ 10250 ≤ R.locals) (hc : ce + 1 ≤ R.cells ∧ sl + 8 ≤ R.slots) (hW : (st.map fun v => v.category).sum ≤ 10) (hdg : decode cc pc = .ok (.invokevirtual index, 3)) (kk : ∀ (t : State) (q : Addr), BW D cl A Wd g t → TV p l e R s m args below meth c Q A nL (ce + 1) (sl + 8) t.heap pc lv st "java/lang/NullPointerException" q) : TW p l e R s m args below meth c Q D cl A Wd nL ce sl g pc lv (.null :: st) :=
  fun H locs ls hls hP hD hS => vx_invokeN (As := []) Y.x.hx Y.x.hb Y.x.hown (Y.x.hts _ h1) (Y.x.hts _ h2) (Y.x.hts _ h3) (Y.x.hts _ h4) h5 h6 hdg (tx_noteN Y hl hR hc hW hP hD kk hls hS) rfl
end VC7
