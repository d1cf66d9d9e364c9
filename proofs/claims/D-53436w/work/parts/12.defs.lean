/-! printed by tools/drive.py -/
set_option maxRecDepth 100000
theorem hf0 {k : Nat} (h : k = 10) : hasF 0 k = true := by subst h; rfl
theorem hf1 {k : Nat} (h : k = 10) : hasF 1 k = true := by subst h; rfl
theorem hf2 {k : Nat} (h : k = 10) : hasF 2 k = true := by subst h; rfl
theorem hf3 {k : Nat} (h : k = 11) : hasF 3 k = true := by subst h; rfl
theorem hf4 {k : Nat} (h : k = 11) : hasF 4 k = true := by subst h; rfl
theorem hf5 {k : Nat} (h : k = 11) : hasF 5 k = true := by subst h; rfl
theorem hf6 {k : Nat} (h : k = 11) : hasF 6 k = true := by subst h; rfl
theorem hf7 {k : Nat} (h : k = 11) : hasF 7 k = true := by subst h; rfl
theorem hf8 {k : Nat} (h : k = 11) : hasF 8 k = true := by subst h; rfl
theorem hf9 {k : Nat} (h : k = 11) : hasF 9 k = true := by subst h; rfl
theorem hf10 {k : Nat} (h : k = 11) : hasF 10 k = true := by subst h; rfl
theorem hf11 {k : Nat} (h : k = 11) : hasF 11 k = true := by subst h; rfl
theorem hf12 {k : Nat} (h : k = 11) : hasF 12 k = true := by subst h; rfl
theorem hf13 {k : Nat} (h : k = 11) : hasF 13 k = true := by subst h; rfl
theorem hf14 {k : Nat} (h : k = 11) : hasF 14 k = true := by subst h; rfl
theorem hf15 {k : Nat} (h : k = 12) : hasF 15 k = true := by subst h; rfl
theorem hf16 {k : Nat} (h : k = 12) : hasF 16 k = true := by subst h; rfl
theorem hf17 {k : Nat} (h : k = 12) : hasF 17 k = true := by subst h; rfl
theorem hf19 {k : Nat} (h : k = 13) : hasF 19 k = true := by subst h; rfl
theorem hf20 {k : Nat} (h : k = 13) : hasF 20 k = true := by subst h; rfl
theorem hf21 {k : Nat} (h : k = 13) : hasF 21 k = true := by subst h; rfl
theorem hf22 {k : Nat} (h : k = 13) : hasF 22 k = true := by subst h; rfl
theorem hf23 {k : Nat} (h : k = 13) : hasF 23 k = true := by subst h; rfl
theorem hf24 {k : Nat} (h : k = 13) : hasF 24 k = true := by subst h; rfl
theorem hf25 {k : Nat} (h : k = 13) : hasF 25 k = true := by subst h; rfl
theorem hf26 {k : Nat} (h : k = 13) : hasF 26 k = true := by subst h; rfl
theorem hf27 {k : Nat} (h : k = 13) : hasF 27 k = true := by subst h; rfl
theorem hf28 {k : Nat} (h : k = 13) : hasF 28 k = true := by subst h; rfl
theorem hf29 {k : Nat} (h : k = 13) : hasF 29 k = true := by subst h; rfl
theorem hf30 {k : Nat} (h : k = 13) : hasF 30 k = true := by subst h; rfl
theorem hf31 {k : Nat} (h : k = 14) : hasF 31 k = true := by subst h; rfl
theorem hf32 {k : Nat} (h : k = 14) : hasF 32 k = true := by subst h; rfl
theorem hf33 {k : Nat} (h : k = 15) : hasF 33 k = true := by subst h; rfl
theorem hf34 {k : Nat} (h : k = 15) : hasF 34 k = true := by subst h; rfl
theorem hf35 {k : Nat} (h : k = 15) : hasF 35 k = true := by subst h; rfl
theorem hf36 {k : Nat} (h : k = 15) : hasF 36 k = true := by subst h; rfl
theorem hf37 {k : Nat} (h : k = 16) : hasF 37 k = true := by subst h; rfl
theorem hf38 {k : Nat} (h : k = 16) : hasF 38 k = true := by subst h; rfl
theorem hf39 {k : Nat} (h : k = 17) : hasF 39 k = true := by subst h; rfl
theorem hf40 {k : Nat} (h : k = 17) : hasF 40 k = true := by subst h; rfl
theorem hf41 {k : Nat} (h : k = 17) : hasF 41 k = true := by subst h; rfl
theorem hf42 {k : Nat} (h : k = 17) : hasF 42 k = true := by subst h; rfl
theorem hf43 {k : Nat} (h : k = 17) : hasF 43 k = true := by subst h; rfl
theorem hf44 {k : Nat} (h : k = 18) : hasF 44 k = true := by subst h; rfl
theorem hf45 {k : Nat} (h : k = 18) : hasF 45 k = true := by subst h; rfl
theorem hf46 {k : Nat} (h : k = 18) : hasF 46 k = true := by subst h; rfl
theorem hf47 {k : Nat} (h : k = 19) : hasF 47 k = true := by subst h; rfl
theorem hf49 {k : Nat} (h : k = 19) : hasF 49 k = true := by subst h; rfl
theorem hf50 {k : Nat} (h : k = 19) : hasF 50 k = true := by subst h; rfl
theorem hf51 {k : Nat} (h : k = 20) : hasF 51 k = true := by subst h; rfl
theorem hf52 {k : Nat} (h : k = 20) : hasF 52 k = true := by subst h; rfl
theorem hf53 {k : Nat} (h : k = 20) : hasF 53 k = true := by subst h; rfl
theorem hf54 {k : Nat} (h : k ∈ [21, 22]) : hasF 54 k = true := by simp only [List.mem_cons, List.not_mem_nil, or_false] at h; rcases h with rfl | rfl <;> rfl
theorem hf56 {k : Nat} (h : k ∈ [21, 22]) : hasF 56 k = true := by simp only [List.mem_cons, List.not_mem_nil, or_false] at h; rcases h with rfl | rfl <;> rfl
theorem hf57 {k : Nat} (h : k ∈ [21, 22]) : hasF 57 k = true := by simp only [List.mem_cons, List.not_mem_nil, or_false] at h; rcases h with rfl | rfl <;> rfl
theorem hf58 {k : Nat} (h : k ∈ [21, 22]) : hasF 58 k = true := by simp only [List.mem_cons, List.not_mem_nil, or_false] at h; rcases h with rfl | rfl <;> rfl
theorem hf59 {k : Nat} (h : k ∈ [21, 22]) : hasF 59 k = true := by simp only [List.mem_cons, List.not_mem_nil, or_false] at h; rcases h with rfl | rfl <;> rfl
theorem hf60 {k : Nat} (h : k ∈ [21, 22]) : hasF 60 k = true := by simp only [List.mem_cons, List.not_mem_nil, or_false] at h; rcases h with rfl | rfl <;> rfl
theorem hf62 {k : Nat} (h : k = 21) : hasF 62 k = true := by subst h; rfl
theorem hf63 {k : Nat} (h : k = 21) : hasF 63 k = true := by subst h; rfl
theorem hf64 {k : Nat} (h : k = 21) : hasF 64 k = true := by subst h; rfl
theorem hf65 {k : Nat} (h : k = 21) : hasF 65 k = true := by subst h; rfl
theorem hf66 {k : Nat} (h : k = 23) : hasF 66 k = true := by subst h; rfl
theorem hf67 {k : Nat} (h : k = 23) : hasF 67 k = true := by subst h; rfl
theorem hf68 {k : Nat} (h : k = 23) : hasF 68 k = true := by subst h; rfl
theorem hf69 {k : Nat} (h : k = 23) : hasF 69 k = true := by subst h; rfl
theorem hf70 {k : Nat} (h : k = 24) : hasF 70 k = true := by subst h; rfl
theorem hf71 {k : Nat} (h : k = 24) : hasF 71 k = true := by subst h; rfl
theorem hf74 {k : Nat} (h : k = 25) : hasF 74 k = true := by subst h; rfl
theorem hf75 {k : Nat} (h : k = 25) : hasF 75 k = true := by subst h; rfl
theorem hf76 {k : Nat} (h : k = 26) : hasF 76 k = true := by subst h; rfl
theorem hf77 {k : Nat} (h : k = 26) : hasF 77 k = true := by subst h; rfl
theorem hf78 {k : Nat} (h : k ∈ [27, 28]) : hasF 78 k = true := by simp only [List.mem_cons, List.not_mem_nil, or_false] at h; rcases h with rfl | rfl <;> rfl
theorem hf80 {k : Nat} (h : k ∈ [27, 28]) : hasF 80 k = true := by simp only [List.mem_cons, List.not_mem_nil, or_false] at h; rcases h with rfl | rfl <;> rfl
theorem hf81 {k : Nat} (h : k ∈ [27, 28]) : hasF 81 k = true := by simp only [List.mem_cons, List.not_mem_nil, or_false] at h; rcases h with rfl | rfl <;> rfl
theorem hf82 {k : Nat} (h : k ∈ [27, 28]) : hasF 82 k = true := by simp only [List.mem_cons, List.not_mem_nil, or_false] at h; rcases h with rfl | rfl <;> rfl
theorem hf83 {k : Nat} (h : k ∈ [29, 6]) : hasF 83 k = true := by simp only [List.mem_cons, List.not_mem_nil, or_false] at h; rcases h with rfl | rfl <;> rfl
theorem hf84 {k : Nat} (h : k ∈ [30, 31, 32]) : hasF 84 k = true := by simp only [List.mem_cons, List.not_mem_nil, or_false] at h; rcases h with rfl | rfl | rfl <;> rfl
theorem hf85 {k : Nat} (h : k ∈ [30, 31, 32]) : hasF 85 k = true := by simp only [List.mem_cons, List.not_mem_nil, or_false] at h; rcases h with rfl | rfl | rfl <;> rfl
theorem hf86 {k : Nat} (h : k ∈ [30, 31, 32]) : hasF 86 k = true := by simp only [List.mem_cons, List.not_mem_nil, or_false] at h; rcases h with rfl | rfl | rfl <;> rfl
theorem hf87 {k : Nat} (h : k ∈ [30, 31, 32]) : hasF 87 k = true := by simp only [List.mem_cons, List.not_mem_nil, or_false] at h; rcases h with rfl | rfl | rfl <;> rfl
theorem hf88 {k : Nat} (h : k ∈ [31, 32]) : hasF 88 k = true := by simp only [List.mem_cons, List.not_mem_nil, or_false] at h; rcases h with rfl | rfl <;> rfl
theorem hf89 {k : Nat} (h : k ∈ [31, 32]) : hasF 89 k = true := by simp only [List.mem_cons, List.not_mem_nil, or_false] at h; rcases h with rfl | rfl <;> rfl
theorem hf90 {k : Nat} (h : k = 32) : hasF 90 k = true := by subst h; rfl
theorem hf91 {k : Nat} (h : k = 32) : hasF 91 k = true := by subst h; rfl
theorem hf92 {k : Nat} (h : k = 32) : hasF 92 k = true := by subst h; rfl
theorem hf93 {k : Nat} (h : k = 32) : hasF 93 k = true := by subst h; rfl
theorem hf94 {k : Nat} (h : k = 32) : hasF 94 k = true := by subst h; rfl
theorem hf95 {k : Nat} (h : k = 33) : hasF 95 k = true := by subst h; rfl
theorem hp0 {k : Nat} (h : k = 10) : hasF 0 k = true := by subst h; rfl
theorem hp1 {k : Nat} (h : k = 10) : hasF 1 k = true := by subst h; rfl
theorem hp2 {k : Nat} (h : k = 10) : hasF 2 k = true := by subst h; rfl
theorem hp3 {k : Nat} (h : k = 11) : hasF 3 k = true := by subst h; rfl
theorem hp4 {k : Nat} (h : k = 11) : hasF 4 k = true := by subst h; rfl
theorem hp5 {k : Nat} (h : k = 11) : hasF 5 k = true := by subst h; rfl
theorem hp6 {k : Nat} (h : k = 11) : hasF 6 k = true := by subst h; rfl
theorem hp7 {k : Nat} (h : k = 11) : hasF 7 k = true := by subst h; rfl
theorem hp8 {k : Nat} (h : k = 11) : hasF 8 k = true := by subst h; rfl
theorem hp9 {k : Nat} (h : k = 11) : hasF 9 k = true := by subst h; rfl
theorem hp10 {k : Nat} (h : k = 11) : hasF 10 k = true := by subst h; rfl
theorem hp11 {k : Nat} (h : k = 11) : hasF 11 k = true := by subst h; rfl
theorem hp12 {k : Nat} (h : k = 11) : hasF 12 k = true := by subst h; rfl
theorem hp13 {k : Nat} (h : k = 11) : hasF 13 k = true := by subst h; rfl
theorem hp14 {k : Nat} (h : k = 11) : hasF 14 k = true := by subst h; rfl
theorem hp15 {k : Nat} (h : k = 12) : hasF 15 k = true := by subst h; rfl
theorem hp16 {k : Nat} (h : k = 12) : hasF 16 k = true := by subst h; rfl
theorem hp17 {k : Nat} (h : k = 12) : hasF 17 k = true := by subst h; rfl
theorem hp18 {k : Nat} (h : k = 13) : hasF 18 k = true := by subst h; rfl
theorem hp19 {k : Nat} (h : k = 13) : hasF 19 k = true := by subst h; rfl
theorem hp20 {k : Nat} (h : k = 13) : hasF 20 k = true := by subst h; rfl
theorem hp21 {k : Nat} (h : k = 13) : hasF 21 k = true := by subst h; rfl
theorem hp22 {k : Nat} (h : k = 13) : hasF 22 k = true := by subst h; rfl
theorem hp23 {k : Nat} (h : k = 13) : hasF 23 k = true := by subst h; rfl
theorem hp24 {k : Nat} (h : k = 13) : hasF 24 k = true := by subst h; rfl
theorem hp25 {k : Nat} (h : k = 13) : hasF 25 k = true := by subst h; rfl
theorem hp26 {k : Nat} (h : k = 13) : hasF 26 k = true := by subst h; rfl
theorem hp27 {k : Nat} (h : k = 13) : hasF 27 k = true := by subst h; rfl
theorem hp28 {k : Nat} (h : k = 13) : hasF 28 k = true := by subst h; rfl
theorem hp29 {k : Nat} (h : k = 13) : hasF 29 k = true := by subst h; rfl
theorem hp30 {k : Nat} (h : k = 13) : hasF 30 k = true := by subst h; rfl
theorem hp31 {k : Nat} (h : k = 14) : hasF 31 k = true := by subst h; rfl
theorem hp32 {k : Nat} (h : k = 14) : hasF 32 k = true := by subst h; rfl
theorem hp33 {k : Nat} (h : k = 15) : hasF 33 k = true := by subst h; rfl
theorem hp34 {k : Nat} (h : k = 15) : hasF 34 k = true := by subst h; rfl
theorem hp35 {k : Nat} (h : k = 15) : hasF 35 k = true := by subst h; rfl
theorem hp36 {k : Nat} (h : k = 15) : hasF 36 k = true := by subst h; rfl
theorem hp37 {k : Nat} (h : k = 16) : hasF 37 k = true := by subst h; rfl
theorem hp38 {k : Nat} (h : k = 16) : hasF 38 k = true := by subst h; rfl
theorem hp39 {k : Nat} (h : k = 17) : hasF 39 k = true := by subst h; rfl
theorem hp40 {k : Nat} (h : k = 17) : hasF 40 k = true := by subst h; rfl
theorem hp41 {k : Nat} (h : k = 17) : hasF 41 k = true := by subst h; rfl
theorem hp42 {k : Nat} (h : k = 17) : hasF 42 k = true := by subst h; rfl
theorem hp43 {k : Nat} (h : k = 17) : hasF 43 k = true := by subst h; rfl
theorem hp44 {k : Nat} (h : k = 18) : hasF 44 k = true := by subst h; rfl
theorem hp45 {k : Nat} (h : k = 18) : hasF 45 k = true := by subst h; rfl
theorem hp46 {k : Nat} (h : k = 18) : hasF 46 k = true := by subst h; rfl
theorem hp47 {k : Nat} (h : k = 19) : hasF 47 k = true := by subst h; rfl
theorem hp48 {k : Nat} (h : k = 19) : hasF 48 k = true := by subst h; rfl
theorem hp49 {k : Nat} (h : k = 19) : hasF 49 k = true := by subst h; rfl
theorem hp50 {k : Nat} (h : k = 19) : hasF 50 k = true := by subst h; rfl
theorem hp51 {k : Nat} (h : k = 20) : hasF 51 k = true := by subst h; rfl
theorem hp52 {k : Nat} (h : k = 20) : hasF 52 k = true := by subst h; rfl
theorem hp53 {k : Nat} (h : k = 20) : hasF 53 k = true := by subst h; rfl
theorem hp54 {k : Nat} (h : k ∈ [21, 22]) : hasF 54 k = true := by simp only [List.mem_cons, List.not_mem_nil, or_false] at h; rcases h with rfl | rfl <;> rfl
theorem hp56 {k : Nat} (h : k ∈ [21, 22]) : hasF 56 k = true := by simp only [List.mem_cons, List.not_mem_nil, or_false] at h; rcases h with rfl | rfl <;> rfl
theorem hp57 {k : Nat} (h : k ∈ [21, 22]) : hasF 57 k = true := by simp only [List.mem_cons, List.not_mem_nil, or_false] at h; rcases h with rfl | rfl <;> rfl
theorem hp58 {k : Nat} (h : k ∈ [21, 22]) : hasF 58 k = true := by simp only [List.mem_cons, List.not_mem_nil, or_false] at h; rcases h with rfl | rfl <;> rfl
theorem hp59 {k : Nat} (h : k ∈ [21, 22]) : hasF 59 k = true := by simp only [List.mem_cons, List.not_mem_nil, or_false] at h; rcases h with rfl | rfl <;> rfl
theorem hp60 {k : Nat} (h : k ∈ [21, 22]) : hasF 60 k = true := by simp only [List.mem_cons, List.not_mem_nil, or_false] at h; rcases h with rfl | rfl <;> rfl
theorem hp61 {k : Nat} (h : k ∈ [21, 22]) : hasF 61 k = true := by simp only [List.mem_cons, List.not_mem_nil, or_false] at h; rcases h with rfl | rfl <;> rfl
theorem hp62 {k : Nat} (h : k = 21) : hasF 62 k = true := by subst h; rfl
theorem hp63 {k : Nat} (h : k = 21) : hasF 63 k = true := by subst h; rfl
theorem hp64 {k : Nat} (h : k = 21) : hasF 64 k = true := by subst h; rfl
theorem hp65 {k : Nat} (h : k = 21) : hasF 65 k = true := by subst h; rfl
theorem hp66 {k : Nat} (h : k = 23) : hasF 66 k = true := by subst h; rfl
theorem hp67 {k : Nat} (h : k = 23) : hasF 67 k = true := by subst h; rfl
theorem hp70 {k : Nat} (h : k = 24) : hasF 70 k = true := by subst h; rfl
theorem hp71 {k : Nat} (h : k = 24) : hasF 71 k = true := by subst h; rfl
theorem hp74 {k : Nat} (h : k = 25) : hasF 74 k = true := by subst h; rfl
theorem hp75 {k : Nat} (h : k = 25) : hasF 75 k = true := by subst h; rfl
theorem hp76 {k : Nat} (h : k = 26) : hasF 76 k = true := by subst h; rfl
theorem hp77 {k : Nat} (h : k = 26) : hasF 77 k = true := by subst h; rfl
theorem hp78 {k : Nat} (h : k ∈ [27, 28]) : hasF 78 k = true := by simp only [List.mem_cons, List.not_mem_nil, or_false] at h; rcases h with rfl | rfl <;> rfl
theorem hp79 {k : Nat} (h : k ∈ [27, 28]) : hasF 79 k = true := by simp only [List.mem_cons, List.not_mem_nil, or_false] at h; rcases h with rfl | rfl <;> rfl
theorem hp80 {k : Nat} (h : k ∈ [27, 28]) : hasF 80 k = true := by simp only [List.mem_cons, List.not_mem_nil, or_false] at h; rcases h with rfl | rfl <;> rfl
theorem hp81 {k : Nat} (h : k ∈ [27, 28]) : hasF 81 k = true := by simp only [List.mem_cons, List.not_mem_nil, or_false] at h; rcases h with rfl | rfl <;> rfl
theorem hp82 {k : Nat} (h : k ∈ [27, 28]) : hasF 82 k = true := by simp only [List.mem_cons, List.not_mem_nil, or_false] at h; rcases h with rfl | rfl <;> rfl
theorem hp83 {k : Nat} (h : k = 29) : hasF 83 k = true := by subst h; rfl
theorem hp84 {k : Nat} (h : k ∈ [30, 31, 32]) : hasF 84 k = true := by simp only [List.mem_cons, List.not_mem_nil, or_false] at h; rcases h with rfl | rfl | rfl <;> rfl
theorem hp85 {k : Nat} (h : k ∈ [30, 31, 32]) : hasF 85 k = true := by simp only [List.mem_cons, List.not_mem_nil, or_false] at h; rcases h with rfl | rfl | rfl <;> rfl
theorem hp86 {k : Nat} (h : k ∈ [30, 31, 32]) : hasF 86 k = true := by simp only [List.mem_cons, List.not_mem_nil, or_false] at h; rcases h with rfl | rfl | rfl <;> rfl
theorem hp87 {k : Nat} (h : k ∈ [30, 31, 32]) : hasF 87 k = true := by simp only [List.mem_cons, List.not_mem_nil, or_false] at h; rcases h with rfl | rfl | rfl <;> rfl
theorem hp88 {k : Nat} (h : k ∈ [31, 32]) : hasF 88 k = true := by simp only [List.mem_cons, List.not_mem_nil, or_false] at h; rcases h with rfl | rfl <;> rfl
theorem hp89 {k : Nat} (h : k ∈ [31, 32]) : hasF 89 k = true := by simp only [List.mem_cons, List.not_mem_nil, or_false] at h; rcases h with rfl | rfl <;> rfl
theorem hp90 {k : Nat} (h : k = 32) : hasF 90 k = true := by subst h; rfl
theorem hp91 {k : Nat} (h : k = 32) : hasF 91 k = true := by subst h; rfl
theorem hp92 {k : Nat} (h : k = 32) : hasF 92 k = true := by subst h; rfl
theorem hp93 {k : Nat} (h : k = 32) : hasF 93 k = true := by subst h; rfl
theorem hp94 {k : Nat} (h : k = 32) : hasF 94 k = true := by subst h; rfl
theorem hp95 {k : Nat} (h : k = 33) : hasF 95 k = true := by subst h; rfl
theorem nk0 {k : Nat} (h : k = 10) : ¬ k = 6 := by subst h; decide
theorem nk1 {k : Nat} (h : k = 10) : ¬ k = 6 := by subst h; decide
theorem nk2 {k : Nat} (h : k = 10) : ¬ k = 6 := by subst h; decide
theorem nk3 {k : Nat} (h : k = 11) : ¬ k = 6 := by subst h; decide
theorem nk4 {k : Nat} (h : k = 11) : ¬ k = 6 := by subst h; decide
theorem nk5 {k : Nat} (h : k = 11) : ¬ k = 6 := by subst h; decide
theorem nk6 {k : Nat} (h : k = 11) : ¬ k = 6 := by subst h; decide
theorem nk7 {k : Nat} (h : k = 11) : ¬ k = 6 := by subst h; decide
theorem nk8 {k : Nat} (h : k = 11) : ¬ k = 6 := by subst h; decide
theorem nk9 {k : Nat} (h : k = 11) : ¬ k = 6 := by subst h; decide
theorem nk10 {k : Nat} (h : k = 11) : ¬ k = 6 := by subst h; decide
theorem nk11 {k : Nat} (h : k = 11) : ¬ k = 6 := by subst h; decide
theorem nk12 {k : Nat} (h : k = 11) : ¬ k = 6 := by subst h; decide
theorem nk13 {k : Nat} (h : k = 11) : ¬ k = 6 := by subst h; decide
theorem nk14 {k : Nat} (h : k = 11) : ¬ k = 6 := by subst h; decide
theorem nk15 {k : Nat} (h : k = 12) : ¬ k = 6 := by subst h; decide
theorem nk16 {k : Nat} (h : k = 12) : ¬ k = 6 := by subst h; decide
theorem nk17 {k : Nat} (h : k = 12) : ¬ k = 6 := by subst h; decide
theorem nk18 {k : Nat} (h : k = 13) : ¬ k = 6 := by subst h; decide
theorem nk19 {k : Nat} (h : k = 13) : ¬ k = 6 := by subst h; decide
theorem nk20 {k : Nat} (h : k = 13) : ¬ k = 6 := by subst h; decide
theorem nk21 {k : Nat} (h : k = 13) : ¬ k = 6 := by subst h; decide
theorem nk22 {k : Nat} (h : k = 13) : ¬ k = 6 := by subst h; decide
theorem nk23 {k : Nat} (h : k = 13) : ¬ k = 6 := by subst h; decide
theorem nk24 {k : Nat} (h : k = 13) : ¬ k = 6 := by subst h; decide
theorem nk25 {k : Nat} (h : k = 13) : ¬ k = 6 := by subst h; decide
theorem nk26 {k : Nat} (h : k = 13) : ¬ k = 6 := by subst h; decide
theorem nk27 {k : Nat} (h : k = 13) : ¬ k = 6 := by subst h; decide
theorem nk28 {k : Nat} (h : k = 13) : ¬ k = 6 := by subst h; decide
theorem nk29 {k : Nat} (h : k = 13) : ¬ k = 6 := by subst h; decide
theorem nk30 {k : Nat} (h : k = 13) : ¬ k = 6 := by subst h; decide
theorem nk31 {k : Nat} (h : k = 14) : ¬ k = 6 := by subst h; decide
theorem nk32 {k : Nat} (h : k = 14) : ¬ k = 6 := by subst h; decide
theorem nk33 {k : Nat} (h : k = 15) : ¬ k = 6 := by subst h; decide
theorem nk34 {k : Nat} (h : k = 15) : ¬ k = 6 := by subst h; decide
theorem nk35 {k : Nat} (h : k = 15) : ¬ k = 6 := by subst h; decide
theorem nk36 {k : Nat} (h : k = 15) : ¬ k = 6 := by subst h; decide
theorem nk37 {k : Nat} (h : k = 16) : ¬ k = 6 := by subst h; decide
theorem nk38 {k : Nat} (h : k = 16) : ¬ k = 6 := by subst h; decide
theorem nk39 {k : Nat} (h : k = 17) : ¬ k = 6 := by subst h; decide
theorem nk40 {k : Nat} (h : k = 17) : ¬ k = 6 := by subst h; decide
theorem nk41 {k : Nat} (h : k = 17) : ¬ k = 6 := by subst h; decide
theorem nk42 {k : Nat} (h : k = 17) : ¬ k = 6 := by subst h; decide
theorem nk43 {k : Nat} (h : k = 17) : ¬ k = 6 := by subst h; decide
theorem nk44 {k : Nat} (h : k = 18) : ¬ k = 6 := by subst h; decide
theorem nk45 {k : Nat} (h : k = 18) : ¬ k = 6 := by subst h; decide
theorem nk46 {k : Nat} (h : k = 18) : ¬ k = 6 := by subst h; decide
theorem nk47 {k : Nat} (h : k = 19) : ¬ k = 6 := by subst h; decide
theorem nk48 {k : Nat} (h : k = 19) : ¬ k = 6 := by subst h; decide
theorem nk49 {k : Nat} (h : k = 19) : ¬ k = 6 := by subst h; decide
theorem nk50 {k : Nat} (h : k = 19) : ¬ k = 6 := by subst h; decide
theorem nk51 {k : Nat} (h : k = 20) : ¬ k = 6 := by subst h; decide
theorem nk52 {k : Nat} (h : k = 20) : ¬ k = 6 := by subst h; decide
theorem nk53 {k : Nat} (h : k = 20) : ¬ k = 6 := by subst h; decide
theorem nk54 {k : Nat} (h : k ∈ [21, 22]) : ¬ k = 6 := by simp only [List.mem_cons, List.not_mem_nil, or_false] at h; rcases h with rfl | rfl <;> decide
theorem nk56 {k : Nat} (h : k ∈ [21, 22]) : ¬ k = 6 := by simp only [List.mem_cons, List.not_mem_nil, or_false] at h; rcases h with rfl | rfl <;> decide
theorem nk57 {k : Nat} (h : k ∈ [21, 22]) : ¬ k = 6 := by simp only [List.mem_cons, List.not_mem_nil, or_false] at h; rcases h with rfl | rfl <;> decide
theorem nk58 {k : Nat} (h : k ∈ [21, 22]) : ¬ k = 6 := by simp only [List.mem_cons, List.not_mem_nil, or_false] at h; rcases h with rfl | rfl <;> decide
theorem nk59 {k : Nat} (h : k ∈ [21, 22]) : ¬ k = 6 := by simp only [List.mem_cons, List.not_mem_nil, or_false] at h; rcases h with rfl | rfl <;> decide
theorem nk60 {k : Nat} (h : k ∈ [21, 22]) : ¬ k = 6 := by simp only [List.mem_cons, List.not_mem_nil, or_false] at h; rcases h with rfl | rfl <;> decide
theorem nk61 {k : Nat} (h : k ∈ [21, 22]) : ¬ k = 6 := by simp only [List.mem_cons, List.not_mem_nil, or_false] at h; rcases h with rfl | rfl <;> decide
theorem nk62 {k : Nat} (h : k = 21) : ¬ k = 6 := by subst h; decide
theorem nk63 {k : Nat} (h : k = 21) : ¬ k = 6 := by subst h; decide
theorem nk64 {k : Nat} (h : k = 21) : ¬ k = 6 := by subst h; decide
theorem nk65 {k : Nat} (h : k = 21) : ¬ k = 6 := by subst h; decide
theorem nk66 {k : Nat} (h : k = 23) : ¬ k = 6 := by subst h; decide
theorem nk67 {k : Nat} (h : k = 23) : ¬ k = 6 := by subst h; decide
theorem nk70 {k : Nat} (h : k = 24) : ¬ k = 6 := by subst h; decide
theorem nk71 {k : Nat} (h : k = 24) : ¬ k = 6 := by subst h; decide
theorem nk74 {k : Nat} (h : k = 25) : ¬ k = 6 := by subst h; decide
theorem nk75 {k : Nat} (h : k = 25) : ¬ k = 6 := by subst h; decide
theorem nk76 {k : Nat} (h : k = 26) : ¬ k = 6 := by subst h; decide
theorem nk77 {k : Nat} (h : k = 26) : ¬ k = 6 := by subst h; decide
theorem nk78 {k : Nat} (h : k ∈ [27, 28]) : ¬ k = 6 := by simp only [List.mem_cons, List.not_mem_nil, or_false] at h; rcases h with rfl | rfl <;> decide
theorem nk79 {k : Nat} (h : k ∈ [27, 28]) : ¬ k = 6 := by simp only [List.mem_cons, List.not_mem_nil, or_false] at h; rcases h with rfl | rfl <;> decide
theorem nk80 {k : Nat} (h : k ∈ [27, 28]) : ¬ k = 6 := by simp only [List.mem_cons, List.not_mem_nil, or_false] at h; rcases h with rfl | rfl <;> decide
theorem nk81 {k : Nat} (h : k ∈ [27, 28]) : ¬ k = 6 := by simp only [List.mem_cons, List.not_mem_nil, or_false] at h; rcases h with rfl | rfl <;> decide
theorem nk82 {k : Nat} (h : k ∈ [27, 28]) : ¬ k = 6 := by simp only [List.mem_cons, List.not_mem_nil, or_false] at h; rcases h with rfl | rfl <;> decide
theorem nk83 {k : Nat} (h : k = 29) : ¬ k = 6 := by subst h; decide
theorem nk84 {k : Nat} (h : k ∈ [30, 31, 32]) : ¬ k = 6 := by simp only [List.mem_cons, List.not_mem_nil, or_false] at h; rcases h with rfl | rfl | rfl <;> decide
theorem nk85 {k : Nat} (h : k ∈ [30, 31, 32]) : ¬ k = 6 := by simp only [List.mem_cons, List.not_mem_nil, or_false] at h; rcases h with rfl | rfl | rfl <;> decide
theorem nk86 {k : Nat} (h : k ∈ [30, 31, 32]) : ¬ k = 6 := by simp only [List.mem_cons, List.not_mem_nil, or_false] at h; rcases h with rfl | rfl | rfl <;> decide
theorem nk87 {k : Nat} (h : k ∈ [30, 31, 32]) : ¬ k = 6 := by simp only [List.mem_cons, List.not_mem_nil, or_false] at h; rcases h with rfl | rfl | rfl <;> decide
theorem nk88 {k : Nat} (h : k ∈ [31, 32]) : ¬ k = 6 := by simp only [List.mem_cons, List.not_mem_nil, or_false] at h; rcases h with rfl | rfl <;> decide
theorem nk89 {k : Nat} (h : k ∈ [31, 32]) : ¬ k = 6 := by simp only [List.mem_cons, List.not_mem_nil, or_false] at h; rcases h with rfl | rfl <;> decide
theorem nk90 {k : Nat} (h : k = 32) : ¬ k = 6 := by subst h; decide
theorem nk91 {k : Nat} (h : k = 32) : ¬ k = 6 := by subst h; decide
theorem nk92 {k : Nat} (h : k = 32) : ¬ k = 6 := by subst h; decide
theorem nk93 {k : Nat} (h : k = 32) : ¬ k = 6 := by subst h; decide
theorem nk94 {k : Nat} (h : k = 32) : ¬ k = 6 := by subst h; decide
theorem nk95 {k : Nat} (h : k = 33) : ¬ k = 6 := by subst h; decide
theorem rk10 {k : Nat} (h : k = 10) : recvK "TrophyPlates" k := Or.inl ⟨0, _, h, rfl, rfl⟩
theorem rk17 {k : Nat} (h : k = 17) : recvK "TrophyPlates$Order" k := Or.inl ⟨7, _, h, rfl, rfl⟩
theorem rk16 {k : Nat} (h : k = 16) : recvK "TrophyPlates$Place" k := Or.inl ⟨6, _, h, rfl, rfl⟩
theorem rk15 {k : Nat} (h : k = 15) : recvK "TrophyPlates$Plate" k := Or.inl ⟨5, _, h, rfl, rfl⟩
theorem rk11 {k : Nat} (h : k = 11) : recvK "TrophyPlates$Shop" k := Or.inl ⟨1, _, h, rfl, rfl⟩
theorem rk12 {k : Nat} (h : k = 12) : recvK "TrophyPlates$Stack" k := Or.inl ⟨2, _, h, rfl, rfl⟩
theorem rk13 {k : Nat} (h : k = 13) : recvK "TrophyPlatesModel" k := Or.inl ⟨3, _, h, rfl, rfl⟩
theorem rk29 {k : Nat} (h : k ∈ [29, 6]) : recvK "java/lang/Integer" k := by
  simp only [List.mem_cons, List.not_mem_nil, or_false] at h
  rcases h with h | h
  · exact Or.inl ⟨19, _, h, rfl, rfl⟩
  · exact Or.inr ⟨h, rfl⟩
theorem rk24 {k : Nat} (h : k = 24) : recvK "java/lang/String" k := Or.inl ⟨14, _, h, rfl, rfl⟩
theorem rk23 {k : Nat} (h : k = 23) : recvK "java/lang/StringBuilder" k := Or.inl ⟨13, _, h, rfl, rfl⟩
theorem rk20 {k : Nat} (h : k = 20) : recvK "java/util/ArrayList" k := Or.inl ⟨10, _, h, rfl, rfl⟩
theorem rk19 {k : Nat} (h : k = 19) : recvK "java/util/ArrayList$Itr" k := Or.inl ⟨9, _, h, rfl, rfl⟩
theorem rk22 {k : Nat} (h : k = 22) : recvK "java/util/HashMap" k := Or.inl ⟨12, _, h, rfl, rfl⟩
theorem rk30 {k : Nat} (h : k = 30) : recvK "java/util/HashMap$Node" k := Or.inl ⟨20, _, h, rfl, rfl⟩
theorem rk32 {k : Nat} (h : k = 32) : recvK "java/util/HashMap$TreeNode" k := Or.inl ⟨22, _, h, rfl, rfl⟩
theorem rk33 {k : Nat} (h : k = 33) : recvK "java/util/HashSet" k := Or.inl ⟨23, _, h, rfl, rfl⟩
theorem rk21 {k : Nat} (h : k = 21) : recvK "java/util/LinkedHashMap" k := Or.inl ⟨11, _, h, rfl, rfl⟩
theorem rk31 {k : Nat} (h : k = 31) : recvK "java/util/LinkedHashMap$Entry" k := Or.inl ⟨21, _, h, rfl, rfl⟩
theorem rk27 {k : Nat} (h : k = 27) : recvK "java/util/LinkedHashMap$LinkedEntryIterator" k := Or.inl ⟨17, _, h, rfl, rfl⟩
theorem rk25 {k : Nat} (h : k = 25) : recvK "java/util/LinkedHashMap$LinkedEntrySet" k := Or.inl ⟨15, _, h, rfl, rfl⟩
theorem rk28 {k : Nat} (h : k = 28) : recvK "java/util/LinkedHashMap$LinkedKeyIterator" k := Or.inl ⟨18, _, h, rfl, rfl⟩
theorem rk26 {k : Nat} (h : k = 26) : recvK "java/util/LinkedHashMap$LinkedKeySet" k := Or.inl ⟨16, _, h, rfl, rfl⟩
theorem co0 {k : Nat} (h : k = 16) : castOk "TrophyPlates$Place" k := by
  subst h
  exact Or.inl ⟨6, _, rfl, rfl, Or.inl rfl⟩
theorem co1 {k : Nat} (h : k = 32) : castOk "java/util/HashMap$TreeNode" k := by
  subst h
  exact Or.inl ⟨22, _, rfl, rfl, Or.inl rfl⟩
theorem co2 {k : Nat} (h : k ∈ [31, 32]) : castOk "java/util/LinkedHashMap$Entry" k := by
  simp only [List.mem_cons, List.not_mem_nil, or_false] at h
  rcases h with rfl | rfl
  · exact Or.inl ⟨21, _, rfl, rfl, Or.inl rfl⟩
  · exact Or.inl ⟨22, _, rfl, rfl, Or.inr q2408⟩
theorem co3 {k : Nat} (h : k ∈ [25, 26]) : castOk "java/util/SequencedSet" k := by
  simp only [List.mem_cons, List.not_mem_nil, or_false] at h
  rcases h with rfl | rfl
  · exact Or.inl ⟨15, _, rfl, rfl, Or.inr q2406⟩
  · exact Or.inl ⟨16, _, rfl, rfl, Or.inr q2407⟩
theorem co4 {k : Nat} (h : k = 15) : castOk "TrophyPlates$Plate" k := by
  subst h
  exact Or.inl ⟨5, _, rfl, rfl, Or.inl rfl⟩
theorem co5 {k : Nat} (h : k = 17) : castOk "TrophyPlates$Order" k := by
  subst h
  exact Or.inl ⟨7, _, rfl, rfl, Or.inl rfl⟩
theorem co6 {k : Nat} (h : k ∈ [30, 31, 32]) : castOk "java/util/Map$Entry" k := by
  simp only [List.mem_cons, List.not_mem_nil, or_false] at h
  rcases h with rfl | rfl | rfl
  · exact Or.inl ⟨20, _, rfl, rfl, Or.inr q776⟩
  · exact Or.inl ⟨21, _, rfl, rfl, Or.inr q783⟩
  · exact Or.inl ⟨22, _, rfl, rfl, Or.inr q780⟩
theorem co7 {k : Nat} (h : k ∈ [29, 6]) : castOk "java/lang/Integer" k := by
  simp only [List.mem_cons, List.not_mem_nil, or_false] at h
  rcases h with rfl | rfl
  · exact Or.inl ⟨19, _, rfl, rfl, Or.inl rfl⟩
  · exact Or.inr (Or.inl ⟨rfl, rfl⟩)
theorem iy0 {k : Nat} (h : k = 16) : ∃ (c : Nat) (q : vw_C), k = c + 10 ∧ vwCl[c]? = some q ∧ (q.1 = "TrophyPlates$Place" ∨ Cond.castable q.1 "TrophyPlates$Place" ∈ lw_tbl) := by
  subst h
  exact ⟨6, _, rfl, rfl, Or.inl rfl⟩
theorem iy1 {k : Nat} (h : k = 32) : ∃ (c : Nat) (q : vw_C), k = c + 10 ∧ vwCl[c]? = some q ∧ (q.1 = "java/util/HashMap$TreeNode" ∨ Cond.castable q.1 "java/util/HashMap$TreeNode" ∈ lw_tbl) := by
  subst h
  exact ⟨22, _, rfl, rfl, Or.inl rfl⟩
theorem in0 {k : Nat} (h : k ∈ [31, 30]) : castNo "java/util/HashMap$TreeNode" k := by
  simp only [List.mem_cons, List.not_mem_nil, or_false] at h
  rcases h with rfl | rfl
  · exact ⟨21, _, rfl, rfl, List.mem_of_getElem? (i := 0) rfl⟩
  · exact ⟨20, _, rfl, rfl, List.mem_of_getElem? (i := 1) rfl⟩
theorem ax0 : argsOk ⟨"java/lang/Object", "equals", "(Ljava/lang/Object;)Z"⟩ 1 := ⟨by decide +kernel, by decide +kernel, by decide +kernel⟩
theorem ax1 : argsOk ⟨"java/util/HashMap", "putVal", "(ILjava/lang/Object;Ljava/lang/Object;ZZ)Ljava/lang/Object;"⟩ 5 := ⟨by decide +kernel, by decide +kernel, by decide +kernel⟩
theorem ax2 : argsOk ⟨"java/lang/Object", "hashCode", "()I"⟩ 0 := ⟨by decide +kernel, by decide +kernel, by decide +kernel⟩
theorem ax3 : argsOk ⟨"java/util/HashMap", "afterNodeInsertion", "(Z)V"⟩ 1 := ⟨by decide +kernel, by decide +kernel, by decide +kernel⟩
theorem ax4 : argsOk ⟨"java/util/HashMap", "resize", "()[Ljava/util/HashMap$Node;"⟩ 0 := ⟨by decide +kernel, by decide +kernel, by decide +kernel⟩
theorem ax5 : argsOk ⟨"java/util/HashMap", "newNode", "(ILjava/lang/Object;Ljava/lang/Object;Ljava/util/HashMap$Node;)Ljava/util/HashMap$Node;"⟩ 4 := ⟨by decide +kernel, by decide +kernel, by decide +kernel⟩
theorem ax6 : argsOk ⟨"java/util/HashMap", "treeifyBin", "([Ljava/util/HashMap$Node;I)V"⟩ 2 := ⟨by decide +kernel, by decide +kernel, by decide +kernel⟩
theorem ax7 : argsOk ⟨"java/util/HashMap", "newTreeNode", "(ILjava/lang/Object;Ljava/lang/Object;Ljava/util/HashMap$Node;)Ljava/util/HashMap$TreeNode;"⟩ 4 := ⟨by decide +kernel, by decide +kernel, by decide +kernel⟩
theorem ax8 : argsOk ⟨"java/util/HashMap", "replacementTreeNode", "(Ljava/util/HashMap$Node;Ljava/util/HashMap$Node;)Ljava/util/HashMap$TreeNode;"⟩ 2 := ⟨by decide +kernel, by decide +kernel, by decide +kernel⟩
theorem ax9 : argsOk ⟨"java/util/HashMap", "getNode", "(Ljava/lang/Object;)Ljava/util/HashMap$Node;"⟩ 1 := ⟨by decide +kernel, by decide +kernel, by decide +kernel⟩
theorem ax10 : argsOk ⟨"java/util/HashMap", "removeNode", "(ILjava/lang/Object;Ljava/lang/Object;ZZ)Ljava/util/HashMap$Node;"⟩ 5 := ⟨by decide +kernel, by decide +kernel, by decide +kernel⟩
theorem ax11 : argsOk ⟨"java/util/HashMap", "afterNodeRemoval", "(Ljava/util/HashMap$Node;)V"⟩ 1 := ⟨by decide +kernel, by decide +kernel, by decide +kernel⟩
theorem ax12 : argsOk ⟨"java/util/HashMap", "replacementNode", "(Ljava/util/HashMap$Node;Ljava/util/HashMap$Node;)Ljava/util/HashMap$Node;"⟩ 2 := ⟨by decide +kernel, by decide +kernel, by decide +kernel⟩
theorem ax13 : argsOk ⟨"java/lang/AbstractStringBuilder", "isLatin1", "()Z"⟩ 0 := ⟨by decide +kernel, by decide +kernel, by decide +kernel⟩
theorem ax14 : argsOk ⟨"java/lang/AbstractStringBuilder", "length", "()I"⟩ 0 := ⟨by decide +kernel, by decide +kernel, by decide +kernel⟩
theorem ax15 : argsOk ⟨"java/lang/AbstractStringBuilder", "getValue", "()[B"⟩ 0 := ⟨by decide +kernel, by decide +kernel, by decide +kernel⟩
theorem ax16 : argsOk ⟨"java/util/LinkedHashMap$LinkedHashIterator", "nextNode", "()Ljava/util/LinkedHashMap$Entry;"⟩ 0 := ⟨by decide +kernel, by decide +kernel, by decide +kernel⟩
theorem ax17 : argsOk ⟨"java/util/HashMap$Node", "getKey", "()Ljava/lang/Object;"⟩ 0 := ⟨by decide +kernel, by decide +kernel, by decide +kernel⟩
theorem ax18 : argsOk ⟨"java/util/HashMap", "put", "(Ljava/lang/Object;Ljava/lang/Object;)Ljava/lang/Object;"⟩ 2 := ⟨by decide +kernel, by decide +kernel, by decide +kernel⟩
theorem ax19 : argsOk ⟨"java/util/HashMap", "containsKey", "(Ljava/lang/Object;)Z"⟩ 1 := ⟨by decide +kernel, by decide +kernel, by decide +kernel⟩
theorem ax20 : argsOk ⟨"java/lang/CharSequence", "length", "()I"⟩ 0 := ⟨by decide +kernel, by decide +kernel, by decide +kernel⟩
theorem ax21 : argsOk ⟨"java/lang/CharSequence", "charAt", "(I)C"⟩ 1 := ⟨by decide +kernel, by decide +kernel, by decide +kernel⟩
theorem ax22 : argsOk ⟨"java/util/List", "iterator", "()Ljava/util/Iterator;"⟩ 0 := ⟨by decide +kernel, by decide +kernel, by decide +kernel⟩
theorem ax23 : argsOk ⟨"java/util/List", "add", "(Ljava/lang/Object;)Z"⟩ 1 := ⟨by decide +kernel, by decide +kernel, by decide +kernel⟩
theorem ax24 : argsOk ⟨"java/util/Iterator", "next", "()Ljava/lang/Object;"⟩ 0 := ⟨by decide +kernel, by decide +kernel, by decide +kernel⟩
theorem ax25 : argsOk ⟨"java/util/Iterator", "hasNext", "()Z"⟩ 0 := ⟨by decide +kernel, by decide +kernel, by decide +kernel⟩
theorem ax26 : argsOk ⟨"java/util/Set", "iterator", "()Ljava/util/Iterator;"⟩ 0 := ⟨by decide +kernel, by decide +kernel, by decide +kernel⟩
theorem ax27 : argsOk ⟨"java/util/Map", "entrySet", "()Ljava/util/Set;"⟩ 0 := ⟨by decide +kernel, by decide +kernel, by decide +kernel⟩
theorem ax28 : argsOk ⟨"java/util/Map", "put", "(Ljava/lang/Object;Ljava/lang/Object;)Ljava/lang/Object;"⟩ 2 := ⟨by decide +kernel, by decide +kernel, by decide +kernel⟩
theorem ax29 : argsOk ⟨"java/util/Map$Entry", "getValue", "()Ljava/lang/Object;"⟩ 0 := ⟨by decide +kernel, by decide +kernel, by decide +kernel⟩
theorem ax30 : argsOk ⟨"java/util/Map$Entry", "getKey", "()Ljava/lang/Object;"⟩ 0 := ⟨by decide +kernel, by decide +kernel, by decide +kernel⟩
theorem ax31 : argsOk ⟨"java/util/List", "size", "()I"⟩ 0 := ⟨by decide +kernel, by decide +kernel, by decide +kernel⟩
theorem ax32 : argsOk ⟨"java/util/List", "get", "(I)Ljava/lang/Object;"⟩ 1 := ⟨by decide +kernel, by decide +kernel, by decide +kernel⟩
theorem ax33 : argsOk ⟨"java/util/Map", "get", "(Ljava/lang/Object;)Ljava/lang/Object;"⟩ 1 := ⟨by decide +kernel, by decide +kernel, by decide +kernel⟩
theorem ax34 : argsOk ⟨"java/util/Map", "remove", "(Ljava/lang/Object;)Ljava/lang/Object;"⟩ 1 := ⟨by decide +kernel, by decide +kernel, by decide +kernel⟩
theorem ax35 : argsOk ⟨"java/util/List", "add", "(ILjava/lang/Object;)V"⟩ 2 := ⟨by decide +kernel, by decide +kernel, by decide +kernel⟩
theorem ax36 : argsOk ⟨"java/util/List", "remove", "(I)Ljava/lang/Object;"⟩ 1 := ⟨by decide +kernel, by decide +kernel, by decide +kernel⟩
theorem ax37 : argsOk ⟨"java/util/List", "remove", "(Ljava/lang/Object;)Z"⟩ 1 := ⟨by decide +kernel, by decide +kernel, by decide +kernel⟩
theorem ax38 : argsOk ⟨"java/util/Map", "keySet", "()Ljava/util/Set;"⟩ 0 := ⟨by decide +kernel, by decide +kernel, by decide +kernel⟩
theorem ax39 : argsOk ⟨"java/util/List", "indexOf", "(Ljava/lang/Object;)I"⟩ 1 := ⟨by decide +kernel, by decide +kernel, by decide +kernel⟩
theorem ax40 : argsOk ⟨"java/util/Map", "containsKey", "(Ljava/lang/Object;)Z"⟩ 1 := ⟨by decide +kernel, by decide +kernel, by decide +kernel⟩
theorem eo3 {k : Nat} (h : k ∈ [15, 17]) : eltOk 3 k := by
  simp only [List.mem_cons, List.not_mem_nil, or_false] at h
  rcases h with rfl | rfl
  · exact ⟨5, _, rfl, rfl, Or.inl ⟨rfl, q2420⟩⟩
  · exact ⟨7, _, rfl, rfl, Or.inl ⟨rfl, q2429⟩⟩
theorem eo4 {k : Nat} (h : k ∈ [30, 31, 32]) : eltOk 4 k := by
  simp only [List.mem_cons, List.not_mem_nil, or_false] at h
  rcases h with rfl | rfl | rfl
  · exact ⟨20, _, rfl, rfl, Or.inr ⟨rfl, Or.inl rfl⟩⟩
  · exact ⟨21, _, rfl, rfl, Or.inr ⟨rfl, Or.inr q2440⟩⟩
  · exact ⟨22, _, rfl, rfl, Or.inr ⟨rfl, Or.inr q2441⟩⟩
theorem nar_bz {x : Int32} (h : x = 0 ∨ x = 1) : narrow .boolean (.int x) = .int x ∧ fits .boolean (.int x) = true := by rcases h with rfl | rfl <;> exact ⟨rfl, rfl⟩
theorem w_0 : (([] : List Value).map fun v => v.category).sum ≤ 0 := Nat.le_refl _
theorem w_R {x : Option Nat} {st : List Value} {k : Nat} (h : (st.map fun v => v.category).sum ≤ k) : ((va_rf x :: st).map fun v => v.category).sum ≤ k + 1 := by rw [List.map_cons, List.sum_cons, rf_cat]; omega
theorem w_I {x : Int32} {st : List Value} {k : Nat} (h : (st.map fun v => v.category).sum ≤ k) : ((Value.int x :: st).map fun v => v.category).sum ≤ k + 1 := by rw [List.map_cons, List.sum_cons]; show 1 + _ ≤ _; omega
theorem le_b {a b c x : Nat} (h : x = c) (h2 : a + c ≤ b) : a + x ≤ b := h ▸ h2
def mJ0_init : Mt := (yJ0_init, cJ0_init, 1, (Option.none), { frames := 1, cells := 0, slots := 0, locals := 20 })
theorem mJ0_init_c : (Mm mJ0_init).cells = 0 := rfl
theorem mJ0_init_s : (Mm mJ0_init).slots = 0 := rfl
theorem mJ0_init_args : argsOk (My mJ0_init) 0 := ⟨by decide +kernel, by decide +kernel, by decide +kernel⟩
theorem mJ0_init_plain : plainFor (My mJ0_init) = true := by decide +kernel
def mJ1_init : Mt := (yJ1_init, cJ1_init, 1, (Option.none), { frames := 2, cells := 0, slots := 0, locals := 40 })
theorem mJ1_init_c : (Mm mJ1_init).cells = 0 := rfl
theorem mJ1_init_s : (Mm mJ1_init).slots = 0 := rfl
theorem mJ1_init_args : argsOk (My mJ1_init) 0 := ⟨by decide +kernel, by decide +kernel, by decide +kernel⟩
theorem mJ1_init_plain : plainFor (My mJ1_init) = true := by decide +kernel
def mJ2_init : Mt := (yJ2_init, cJ2_init, 1, (Option.none), { frames := 3, cells := 0, slots := 0, locals := 60 })
theorem mJ2_init_c : (Mm mJ2_init).cells = 0 := rfl
theorem mJ2_init_s : (Mm mJ2_init).slots = 0 := rfl
theorem mJ2_init_args : argsOk (My mJ2_init) 0 := ⟨by decide +kernel, by decide +kernel, by decide +kernel⟩
theorem mJ2_init_plain : plainFor (My mJ2_init) = true := by decide +kernel
def mJ2_size : Mt := (yJ2_size, cJ2_size, 1, (Option.some Jvm.ClassFile.FieldType.int), { frames := 0, cells := 0, slots := 0, locals := 0 })
theorem mJ2_size_c : (Mm mJ2_size).cells = 0 := rfl
theorem mJ2_size_s : (Mm mJ2_size).slots = 0 := rfl
theorem mJ2_size_args : argsOk (My mJ2_size) 0 := ⟨by decide +kernel, by decide +kernel, by decide +kernel⟩
theorem mJ2_size_plain : plainFor (My mJ2_size) = true := by decide +kernel
def mJ2_iterator : Mt := (yJ2_iterator, cJ2_iterator, 1, (Option.some (Jvm.ClassFile.FieldType.object "java/util/Iterator")), { frames := 2, cells := 1, slots := 4, locals := 41 })
theorem mJ2_iterator_c : (Mm mJ2_iterator).cells = 1 := rfl
theorem mJ2_iterator_s : (Mm mJ2_iterator).slots = 4 := rfl
theorem mJ2_iterator_args : argsOk (My mJ2_iterator) 0 := ⟨by decide +kernel, by decide +kernel, by decide +kernel⟩
theorem mJ2_iterator_plain : plainFor (My mJ2_iterator) = true := by decide +kernel
def mJ2_add : Mt := (yJ2_add, cJ2_add, 2, (Option.some Jvm.ClassFile.FieldType.boolean), { frames := 6, cells := 1, slots := 22, locals := 170 })
theorem mJ2_add_c : (Mm mJ2_add).cells = 1 := rfl
theorem mJ2_add_s : (Mm mJ2_add).slots = 22 := rfl
theorem mJ2_add_args : argsOk (My mJ2_add) 1 := ⟨by decide +kernel, by decide +kernel, by decide +kernel⟩
theorem mJ2_add_plain : plainFor (My mJ2_add) = true := by decide +kernel
def mJ2_add_2 : Mt := (yJ2_add_2, cJ2_add_2, 4, (Option.none), { frames := 5, cells := 1, slots := 22, locals := 147 })
theorem mJ2_add_2_c : (Mm mJ2_add_2).cells = 1 := rfl
theorem mJ2_add_2_s : (Mm mJ2_add_2).slots = 22 := rfl
theorem mJ2_add_2_args : argsOk (My mJ2_add_2) 3 := ⟨by decide +kernel, by decide +kernel, by decide +kernel⟩
theorem mJ2_add_2_plain : plainFor (My mJ2_add_2) = true := by decide +kernel
def mJ2_grow : Mt := (yJ2_grow, cJ2_grow, 1, (Option.some (Jvm.ClassFile.FieldType.array (Jvm.ClassFile.FieldType.object "java/lang/Object"))), { frames := 4, cells := 1, slots := 22, locals := 127 })
theorem mJ2_grow_c : (Mm mJ2_grow).cells = 1 := rfl
theorem mJ2_grow_s : (Mm mJ2_grow).slots = 22 := rfl
theorem mJ2_grow_args : argsOk (My mJ2_grow) 0 := ⟨by decide +kernel, by decide +kernel, by decide +kernel⟩
theorem mJ2_grow_plain : plainFor (My mJ2_grow) = true := by decide +kernel
def mJ2_grow_2 : Mt := (yJ2_grow_2, cJ2_grow_2, 4, (Option.some (Jvm.ClassFile.FieldType.array (Jvm.ClassFile.FieldType.object "java/lang/Object"))), { frames := 3, cells := 1, slots := 22, locals := 104 })
theorem mJ2_grow_2_c : (Mm mJ2_grow_2).cells = 1 := rfl
theorem mJ2_grow_2_s : (Mm mJ2_grow_2).slots = 22 := rfl
theorem mJ2_grow_2_args : argsOk (My mJ2_grow_2) 1 := ⟨by decide +kernel, by decide +kernel, by decide +kernel⟩
theorem mJ2_grow_2_plain : plainFor (My mJ2_grow_2) = true := by decide +kernel
def mJ2_get : Mt := (yJ2_get, cJ2_get, 2, (Option.some (Jvm.ClassFile.FieldType.object "java/lang/Object")), { frames := 2, cells := 0, slots := 0, locals := 43 })
theorem mJ2_get_c : (Mm mJ2_get).cells = 0 := rfl
theorem mJ2_get_s : (Mm mJ2_get).slots = 0 := rfl
theorem mJ2_get_args : argsOk (My mJ2_get) 1 := ⟨by decide +kernel, by decide +kernel, by decide +kernel⟩
theorem mJ2_get_plain : plainFor (My mJ2_get) = true := by decide +kernel
def mJ2_elementData : Mt := (yJ2_elementData, cJ2_elementData, 2, (Option.some (Jvm.ClassFile.FieldType.object "java/lang/Object")), { frames := 0, cells := 0, slots := 0, locals := 0 })
theorem mJ2_elementData_c : (Mm mJ2_elementData).cells = 0 := rfl
theorem mJ2_elementData_s : (Mm mJ2_elementData).slots = 0 := rfl
theorem mJ2_elementData_args : argsOk (My mJ2_elementData) 1 := ⟨by decide +kernel, by decide +kernel, by decide +kernel⟩
theorem mJ2_elementData_plain : plainFor (My mJ2_elementData) = true := by decide +kernel
def mJ2_add_3 : Mt := (yJ2_add_3, cJ2_add_3, 5, (Option.none), { frames := 5, cells := 1, slots := 22, locals := 147 })
theorem mJ2_add_3_c : (Mm mJ2_add_3).cells = 1 := rfl
theorem mJ2_add_3_s : (Mm mJ2_add_3).slots = 22 := rfl
theorem mJ2_add_3_args : argsOk (My mJ2_add_3) 2 := ⟨by decide +kernel, by decide +kernel, by decide +kernel⟩
theorem mJ2_add_3_plain : plainFor (My mJ2_add_3) = true := by decide +kernel
def mJ2_rangeCheckForAdd : Mt := (yJ2_rangeCheckForAdd, cJ2_rangeCheckForAdd, 2, (Option.none), { frames := 0, cells := 0, slots := 0, locals := 0 })
theorem mJ2_rangeCheckForAdd_c : (Mm mJ2_rangeCheckForAdd).cells = 0 := rfl
theorem mJ2_rangeCheckForAdd_s : (Mm mJ2_rangeCheckForAdd).slots = 0 := rfl
theorem mJ2_rangeCheckForAdd_args : argsOk (My mJ2_rangeCheckForAdd) 1 := ⟨by decide +kernel, by decide +kernel, by decide +kernel⟩
theorem mJ2_rangeCheckForAdd_plain : plainFor (My mJ2_rangeCheckForAdd) = true := by decide +kernel
def mJ2_remove : Mt := (yJ2_remove, cJ2_remove, 4, (Option.some (Jvm.ClassFile.FieldType.object "java/lang/Object")), { frames := 2, cells := 0, slots := 0, locals := 83 })
theorem mJ2_remove_c : (Mm mJ2_remove).cells = 0 := rfl
theorem mJ2_remove_s : (Mm mJ2_remove).slots = 0 := rfl
theorem mJ2_remove_args : argsOk (My mJ2_remove) 1 := ⟨by decide +kernel, by decide +kernel, by decide +kernel⟩
theorem mJ2_remove_plain : plainFor (My mJ2_remove) = true := by decide +kernel
def mJ2_fastRemove : Mt := (yJ2_fastRemove, cJ2_fastRemove, 4, (Option.none), { frames := 1, cells := 0, slots := 0, locals := 60 })
theorem mJ2_fastRemove_c : (Mm mJ2_fastRemove).cells = 0 := rfl
theorem mJ2_fastRemove_s : (Mm mJ2_fastRemove).slots = 0 := rfl
theorem mJ2_fastRemove_args : argsOk (My mJ2_fastRemove) 2 := ⟨by decide +kernel, by decide +kernel, by decide +kernel⟩
theorem mJ2_fastRemove_plain : plainFor (My mJ2_fastRemove) = true := by decide +kernel
def mJ2_remove_2 : Mt := (yJ2_remove_2, cJ2_remove_2, 5, (Option.some Jvm.ClassFile.FieldType.boolean), { frames := 2, cells := 0, slots := 0, locals := 83 })
theorem mJ2_remove_2_c : (Mm mJ2_remove_2).cells = 0 := rfl
theorem mJ2_remove_2_s : (Mm mJ2_remove_2).slots = 0 := rfl
theorem mJ2_remove_2_args : argsOk (My mJ2_remove_2) 1 := ⟨by decide +kernel, by decide +kernel, by decide +kernel⟩
theorem mJ2_remove_2_plain : plainFor (My mJ2_remove_2) = true := by decide +kernel
def mJ2_indexOf : Mt := (yJ2_indexOf, cJ2_indexOf, 2, (Option.some Jvm.ClassFile.FieldType.int), { frames := 2, cells := 0, slots := 0, locals := 46 })
theorem mJ2_indexOf_c : (Mm mJ2_indexOf).cells = 0 := rfl
theorem mJ2_indexOf_s : (Mm mJ2_indexOf).slots = 0 := rfl
theorem mJ2_indexOf_args : argsOk (My mJ2_indexOf) 1 := ⟨by decide +kernel, by decide +kernel, by decide +kernel⟩
theorem mJ2_indexOf_plain : plainFor (My mJ2_indexOf) = true := by decide +kernel
def mJ2_indexOfRange : Mt := (yJ2_indexOfRange, cJ2_indexOfRange, 6, (Option.some Jvm.ClassFile.FieldType.int), { frames := 1, cells := 0, slots := 0, locals := 21 })
theorem mJ2_indexOfRange_c : (Mm mJ2_indexOfRange).cells = 0 := rfl
theorem mJ2_indexOfRange_s : (Mm mJ2_indexOfRange).slots = 0 := rfl
theorem mJ2_indexOfRange_args : argsOk (My mJ2_indexOfRange) 3 := ⟨by decide +kernel, by decide +kernel, by decide +kernel⟩
theorem mJ2_indexOfRange_plain : plainFor (My mJ2_indexOfRange) = true := by decide +kernel
def mJ3_init : Mt := (yJ3_init, cJ3_init, 1, (Option.none), { frames := 1, cells := 0, slots := 0, locals := 20 })
theorem mJ3_init_c : (Mm mJ3_init).cells = 0 := rfl
theorem mJ3_init_s : (Mm mJ3_init).slots = 0 := rfl
theorem mJ3_init_args : argsOk (My mJ3_init) 0 := ⟨by decide +kernel, by decide +kernel, by decide +kernel⟩
theorem mJ3_init_plain : plainFor (My mJ3_init) = true := by decide +kernel
def mJ4_init : Mt := (yJ4_init, cJ4_init, 1, (Option.none), { frames := 2, cells := 0, slots := 0, locals := 40 })
theorem mJ4_init_c : (Mm mJ4_init).cells = 0 := rfl
theorem mJ4_init_s : (Mm mJ4_init).slots = 0 := rfl
theorem mJ4_init_args : argsOk (My mJ4_init) 0 := ⟨by decide +kernel, by decide +kernel, by decide +kernel⟩
theorem mJ4_init_plain : plainFor (My mJ4_init) = true := by decide +kernel
def mJ4_put : Mt := (yJ4_put, cJ4_put, 3, (Option.some (Jvm.ClassFile.FieldType.object "java/lang/Object")), { frames := 7, cells := 25, slots := 450, locals := 184 })
theorem mJ4_put_c : (Mm mJ4_put).cells = 25 := rfl
theorem mJ4_put_s : (Mm mJ4_put).slots = 450 := rfl
theorem mJ4_put_args : argsOk (My mJ4_put) 2 := ⟨by decide +kernel, by decide +kernel, by decide +kernel⟩
theorem mJ4_put_plain : plainFor (My mJ4_put) = true := by decide +kernel
def mJ4_hash : Mt := (yJ4_hash, cJ4_hash, 2, (Option.some Jvm.ClassFile.FieldType.int), { frames := 1, cells := 0, slots := 0, locals := 20 })
theorem mJ4_hash_c : (Mm mJ4_hash).cells = 0 := rfl
theorem mJ4_hash_s : (Mm mJ4_hash).slots = 0 := rfl
theorem mJ4_hash_args : argsOk (My mJ4_hash) 1 := ⟨by decide +kernel, by decide +kernel, by decide +kernel⟩
theorem mJ4_hash_plain : plainFor (My mJ4_hash) = true := by decide +kernel
def mJ4_putVal : Mt := (yJ4_putVal, cJ4_putVal, 13, (Option.some (Jvm.ClassFile.FieldType.object "java/lang/Object")), { frames := 6, cells := 25, slots := 450, locals := 152 })
theorem mJ4_putVal_c : (Mm mJ4_putVal).cells = 25 := rfl
theorem mJ4_putVal_s : (Mm mJ4_putVal).slots = 450 := rfl
theorem mJ4_putVal_args : argsOk (My mJ4_putVal) 5 := ⟨by decide +kernel, by decide +kernel, by decide +kernel⟩
theorem mJ4_putVal_plain : plainFor (My mJ4_putVal) = true := by decide +kernel
def mJ4_resize : Mt := (yJ4_resize, cJ4_resize, 14, (Option.some (Jvm.ClassFile.FieldType.array (Jvm.ClassFile.FieldType.object "java/util/HashMap$Node"))), { frames := 0, cells := 1, slots := 64, locals := 0 })
theorem mJ4_resize_c : (Mm mJ4_resize).cells = 1 := rfl
theorem mJ4_resize_s : (Mm mJ4_resize).slots = 64 := rfl
theorem mJ4_resize_args : argsOk (My mJ4_resize) 0 := ⟨by decide +kernel, by decide +kernel, by decide +kernel⟩
theorem mJ4_resize_plain : plainFor (My mJ4_resize) = true := by decide +kernel
def mJ4_newNode : Mt := (yJ4_newNode, cJ4_newNode, 5, (Option.some (Jvm.ClassFile.FieldType.object "java/util/HashMap$Node")), { frames := 2, cells := 1, slots := 4, locals := 44 })
theorem mJ4_newNode_c : (Mm mJ4_newNode).cells = 1 := rfl
theorem mJ4_newNode_s : (Mm mJ4_newNode).slots = 4 := rfl
theorem mJ4_newNode_args : argsOk (My mJ4_newNode) 4 := ⟨by decide +kernel, by decide +kernel, by decide +kernel⟩
theorem mJ4_newNode_plain : plainFor (My mJ4_newNode) = true := by decide +kernel
def mJ4_treeifyBin : Mt := (yJ4_treeifyBin, cJ4_treeifyBin, 9, (Option.none), { frames := 5, cells := 20, slots := 300, locals := 116 })
theorem mJ4_treeifyBin_c : (Mm mJ4_treeifyBin).cells = 20 := rfl
theorem mJ4_treeifyBin_s : (Mm mJ4_treeifyBin).slots = 300 := rfl
theorem mJ4_treeifyBin_args : argsOk (My mJ4_treeifyBin) 2 := ⟨by decide +kernel, by decide +kernel, by decide +kernel⟩
theorem mJ4_treeifyBin_plain : plainFor (My mJ4_treeifyBin) = true := by decide +kernel
def mJ4_afterNodeAccess : Mt := (yJ4_afterNodeAccess, cJ4_afterNodeAccess, 2, (Option.none), { frames := 0, cells := 0, slots := 0, locals := 0 })
theorem mJ4_afterNodeAccess_c : (Mm mJ4_afterNodeAccess).cells = 0 := rfl
theorem mJ4_afterNodeAccess_s : (Mm mJ4_afterNodeAccess).slots = 0 := rfl
theorem mJ4_afterNodeAccess_args : argsOk (My mJ4_afterNodeAccess) 1 := ⟨by decide +kernel, by decide +kernel, by decide +kernel⟩
theorem mJ4_afterNodeAccess_plain : plainFor (My mJ4_afterNodeAccess) = true := by decide +kernel
def mJ4_afterNodeInsertion : Mt := (yJ4_afterNodeInsertion, cJ4_afterNodeInsertion, 2, (Option.none), { frames := 0, cells := 0, slots := 0, locals := 0 })
theorem mJ4_afterNodeInsertion_c : (Mm mJ4_afterNodeInsertion).cells = 0 := rfl
theorem mJ4_afterNodeInsertion_s : (Mm mJ4_afterNodeInsertion).slots = 0 := rfl
theorem mJ4_afterNodeInsertion_args : argsOk (My mJ4_afterNodeInsertion) 1 := ⟨by decide +kernel, by decide +kernel, by decide +kernel⟩
theorem mJ4_afterNodeInsertion_plain : plainFor (My mJ4_afterNodeInsertion) = true := by decide +kernel
def mJ4_get : Mt := (yJ4_get, cJ4_get, 3, (Option.some (Jvm.ClassFile.FieldType.object "java/lang/Object")), { frames := 4, cells := 0, slots := 0, locals := 100 })
theorem mJ4_get_c : (Mm mJ4_get).cells = 0 := rfl
theorem mJ4_get_s : (Mm mJ4_get).slots = 0 := rfl
theorem mJ4_get_args : argsOk (My mJ4_get) 1 := ⟨by decide +kernel, by decide +kernel, by decide +kernel⟩
theorem mJ4_get_plain : plainFor (My mJ4_get) = true := by decide +kernel
def mJ4_getNode : Mt := (yJ4_getNode, cJ4_getNode, 8, (Option.some (Jvm.ClassFile.FieldType.object "java/util/HashMap$Node")), { frames := 3, cells := 0, slots := 0, locals := 73 })
theorem mJ4_getNode_c : (Mm mJ4_getNode).cells = 0 := rfl
theorem mJ4_getNode_s : (Mm mJ4_getNode).slots = 0 := rfl
theorem mJ4_getNode_args : argsOk (My mJ4_getNode) 1 := ⟨by decide +kernel, by decide +kernel, by decide +kernel⟩
theorem mJ4_getNode_plain : plainFor (My mJ4_getNode) = true := by decide +kernel
def mJ4_remove : Mt := (yJ4_remove, cJ4_remove, 3, (Option.some (Jvm.ClassFile.FieldType.object "java/lang/Object")), { frames := 7, cells := 20, slots := 120, locals := 190 })
theorem mJ4_remove_c : (Mm mJ4_remove).cells = 20 := rfl
theorem mJ4_remove_s : (Mm mJ4_remove).slots = 120 := rfl
theorem mJ4_remove_args : argsOk (My mJ4_remove) 1 := ⟨by decide +kernel, by decide +kernel, by decide +kernel⟩
theorem mJ4_remove_plain : plainFor (My mJ4_remove) = true := by decide +kernel
def mJ4_removeNode : Mt := (yJ4_removeNode, cJ4_removeNode, 14, (Option.some (Jvm.ClassFile.FieldType.object "java/util/HashMap$Node")), { frames := 6, cells := 20, slots := 120, locals := 157 })
theorem mJ4_removeNode_c : (Mm mJ4_removeNode).cells = 20 := rfl
theorem mJ4_removeNode_s : (Mm mJ4_removeNode).slots = 120 := rfl
theorem mJ4_removeNode_args : argsOk (My mJ4_removeNode) 5 := ⟨by decide +kernel, by decide +kernel, by decide +kernel⟩
theorem mJ4_removeNode_plain : plainFor (My mJ4_removeNode) = true := by decide +kernel
def mJ4_afterNodeRemoval : Mt := (yJ4_afterNodeRemoval, cJ4_afterNodeRemoval, 2, (Option.none), { frames := 0, cells := 0, slots := 0, locals := 0 })
theorem mJ4_afterNodeRemoval_c : (Mm mJ4_afterNodeRemoval).cells = 0 := rfl
theorem mJ4_afterNodeRemoval_s : (Mm mJ4_afterNodeRemoval).slots = 0 := rfl
theorem mJ4_afterNodeRemoval_args : argsOk (My mJ4_afterNodeRemoval) 1 := ⟨by decide +kernel, by decide +kernel, by decide +kernel⟩
theorem mJ4_afterNodeRemoval_plain : plainFor (My mJ4_afterNodeRemoval) = true := by decide +kernel
def mJ4_containsKey : Mt := (yJ4_containsKey, cJ4_containsKey, 2, (Option.some Jvm.ClassFile.FieldType.boolean), { frames := 4, cells := 0, slots := 0, locals := 100 })
theorem mJ4_containsKey_c : (Mm mJ4_containsKey).cells = 0 := rfl
theorem mJ4_containsKey_s : (Mm mJ4_containsKey).slots = 0 := rfl
theorem mJ4_containsKey_args : argsOk (My mJ4_containsKey) 1 := ⟨by decide +kernel, by decide +kernel, by decide +kernel⟩
theorem mJ4_containsKey_plain : plainFor (My mJ4_containsKey) = true := by decide +kernel
def mJ5_init : Mt := (yJ5_init, cJ5_init, 1, (Option.none), { frames := 3, cells := 0, slots := 0, locals := 60 })
theorem mJ5_init_c : (Mm mJ5_init).cells = 0 := rfl
theorem mJ5_init_s : (Mm mJ5_init).slots = 0 := rfl
theorem mJ5_init_args : argsOk (My mJ5_init) 0 := ⟨by decide +kernel, by decide +kernel, by decide +kernel⟩
theorem mJ5_init_plain : plainFor (My mJ5_init) = true := by decide +kernel
def mJ5_entrySet : Mt := (yJ5_entrySet, cJ5_entrySet, 1, (Option.some (Jvm.ClassFile.FieldType.object "java/util/Set")), { frames := 5, cells := 1, slots := 2, locals := 104 })
theorem mJ5_entrySet_c : (Mm mJ5_entrySet).cells = 1 := rfl
theorem mJ5_entrySet_s : (Mm mJ5_entrySet).slots = 2 := rfl
theorem mJ5_entrySet_args : argsOk (My mJ5_entrySet) 0 := ⟨by decide +kernel, by decide +kernel, by decide +kernel⟩
theorem mJ5_entrySet_plain : plainFor (My mJ5_entrySet) = true := by decide +kernel
def mJ5_sequencedEntrySet : Mt := (yJ5_sequencedEntrySet, cJ5_sequencedEntrySet, 3, (Option.some (Jvm.ClassFile.FieldType.object "java/util/SequencedSet")), { frames := 4, cells := 1, slots := 2, locals := 82 })
theorem mJ5_sequencedEntrySet_c : (Mm mJ5_sequencedEntrySet).cells = 1 := rfl
theorem mJ5_sequencedEntrySet_s : (Mm mJ5_sequencedEntrySet).slots = 2 := rfl
theorem mJ5_sequencedEntrySet_args : argsOk (My mJ5_sequencedEntrySet) 0 := ⟨by decide +kernel, by decide +kernel, by decide +kernel⟩
theorem mJ5_sequencedEntrySet_plain : plainFor (My mJ5_sequencedEntrySet) = true := by decide +kernel
def mJ5_keySet : Mt := (yJ5_keySet, cJ5_keySet, 1, (Option.some (Jvm.ClassFile.FieldType.object "java/util/Set")), { frames := 5, cells := 1, slots := 2, locals := 104 })
theorem mJ5_keySet_c : (Mm mJ5_keySet).cells = 1 := rfl
theorem mJ5_keySet_s : (Mm mJ5_keySet).slots = 2 := rfl
theorem mJ5_keySet_args : argsOk (My mJ5_keySet) 0 := ⟨by decide +kernel, by decide +kernel, by decide +kernel⟩
theorem mJ5_keySet_plain : plainFor (My mJ5_keySet) = true := by decide +kernel
def mJ5_sequencedKeySet : Mt := (yJ5_sequencedKeySet, cJ5_sequencedKeySet, 3, (Option.some (Jvm.ClassFile.FieldType.object "java/util/SequencedSet")), { frames := 4, cells := 1, slots := 2, locals := 82 })
theorem mJ5_sequencedKeySet_c : (Mm mJ5_sequencedKeySet).cells = 1 := rfl
theorem mJ5_sequencedKeySet_s : (Mm mJ5_sequencedKeySet).slots = 2 := rfl
theorem mJ5_sequencedKeySet_args : argsOk (My mJ5_sequencedKeySet) 0 := ⟨by decide +kernel, by decide +kernel, by decide +kernel⟩
theorem mJ5_sequencedKeySet_plain : plainFor (My mJ5_sequencedKeySet) = true := by decide +kernel
def mJ5_replacementNode : Mt := (yJ5_replacementNode, cJ5_replacementNode, 5, (Option.some (Jvm.ClassFile.FieldType.object "java/util/HashMap$Node")), { frames := 3, cells := 1, slots := 6, locals := 68 })
theorem mJ5_replacementNode_c : (Mm mJ5_replacementNode).cells = 1 := rfl
theorem mJ5_replacementNode_s : (Mm mJ5_replacementNode).slots = 6 := rfl
theorem mJ5_replacementNode_args : argsOk (My mJ5_replacementNode) 2 := ⟨by decide +kernel, by decide +kernel, by decide +kernel⟩
theorem mJ5_replacementNode_plain : plainFor (My mJ5_replacementNode) = true := by decide +kernel
def mJ5_transferLinks : Mt := (yJ5_transferLinks, cJ5_transferLinks, 5, (Option.none), { frames := 0, cells := 0, slots := 0, locals := 0 })
theorem mJ5_transferLinks_c : (Mm mJ5_transferLinks).cells = 0 := rfl
theorem mJ5_transferLinks_s : (Mm mJ5_transferLinks).slots = 0 := rfl
theorem mJ5_transferLinks_args : argsOk (My mJ5_transferLinks) 2 := ⟨by decide +kernel, by decide +kernel, by decide +kernel⟩
theorem mJ5_transferLinks_plain : plainFor (My mJ5_transferLinks) = true := by decide +kernel
def mJ5_newNode : Mt := (yJ5_newNode, cJ5_newNode, 6, (Option.some (Jvm.ClassFile.FieldType.object "java/util/HashMap$Node")), { frames := 3, cells := 1, slots := 6, locals := 68 })
theorem mJ5_newNode_c : (Mm mJ5_newNode).cells = 1 := rfl
theorem mJ5_newNode_s : (Mm mJ5_newNode).slots = 6 := rfl
theorem mJ5_newNode_args : argsOk (My mJ5_newNode) 4 := ⟨by decide +kernel, by decide +kernel, by decide +kernel⟩
theorem mJ5_newNode_plain : plainFor (My mJ5_newNode) = true := by decide +kernel
def mJ5_linkNodeAtEnd : Mt := (yJ5_linkNodeAtEnd, cJ5_linkNodeAtEnd, 3, (Option.none), { frames := 0, cells := 0, slots := 0, locals := 0 })
theorem mJ5_linkNodeAtEnd_c : (Mm mJ5_linkNodeAtEnd).cells = 0 := rfl
theorem mJ5_linkNodeAtEnd_s : (Mm mJ5_linkNodeAtEnd).slots = 0 := rfl
theorem mJ5_linkNodeAtEnd_args : argsOk (My mJ5_linkNodeAtEnd) 1 := ⟨by decide +kernel, by decide +kernel, by decide +kernel⟩
theorem mJ5_linkNodeAtEnd_plain : plainFor (My mJ5_linkNodeAtEnd) = true := by decide +kernel
def mJ5_newTreeNode : Mt := (yJ5_newTreeNode, cJ5_newTreeNode, 6, (Option.some (Jvm.ClassFile.FieldType.object "java/util/HashMap$TreeNode")), { frames := 4, cells := 1, slots := 11, locals := 92 })
theorem mJ5_newTreeNode_c : (Mm mJ5_newTreeNode).cells = 1 := rfl
theorem mJ5_newTreeNode_s : (Mm mJ5_newTreeNode).slots = 11 := rfl
theorem mJ5_newTreeNode_args : argsOk (My mJ5_newTreeNode) 4 := ⟨by decide +kernel, by decide +kernel, by decide +kernel⟩
theorem mJ5_newTreeNode_plain : plainFor (My mJ5_newTreeNode) = true := by decide +kernel
def mJ5_replacementTreeNode : Mt := (yJ5_replacementTreeNode, cJ5_replacementTreeNode, 5, (Option.some (Jvm.ClassFile.FieldType.object "java/util/HashMap$TreeNode")), { frames := 4, cells := 1, slots := 11, locals := 92 })
theorem mJ5_replacementTreeNode_c : (Mm mJ5_replacementTreeNode).cells = 1 := rfl
theorem mJ5_replacementTreeNode_s : (Mm mJ5_replacementTreeNode).slots = 11 := rfl
theorem mJ5_replacementTreeNode_args : argsOk (My mJ5_replacementTreeNode) 2 := ⟨by decide +kernel, by decide +kernel, by decide +kernel⟩
theorem mJ5_replacementTreeNode_plain : plainFor (My mJ5_replacementTreeNode) = true := by decide +kernel
def mJ5_afterNodeInsertion : Mt := (yJ5_afterNodeInsertion, cJ5_afterNodeInsertion, 4, (Option.none), { frames := 0, cells := 0, slots := 0, locals := 0 })
theorem mJ5_afterNodeInsertion_c : (Mm mJ5_afterNodeInsertion).cells = 0 := rfl
theorem mJ5_afterNodeInsertion_s : (Mm mJ5_afterNodeInsertion).slots = 0 := rfl
theorem mJ5_afterNodeInsertion_args : argsOk (My mJ5_afterNodeInsertion) 1 := ⟨by decide +kernel, by decide +kernel, by decide +kernel⟩
theorem mJ5_afterNodeInsertion_plain : plainFor (My mJ5_afterNodeInsertion) = true := by decide +kernel
def mJ5_get : Mt := (yJ5_get, cJ5_get, 3, (Option.some (Jvm.ClassFile.FieldType.object "java/lang/Object")), { frames := 4, cells := 0, slots := 0, locals := 100 })
theorem mJ5_get_c : (Mm mJ5_get).cells = 0 := rfl
theorem mJ5_get_s : (Mm mJ5_get).slots = 0 := rfl
theorem mJ5_get_args : argsOk (My mJ5_get) 1 := ⟨by decide +kernel, by decide +kernel, by decide +kernel⟩
theorem mJ5_get_plain : plainFor (My mJ5_get) = true := by decide +kernel
def mJ5_afterNodeRemoval : Mt := (yJ5_afterNodeRemoval, cJ5_afterNodeRemoval, 5, (Option.none), { frames := 0, cells := 0, slots := 0, locals := 0 })
theorem mJ5_afterNodeRemoval_c : (Mm mJ5_afterNodeRemoval).cells = 0 := rfl
theorem mJ5_afterNodeRemoval_s : (Mm mJ5_afterNodeRemoval).slots = 0 := rfl
theorem mJ5_afterNodeRemoval_args : argsOk (My mJ5_afterNodeRemoval) 1 := ⟨by decide +kernel, by decide +kernel, by decide +kernel⟩
theorem mJ5_afterNodeRemoval_plain : plainFor (My mJ5_afterNodeRemoval) = true := by decide +kernel
def mJ6_init : Mt := (yJ6_init, cJ6_init, 2, (Option.none), { frames := 1, cells := 1, slots := 16, locals := 20 })
theorem mJ6_init_c : (Mm mJ6_init).cells = 1 := rfl
theorem mJ6_init_s : (Mm mJ6_init).slots = 16 := rfl
theorem mJ6_init_args : argsOk (My mJ6_init) 1 := ⟨by decide +kernel, by decide +kernel, by decide +kernel⟩
theorem mJ6_init_plain : plainFor (My mJ6_init) = true := by decide +kernel
def mJ6_isLatin1 : Mt := (yJ6_isLatin1, cJ6_isLatin1, 1, (Option.some Jvm.ClassFile.FieldType.boolean), { frames := 0, cells := 0, slots := 0, locals := 0 })
theorem mJ6_isLatin1_c : (Mm mJ6_isLatin1).cells = 0 := rfl
theorem mJ6_isLatin1_s : (Mm mJ6_isLatin1).slots = 0 := rfl
theorem mJ6_isLatin1_args : argsOk (My mJ6_isLatin1) 0 := ⟨by decide +kernel, by decide +kernel, by decide +kernel⟩
theorem mJ6_isLatin1_plain : plainFor (My mJ6_isLatin1) = true := by decide +kernel
def mJ6_length : Mt := (yJ6_length, cJ6_length, 1, (Option.some Jvm.ClassFile.FieldType.int), { frames := 0, cells := 0, slots := 0, locals := 0 })
theorem mJ6_length_c : (Mm mJ6_length).cells = 0 := rfl
theorem mJ6_length_s : (Mm mJ6_length).slots = 0 := rfl
theorem mJ6_length_args : argsOk (My mJ6_length) 0 := ⟨by decide +kernel, by decide +kernel, by decide +kernel⟩
theorem mJ6_length_plain : plainFor (My mJ6_length) = true := by decide +kernel
def mJ6_append : Mt := (yJ6_append, cJ6_append, 2, (Option.some (Jvm.ClassFile.FieldType.object "java/lang/AbstractStringBuilder")), { frames := 0, cells := 0, slots := 0, locals := 0 })
theorem mJ6_append_c : (Mm mJ6_append).cells = 0 := rfl
theorem mJ6_append_s : (Mm mJ6_append).slots = 0 := rfl
theorem mJ6_append_args : argsOk (My mJ6_append) 1 := ⟨by decide +kernel, by decide +kernel, by decide +kernel⟩
theorem mJ6_append_plain : plainFor (My mJ6_append) = true := by decide +kernel
def mJ6_ensureCapacityInternal : Mt := (yJ6_ensureCapacityInternal, cJ6_ensureCapacityInternal, 3, (Option.none), { frames := 0, cells := 0, slots := 0, locals := 0 })
theorem mJ6_ensureCapacityInternal_c : (Mm mJ6_ensureCapacityInternal).cells = 0 := rfl
theorem mJ6_ensureCapacityInternal_s : (Mm mJ6_ensureCapacityInternal).slots = 0 := rfl
theorem mJ6_ensureCapacityInternal_args : argsOk (My mJ6_ensureCapacityInternal) 1 := ⟨by decide +kernel, by decide +kernel, by decide +kernel⟩
theorem mJ6_ensureCapacityInternal_plain : plainFor (My mJ6_ensureCapacityInternal) = true := by decide +kernel
def mJ6_setLength : Mt := (yJ6_setLength, cJ6_setLength, 2, (Option.none), { frames := 0, cells := 0, slots := 0, locals := 0 })
theorem mJ6_setLength_c : (Mm mJ6_setLength).cells = 0 := rfl
theorem mJ6_setLength_s : (Mm mJ6_setLength).slots = 0 := rfl
theorem mJ6_setLength_args : argsOk (My mJ6_setLength) 1 := ⟨by decide +kernel, by decide +kernel, by decide +kernel⟩
theorem mJ6_setLength_plain : plainFor (My mJ6_setLength) = true := by decide +kernel
def mJ6_getValue : Mt := (yJ6_getValue, cJ6_getValue, 1, (Option.some (Jvm.ClassFile.FieldType.array Jvm.ClassFile.FieldType.byte)), { frames := 0, cells := 0, slots := 0, locals := 0 })
theorem mJ6_getValue_c : (Mm mJ6_getValue).cells = 0 := rfl
theorem mJ6_getValue_s : (Mm mJ6_getValue).slots = 0 := rfl
theorem mJ6_getValue_args : argsOk (My mJ6_getValue) 0 := ⟨by decide +kernel, by decide +kernel, by decide +kernel⟩
theorem mJ6_getValue_plain : plainFor (My mJ6_getValue) = true := by decide +kernel
def mJ6_charAt : Mt := (yJ6_charAt, cJ6_charAt, 5, (Option.some Jvm.ClassFile.FieldType.char), { frames := 2, cells := 0, slots := 0, locals := 43 })
theorem mJ6_charAt_c : (Mm mJ6_charAt).cells = 0 := rfl
theorem mJ6_charAt_s : (Mm mJ6_charAt).slots = 0 := rfl
theorem mJ6_charAt_args : argsOk (My mJ6_charAt) 1 := ⟨by decide +kernel, by decide +kernel, by decide +kernel⟩
theorem mJ6_charAt_plain : plainFor (My mJ6_charAt) = true := by decide +kernel
def mJ7_init : Mt := (yJ7_init, cJ7_init, 1, (Option.none), { frames := 2, cells := 1, slots := 16, locals := 41 })
theorem mJ7_init_c : (Mm mJ7_init).cells = 1 := rfl
theorem mJ7_init_s : (Mm mJ7_init).slots = 16 := rfl
theorem mJ7_init_args : argsOk (My mJ7_init) 0 := ⟨by decide +kernel, by decide +kernel, by decide +kernel⟩
theorem mJ7_init_plain : plainFor (My mJ7_init) = true := by decide +kernel
def mJ7_length : Mt := (yJ7_length, cJ7_length, 1, (Option.some Jvm.ClassFile.FieldType.int), { frames := 1, cells := 0, slots := 0, locals := 20 })
theorem mJ7_length_c : (Mm mJ7_length).cells = 0 := rfl
theorem mJ7_length_s : (Mm mJ7_length).slots = 0 := rfl
theorem mJ7_length_args : argsOk (My mJ7_length) 0 := ⟨by decide +kernel, by decide +kernel, by decide +kernel⟩
theorem mJ7_length_plain : plainFor (My mJ7_length) = true := by decide +kernel
def mJ7_append : Mt := (yJ7_append, cJ7_append, 2, (Option.some (Jvm.ClassFile.FieldType.object "java/lang/StringBuilder")), { frames := 1, cells := 0, slots := 0, locals := 21 })
theorem mJ7_append_c : (Mm mJ7_append).cells = 0 := rfl
theorem mJ7_append_s : (Mm mJ7_append).slots = 0 := rfl
theorem mJ7_append_args : argsOk (My mJ7_append) 1 := ⟨by decide +kernel, by decide +kernel, by decide +kernel⟩
theorem mJ7_append_plain : plainFor (My mJ7_append) = true := by decide +kernel
def mJ7_setLength : Mt := (yJ7_setLength, cJ7_setLength, 2, (Option.none), { frames := 1, cells := 0, slots := 0, locals := 21 })
theorem mJ7_setLength_c : (Mm mJ7_setLength).cells = 0 := rfl
theorem mJ7_setLength_s : (Mm mJ7_setLength).slots = 0 := rfl
theorem mJ7_setLength_args : argsOk (My mJ7_setLength) 1 := ⟨by decide +kernel, by decide +kernel, by decide +kernel⟩
theorem mJ7_setLength_plain : plainFor (My mJ7_setLength) = true := by decide +kernel
def mJ7_toString : Mt := (yJ7_toString, cJ7_toString, 1, (Option.some (Jvm.ClassFile.FieldType.object "java/lang/String")), { frames := 5, cells := 2, slots := 16, locals := 151 })
theorem mJ7_toString_c : (Mm mJ7_toString).cells = 2 := rfl
theorem mJ7_toString_s : (Mm mJ7_toString).slots = 16 := rfl
theorem mJ7_toString_args : argsOk (My mJ7_toString) 0 := ⟨by decide +kernel, by decide +kernel, by decide +kernel⟩
theorem mJ7_toString_plain : plainFor (My mJ7_toString) = true := by decide +kernel
def mJ7_charAt : Mt := (yJ7_charAt, cJ7_charAt, 2, (Option.some Jvm.ClassFile.FieldType.char), { frames := 3, cells := 0, slots := 0, locals := 67 })
theorem mJ7_charAt_c : (Mm mJ7_charAt).cells = 0 := rfl
theorem mJ7_charAt_s : (Mm mJ7_charAt).slots = 0 := rfl
theorem mJ7_charAt_args : argsOk (My mJ7_charAt) 1 := ⟨by decide +kernel, by decide +kernel, by decide +kernel⟩
theorem mJ7_charAt_plain : plainFor (My mJ7_charAt) = true := by decide +kernel
def mJ8_isLatin1 : Mt := (yJ8_isLatin1, cJ8_isLatin1, 1, (Option.some Jvm.ClassFile.FieldType.boolean), { frames := 0, cells := 0, slots := 0, locals := 0 })
theorem mJ8_isLatin1_c : (Mm mJ8_isLatin1).cells = 0 := rfl
theorem mJ8_isLatin1_s : (Mm mJ8_isLatin1).slots = 0 := rfl
theorem mJ8_isLatin1_args : argsOk (My mJ8_isLatin1) 0 := ⟨by decide +kernel, by decide +kernel, by decide +kernel⟩
theorem mJ8_isLatin1_plain : plainFor (My mJ8_isLatin1) = true := by decide +kernel
def mJ8_coder : Mt := (yJ8_coder, cJ8_coder, 1, (Option.some Jvm.ClassFile.FieldType.byte), { frames := 0, cells := 0, slots := 0, locals := 0 })
theorem mJ8_coder_c : (Mm mJ8_coder).cells = 0 := rfl
theorem mJ8_coder_s : (Mm mJ8_coder).slots = 0 := rfl
theorem mJ8_coder_args : argsOk (My mJ8_coder) 0 := ⟨by decide +kernel, by decide +kernel, by decide +kernel⟩
theorem mJ8_coder_plain : plainFor (My mJ8_coder) = true := by decide +kernel
def mJ8_checkIndex : Mt := (yJ8_checkIndex, cJ8_checkIndex, 2, (Option.none), { frames := 1, cells := 0, slots := 0, locals := 22 })
theorem mJ8_checkIndex_c : (Mm mJ8_checkIndex).cells = 0 := rfl
theorem mJ8_checkIndex_s : (Mm mJ8_checkIndex).slots = 0 := rfl
theorem mJ8_checkIndex_args : argsOk (My mJ8_checkIndex) 2 := ⟨by decide +kernel, by decide +kernel, by decide +kernel⟩
theorem mJ8_checkIndex_plain : plainFor (My mJ8_checkIndex) = true := by decide +kernel
def mJ8_init : Mt := (yJ8_init, cJ8_init, 2, (Option.none), { frames := 4, cells := 1, slots := 12, locals := 130 })
theorem mJ8_init_c : (Mm mJ8_init).cells = 1 := rfl
theorem mJ8_init_s : (Mm mJ8_init).slots = 12 := rfl
theorem mJ8_init_args : argsOk (My mJ8_init) 1 := ⟨by decide +kernel, by decide +kernel, by decide +kernel⟩
theorem mJ8_init_plain : plainFor (My mJ8_init) = true := by decide +kernel
def mJ8_init_2 : Mt := (yJ8_init_2, cJ8_init_2, 5, (Option.none), { frames := 3, cells := 1, slots := 12, locals := 106 })
theorem mJ8_init_2_c : (Mm mJ8_init_2).cells = 1 := rfl
theorem mJ8_init_2_s : (Mm mJ8_init_2).slots = 12 := rfl
theorem mJ8_init_2_args : argsOk (My mJ8_init_2) 2 := ⟨by decide +kernel, by decide +kernel, by decide +kernel⟩
theorem mJ8_init_2_plain : plainFor (My mJ8_init_2) = true := by decide +kernel
def mJ8_length : Mt := (yJ8_length, cJ8_length, 1, (Option.some Jvm.ClassFile.FieldType.int), { frames := 1, cells := 0, slots := 0, locals := 20 })
theorem mJ8_length_c : (Mm mJ8_length).cells = 0 := rfl
theorem mJ8_length_s : (Mm mJ8_length).slots = 0 := rfl
theorem mJ8_length_args : argsOk (My mJ8_length) 0 := ⟨by decide +kernel, by decide +kernel, by decide +kernel⟩
theorem mJ8_length_plain : plainFor (My mJ8_length) = true := by decide +kernel
def mJ8_charAt : Mt := (yJ8_charAt, cJ8_charAt, 2, (Option.some Jvm.ClassFile.FieldType.char), { frames := 3, cells := 0, slots := 0, locals := 64 })
theorem mJ8_charAt_c : (Mm mJ8_charAt).cells = 0 := rfl
theorem mJ8_charAt_s : (Mm mJ8_charAt).slots = 0 := rfl
theorem mJ8_charAt_args : argsOk (My mJ8_charAt) 1 := ⟨by decide +kernel, by decide +kernel, by decide +kernel⟩
theorem mJ8_charAt_plain : plainFor (My mJ8_charAt) = true := by decide +kernel
def mJ10_init : Mt := (yJ10_init, cJ10_init, 2, (Option.none), { frames := 1, cells := 0, slots := 0, locals := 20 })
theorem mJ10_init_c : (Mm mJ10_init).cells = 0 := rfl
theorem mJ10_init_s : (Mm mJ10_init).slots = 0 := rfl
theorem mJ10_init_args : argsOk (My mJ10_init) 1 := ⟨by decide +kernel, by decide +kernel, by decide +kernel⟩
theorem mJ10_init_plain : plainFor (My mJ10_init) = true := by decide +kernel
def mJ10_hasNext : Mt := (yJ10_hasNext, cJ10_hasNext, 1, (Option.some Jvm.ClassFile.FieldType.boolean), { frames := 0, cells := 0, slots := 0, locals := 0 })
theorem mJ10_hasNext_c : (Mm mJ10_hasNext).cells = 0 := rfl
theorem mJ10_hasNext_s : (Mm mJ10_hasNext).slots = 0 := rfl
theorem mJ10_hasNext_args : argsOk (My mJ10_hasNext) 0 := ⟨by decide +kernel, by decide +kernel, by decide +kernel⟩
theorem mJ10_hasNext_plain : plainFor (My mJ10_hasNext) = true := by decide +kernel
def mJ10_next : Mt := (yJ10_next, cJ10_next, 3, (Option.some (Jvm.ClassFile.FieldType.object "java/lang/Object")), { frames := 1, cells := 0, slots := 0, locals := 20 })
theorem mJ10_next_c : (Mm mJ10_next).cells = 0 := rfl
theorem mJ10_next_s : (Mm mJ10_next).slots = 0 := rfl
theorem mJ10_next_args : argsOk (My mJ10_next) 0 := ⟨by decide +kernel, by decide +kernel, by decide +kernel⟩
theorem mJ10_next_plain : plainFor (My mJ10_next) = true := by decide +kernel
def mJ10_checkForComodification : Mt := (yJ10_checkForComodification, cJ10_checkForComodification, 1, (Option.none), { frames := 0, cells := 0, slots := 0, locals := 0 })
theorem mJ10_checkForComodification_c : (Mm mJ10_checkForComodification).cells = 0 := rfl
theorem mJ10_checkForComodification_s : (Mm mJ10_checkForComodification).slots = 0 := rfl
theorem mJ10_checkForComodification_args : argsOk (My mJ10_checkForComodification) 0 := ⟨by decide +kernel, by decide +kernel, by decide +kernel⟩
theorem mJ10_checkForComodification_plain : plainFor (My mJ10_checkForComodification) = true := by decide +kernel
def mJ11_newLength : Mt := (yJ11_newLength, cJ11_newLength, 4, (Option.some Jvm.ClassFile.FieldType.int), { frames := 1, cells := 0, slots := 0, locals := 21 })
theorem mJ11_newLength_c : (Mm mJ11_newLength).cells = 0 := rfl
theorem mJ11_newLength_s : (Mm mJ11_newLength).slots = 0 := rfl
theorem mJ11_newLength_args : argsOk (My mJ11_newLength) 3 := ⟨by decide +kernel, by decide +kernel, by decide +kernel⟩
theorem mJ11_newLength_plain : plainFor (My mJ11_newLength) = true := by decide +kernel
def mJ12_max : Mt := (yJ12_max, cJ12_max, 2, (Option.some Jvm.ClassFile.FieldType.int), { frames := 0, cells := 0, slots := 0, locals := 0 })
theorem mJ12_max_c : (Mm mJ12_max).cells = 0 := rfl
theorem mJ12_max_s : (Mm mJ12_max).slots = 0 := rfl
theorem mJ12_max_args : argsOk (My mJ12_max) 2 := ⟨by decide +kernel, by decide +kernel, by decide +kernel⟩
theorem mJ12_max_plain : plainFor (My mJ12_max) = true := by decide +kernel
def mJ12_min : Mt := (yJ12_min, cJ12_min, 2, (Option.some Jvm.ClassFile.FieldType.int), { frames := 0, cells := 0, slots := 0, locals := 0 })
theorem mJ12_min_c : (Mm mJ12_min).cells = 0 := rfl
theorem mJ12_min_s : (Mm mJ12_min).slots = 0 := rfl
theorem mJ12_min_args : argsOk (My mJ12_min) 2 := ⟨by decide +kernel, by decide +kernel, by decide +kernel⟩
theorem mJ12_min_plain : plainFor (My mJ12_min) = true := by decide +kernel
def mJ13_copyOf : Mt := (yJ13_copyOf, cJ13_copyOf, 2, (Option.some (Jvm.ClassFile.FieldType.array (Jvm.ClassFile.FieldType.object "java/lang/Object"))), { frames := 2, cells := 1, slots := 22, locals := 83 })
theorem mJ13_copyOf_c : (Mm mJ13_copyOf).cells = 1 := rfl
theorem mJ13_copyOf_s : (Mm mJ13_copyOf).slots = 22 := rfl
theorem mJ13_copyOf_args : argsOk (My mJ13_copyOf) 2 := ⟨by decide +kernel, by decide +kernel, by decide +kernel⟩
theorem mJ13_copyOf_plain : plainFor (My mJ13_copyOf) = true := by decide +kernel
def mJ13_copyOf_2 : Mt := (yJ13_copyOf_2, cJ13_copyOf_2, 4, (Option.some (Jvm.ClassFile.FieldType.array (Jvm.ClassFile.FieldType.object "java/lang/Object"))), { frames := 1, cells := 1, slots := 22, locals := 60 })
theorem mJ13_copyOf_2_c : (Mm mJ13_copyOf_2).cells = 1 := rfl
theorem mJ13_copyOf_2_s : (Mm mJ13_copyOf_2).slots = 22 := rfl
theorem mJ13_copyOf_2_args : argsOk (My mJ13_copyOf_2) 3 := ⟨by decide +kernel, by decide +kernel, by decide +kernel⟩
theorem mJ13_copyOf_2_plain : plainFor (My mJ13_copyOf_2) = true := by decide +kernel
def mJ13_copyOfRange : Mt := (yJ13_copyOfRange, cJ13_copyOfRange, 3, (Option.some (Jvm.ClassFile.FieldType.array Jvm.ClassFile.FieldType.byte)), { frames := 2, cells := 1, slots := 12, locals := 84 })
theorem mJ13_copyOfRange_c : (Mm mJ13_copyOfRange).cells = 1 := rfl
theorem mJ13_copyOfRange_s : (Mm mJ13_copyOfRange).slots = 12 := rfl
theorem mJ13_copyOfRange_args : argsOk (My mJ13_copyOfRange) 3 := ⟨by decide +kernel, by decide +kernel, by decide +kernel⟩
theorem mJ13_copyOfRange_plain : plainFor (My mJ13_copyOfRange) = true := by decide +kernel
def mJ13_copyOfRangeByte : Mt := (yJ13_copyOfRangeByte, cJ13_copyOfRangeByte, 5, (Option.some (Jvm.ClassFile.FieldType.array Jvm.ClassFile.FieldType.byte)), { frames := 1, cells := 1, slots := 12, locals := 60 })
theorem mJ13_copyOfRangeByte_c : (Mm mJ13_copyOfRangeByte).cells = 1 := rfl
theorem mJ13_copyOfRangeByte_s : (Mm mJ13_copyOfRangeByte).slots = 12 := rfl
theorem mJ13_copyOfRangeByte_args : argsOk (My mJ13_copyOfRangeByte) 3 := ⟨by decide +kernel, by decide +kernel, by decide +kernel⟩
theorem mJ13_copyOfRangeByte_plain : plainFor (My mJ13_copyOfRangeByte) = true := by decide +kernel
def mJ13_checkLength : Mt := (yJ13_checkLength, cJ13_checkLength, 2, (Option.none), { frames := 0, cells := 0, slots := 0, locals := 0 })
theorem mJ13_checkLength_c : (Mm mJ13_checkLength).cells = 0 := rfl
theorem mJ13_checkLength_s : (Mm mJ13_checkLength).slots = 0 := rfl
theorem mJ13_checkLength_args : argsOk (My mJ13_checkLength) 2 := ⟨by decide +kernel, by decide +kernel, by decide +kernel⟩
theorem mJ13_checkLength_plain : plainFor (My mJ13_checkLength) = true := by decide +kernel
def mJ14_init : Mt := (yJ14_init, cJ14_init, 1, (Option.none), { frames := 2, cells := 0, slots := 0, locals := 40 })
theorem mJ14_init_c : (Mm mJ14_init).cells = 0 := rfl
theorem mJ14_init_s : (Mm mJ14_init).slots = 0 := rfl
theorem mJ14_init_args : argsOk (My mJ14_init) 0 := ⟨by decide +kernel, by decide +kernel, by decide +kernel⟩
theorem mJ14_init_plain : plainFor (My mJ14_init) = true := by decide +kernel
def mJ16_init : Mt := (yJ16_init, cJ16_init, 3, (Option.none), { frames := 3, cells := 0, slots := 0, locals := 60 })
theorem mJ16_init_c : (Mm mJ16_init).cells = 0 := rfl
theorem mJ16_init_s : (Mm mJ16_init).slots = 0 := rfl
theorem mJ16_init_args : argsOk (My mJ16_init) 2 := ⟨by decide +kernel, by decide +kernel, by decide +kernel⟩
theorem mJ16_init_plain : plainFor (My mJ16_init) = true := by decide +kernel
def mJ16_iterator : Mt := (yJ16_iterator, cJ16_iterator, 1, (Option.some (Jvm.ClassFile.FieldType.object "java/util/Iterator")), { frames := 3, cells := 1, slots := 5, locals := 64 })
theorem mJ16_iterator_c : (Mm mJ16_iterator).cells = 1 := rfl
theorem mJ16_iterator_s : (Mm mJ16_iterator).slots = 5 := rfl
theorem mJ16_iterator_args : argsOk (My mJ16_iterator) 0 := ⟨by decide +kernel, by decide +kernel, by decide +kernel⟩
theorem mJ16_iterator_plain : plainFor (My mJ16_iterator) = true := by decide +kernel
def mJ21_init : Mt := (yJ21_init, cJ21_init, 3, (Option.none), { frames := 3, cells := 0, slots := 0, locals := 60 })
theorem mJ21_init_c : (Mm mJ21_init).cells = 0 := rfl
theorem mJ21_init_s : (Mm mJ21_init).slots = 0 := rfl
theorem mJ21_init_args : argsOk (My mJ21_init) 2 := ⟨by decide +kernel, by decide +kernel, by decide +kernel⟩
theorem mJ21_init_plain : plainFor (My mJ21_init) = true := by decide +kernel
def mJ21_iterator : Mt := (yJ21_iterator, cJ21_iterator, 1, (Option.some (Jvm.ClassFile.FieldType.object "java/util/Iterator")), { frames := 3, cells := 1, slots := 5, locals := 64 })
theorem mJ21_iterator_c : (Mm mJ21_iterator).cells = 1 := rfl
theorem mJ21_iterator_s : (Mm mJ21_iterator).slots = 5 := rfl
theorem mJ21_iterator_args : argsOk (My mJ21_iterator) 0 := ⟨by decide +kernel, by decide +kernel, by decide +kernel⟩
theorem mJ21_iterator_plain : plainFor (My mJ21_iterator) = true := by decide +kernel
def mJ22_hasNext : Mt := (yJ22_hasNext, cJ22_hasNext, 1, (Option.some Jvm.ClassFile.FieldType.boolean), { frames := 0, cells := 0, slots := 0, locals := 0 })
theorem mJ22_hasNext_c : (Mm mJ22_hasNext).cells = 0 := rfl
theorem mJ22_hasNext_s : (Mm mJ22_hasNext).slots = 0 := rfl
theorem mJ22_hasNext_args : argsOk (My mJ22_hasNext) 0 := ⟨by decide +kernel, by decide +kernel, by decide +kernel⟩
theorem mJ22_hasNext_plain : plainFor (My mJ22_hasNext) = true := by decide +kernel
def mJ22_nextNode : Mt := (yJ22_nextNode, cJ22_nextNode, 2, (Option.some (Jvm.ClassFile.FieldType.object "java/util/LinkedHashMap$Entry")), { frames := 0, cells := 0, slots := 0, locals := 0 })
theorem mJ22_nextNode_c : (Mm mJ22_nextNode).cells = 0 := rfl
theorem mJ22_nextNode_s : (Mm mJ22_nextNode).slots = 0 := rfl
theorem mJ22_nextNode_args : argsOk (My mJ22_nextNode) 0 := ⟨by decide +kernel, by decide +kernel, by decide +kernel⟩
theorem mJ22_nextNode_plain : plainFor (My mJ22_nextNode) = true := by decide +kernel
def mJ22_init : Mt := (yJ22_init, cJ22_init, 3, (Option.none), { frames := 1, cells := 0, slots := 0, locals := 20 })
theorem mJ22_init_c : (Mm mJ22_init).cells = 0 := rfl
theorem mJ22_init_s : (Mm mJ22_init).slots = 0 := rfl
theorem mJ22_init_args : argsOk (My mJ22_init) 2 := ⟨by decide +kernel, by decide +kernel, by decide +kernel⟩
theorem mJ22_init_plain : plainFor (My mJ22_init) = true := by decide +kernel
def mJ23_next : Mt := (yJ23_next, cJ23_next, 1, (Option.some (Jvm.ClassFile.FieldType.object "java/lang/Object")), { frames := 2, cells := 0, slots := 0, locals := 41 })
theorem mJ23_next_c : (Mm mJ23_next).cells = 0 := rfl
theorem mJ23_next_s : (Mm mJ23_next).slots = 0 := rfl
theorem mJ23_next_args : argsOk (My mJ23_next) 0 := ⟨by decide +kernel, by decide +kernel, by decide +kernel⟩
theorem mJ23_next_plain : plainFor (My mJ23_next) = true := by decide +kernel
def mJ23_next_2 : Mt := (yJ23_next_2, cJ23_next_2, 1, (Option.some (Jvm.ClassFile.FieldType.object "java/util/Map$Entry")), { frames := 1, cells := 0, slots := 0, locals := 21 })
theorem mJ23_next_2_c : (Mm mJ23_next_2).cells = 0 := rfl
theorem mJ23_next_2_s : (Mm mJ23_next_2).slots = 0 := rfl
theorem mJ23_next_2_args : argsOk (My mJ23_next_2) 0 := ⟨by decide +kernel, by decide +kernel, by decide +kernel⟩
theorem mJ23_next_2_plain : plainFor (My mJ23_next_2) = true := by decide +kernel
def mJ23_init : Mt := (yJ23_init, cJ23_init, 3, (Option.none), { frames := 2, cells := 0, slots := 0, locals := 42 })
theorem mJ23_init_c : (Mm mJ23_init).cells = 0 := rfl
theorem mJ23_init_s : (Mm mJ23_init).slots = 0 := rfl
theorem mJ23_init_args : argsOk (My mJ23_init) 2 := ⟨by decide +kernel, by decide +kernel, by decide +kernel⟩
theorem mJ23_init_plain : plainFor (My mJ23_init) = true := by decide +kernel
def mJ24_next : Mt := (yJ24_next, cJ24_next, 1, (Option.some (Jvm.ClassFile.FieldType.object "java/lang/Object")), { frames := 1, cells := 0, slots := 0, locals := 21 })
theorem mJ24_next_c : (Mm mJ24_next).cells = 0 := rfl
theorem mJ24_next_s : (Mm mJ24_next).slots = 0 := rfl
theorem mJ24_next_args : argsOk (My mJ24_next) 0 := ⟨by decide +kernel, by decide +kernel, by decide +kernel⟩
theorem mJ24_next_plain : plainFor (My mJ24_next) = true := by decide +kernel
def mJ24_init : Mt := (yJ24_init, cJ24_init, 3, (Option.none), { frames := 2, cells := 0, slots := 0, locals := 42 })
theorem mJ24_init_c : (Mm mJ24_init).cells = 0 := rfl
theorem mJ24_init_s : (Mm mJ24_init).slots = 0 := rfl
theorem mJ24_init_args : argsOk (My mJ24_init) 2 := ⟨by decide +kernel, by decide +kernel, by decide +kernel⟩
theorem mJ24_init_plain : plainFor (My mJ24_init) = true := by decide +kernel
def mJ25_init : Mt := (yJ25_init, cJ25_init, 1, (Option.none), { frames := 1, cells := 0, slots := 0, locals := 20 })
theorem mJ25_init_c : (Mm mJ25_init).cells = 0 := rfl
theorem mJ25_init_s : (Mm mJ25_init).slots = 0 := rfl
theorem mJ25_init_args : argsOk (My mJ25_init) 0 := ⟨by decide +kernel, by decide +kernel, by decide +kernel⟩
theorem mJ25_init_plain : plainFor (My mJ25_init) = true := by decide +kernel
def mJ26_intValue : Mt := (yJ26_intValue, cJ26_intValue, 1, (Option.some Jvm.ClassFile.FieldType.int), { frames := 0, cells := 0, slots := 0, locals := 0 })
theorem mJ26_intValue_c : (Mm mJ26_intValue).cells = 0 := rfl
theorem mJ26_intValue_s : (Mm mJ26_intValue).slots = 0 := rfl
theorem mJ26_intValue_args : argsOk (My mJ26_intValue) 0 := ⟨by decide +kernel, by decide +kernel, by decide +kernel⟩
theorem mJ26_intValue_plain : plainFor (My mJ26_intValue) = true := by decide +kernel
def mJ26_valueOf : Mt := (yJ26_valueOf, cJ26_valueOf, 1, (Option.some (Jvm.ClassFile.FieldType.object "java/lang/Integer")), { frames := 3, cells := 1, slots := 1, locals := 61 })
theorem mJ26_valueOf_c : (Mm mJ26_valueOf).cells = 1 := rfl
theorem mJ26_valueOf_s : (Mm mJ26_valueOf).slots = 1 := rfl
theorem mJ26_valueOf_args : argsOk (My mJ26_valueOf) 1 := ⟨by decide +kernel, by decide +kernel, by decide +kernel⟩
theorem mJ26_valueOf_plain : plainFor (My mJ26_valueOf) = true := by decide +kernel
def mJ26_init : Mt := (yJ26_init, cJ26_init, 2, (Option.none), { frames := 2, cells := 0, slots := 0, locals := 40 })
theorem mJ26_init_c : (Mm mJ26_init).cells = 0 := rfl
theorem mJ26_init_s : (Mm mJ26_init).slots = 0 := rfl
theorem mJ26_init_args : argsOk (My mJ26_init) 1 := ⟨by decide +kernel, by decide +kernel, by decide +kernel⟩
theorem mJ26_init_plain : plainFor (My mJ26_init) = true := by decide +kernel
def mJ27_canEncode : Mt := (yJ27_canEncode, cJ27_canEncode, 1, (Option.some Jvm.ClassFile.FieldType.boolean), { frames := 0, cells := 0, slots := 0, locals := 0 })
theorem mJ27_canEncode_c : (Mm mJ27_canEncode).cells = 0 := rfl
theorem mJ27_canEncode_s : (Mm mJ27_canEncode).slots = 0 := rfl
theorem mJ27_canEncode_args : argsOk (My mJ27_canEncode) 1 := ⟨by decide +kernel, by decide +kernel, by decide +kernel⟩
theorem mJ27_canEncode_plain : plainFor (My mJ27_canEncode) = true := by decide +kernel
def mJ27_charAt : Mt := (yJ27_charAt, cJ27_charAt, 2, (Option.some Jvm.ClassFile.FieldType.char), { frames := 2, cells := 0, slots := 0, locals := 43 })
theorem mJ27_charAt_c : (Mm mJ27_charAt).cells = 0 := rfl
theorem mJ27_charAt_s : (Mm mJ27_charAt).slots = 0 := rfl
theorem mJ27_charAt_args : argsOk (My mJ27_charAt) 2 := ⟨by decide +kernel, by decide +kernel, by decide +kernel⟩
theorem mJ27_charAt_plain : plainFor (My mJ27_charAt) = true := by decide +kernel
def mJ28_getKey : Mt := (yJ28_getKey, cJ28_getKey, 1, (Option.some (Jvm.ClassFile.FieldType.object "java/lang/Object")), { frames := 0, cells := 0, slots := 0, locals := 0 })
theorem mJ28_getKey_c : (Mm mJ28_getKey).cells = 0 := rfl
theorem mJ28_getKey_s : (Mm mJ28_getKey).slots = 0 := rfl
theorem mJ28_getKey_args : argsOk (My mJ28_getKey) 0 := ⟨by decide +kernel, by decide +kernel, by decide +kernel⟩
theorem mJ28_getKey_plain : plainFor (My mJ28_getKey) = true := by decide +kernel
def mJ28_getValue : Mt := (yJ28_getValue, cJ28_getValue, 1, (Option.some (Jvm.ClassFile.FieldType.object "java/lang/Object")), { frames := 0, cells := 0, slots := 0, locals := 0 })
theorem mJ28_getValue_c : (Mm mJ28_getValue).cells = 0 := rfl
theorem mJ28_getValue_s : (Mm mJ28_getValue).slots = 0 := rfl
theorem mJ28_getValue_args : argsOk (My mJ28_getValue) 0 := ⟨by decide +kernel, by decide +kernel, by decide +kernel⟩
theorem mJ28_getValue_plain : plainFor (My mJ28_getValue) = true := by decide +kernel
def mJ28_init : Mt := (yJ28_init, cJ28_init, 5, (Option.none), { frames := 1, cells := 0, slots := 0, locals := 20 })
theorem mJ28_init_c : (Mm mJ28_init).cells = 0 := rfl
theorem mJ28_init_s : (Mm mJ28_init).slots = 0 := rfl
theorem mJ28_init_args : argsOk (My mJ28_init) 4 := ⟨by decide +kernel, by decide +kernel, by decide +kernel⟩
theorem mJ28_init_plain : plainFor (My mJ28_init) = true := by decide +kernel
def mJ29_init : Mt := (yJ29_init, cJ29_init, 5, (Option.none), { frames := 2, cells := 0, slots := 0, locals := 44 })
theorem mJ29_init_c : (Mm mJ29_init).cells = 0 := rfl
theorem mJ29_init_s : (Mm mJ29_init).slots = 0 := rfl
theorem mJ29_init_args : argsOk (My mJ29_init) 4 := ⟨by decide +kernel, by decide +kernel, by decide +kernel⟩
theorem mJ29_init_plain : plainFor (My mJ29_init) = true := by decide +kernel
def mJ32_checkIndex : Mt := (yJ32_checkIndex, cJ32_checkIndex, 3, (Option.some Jvm.ClassFile.FieldType.int), { frames := 0, cells := 0, slots := 0, locals := 0 })
theorem mJ32_checkIndex_c : (Mm mJ32_checkIndex).cells = 0 := rfl
theorem mJ32_checkIndex_s : (Mm mJ32_checkIndex).slots = 0 := rfl
theorem mJ32_checkIndex_args : argsOk (My mJ32_checkIndex) 3 := ⟨by decide +kernel, by decide +kernel, by decide +kernel⟩
theorem mJ32_checkIndex_plain : plainFor (My mJ32_checkIndex) = true := by decide +kernel
def mJ33_untreeify : Mt := (yJ33_untreeify, cJ33_untreeify, 6, (Option.some (Jvm.ClassFile.FieldType.object "java/util/HashMap$Node")), { frames := 4, cells := 19, slots := 114, locals := 92 })
theorem mJ33_untreeify_c : (Mm mJ33_untreeify).cells = 19 := rfl
theorem mJ33_untreeify_s : (Mm mJ33_untreeify).slots = 114 := rfl
theorem mJ33_untreeify_args : argsOk (My mJ33_untreeify) 1 := ⟨by decide +kernel, by decide +kernel, by decide +kernel⟩
theorem mJ33_untreeify_plain : plainFor (My mJ33_untreeify) = true := by decide +kernel
def mJ33_treeify : Mt := (yJ33_treeify, cJ33_treeify, 13, (Option.none), { frames := 2, cells := 0, slots := 0, locals := 49 })
theorem mJ33_treeify_c : (Mm mJ33_treeify).cells = 0 := rfl
theorem mJ33_treeify_s : (Mm mJ33_treeify).slots = 0 := rfl
theorem mJ33_treeify_args : argsOk (My mJ33_treeify) 1 := ⟨by decide +kernel, by decide +kernel, by decide +kernel⟩
theorem mJ33_treeify_plain : plainFor (My mJ33_treeify) = true := by decide +kernel
def mJ33_balanceInsertion : Mt := (yJ33_balanceInsertion, cJ33_balanceInsertion, 6, (Option.some (Jvm.ClassFile.FieldType.object "java/util/HashMap$TreeNode")), { frames := 1, cells := 0, slots := 0, locals := 24 })
theorem mJ33_balanceInsertion_c : (Mm mJ33_balanceInsertion).cells = 0 := rfl
theorem mJ33_balanceInsertion_s : (Mm mJ33_balanceInsertion).slots = 0 := rfl
theorem mJ33_balanceInsertion_args : argsOk (My mJ33_balanceInsertion) 2 := ⟨by decide +kernel, by decide +kernel, by decide +kernel⟩
theorem mJ33_balanceInsertion_plain : plainFor (My mJ33_balanceInsertion) = true := by decide +kernel
def mJ33_rotateLeft : Mt := (yJ33_rotateLeft, cJ33_rotateLeft, 5, (Option.some (Jvm.ClassFile.FieldType.object "java/util/HashMap$TreeNode")), { frames := 0, cells := 0, slots := 0, locals := 0 })
theorem mJ33_rotateLeft_c : (Mm mJ33_rotateLeft).cells = 0 := rfl
theorem mJ33_rotateLeft_s : (Mm mJ33_rotateLeft).slots = 0 := rfl
theorem mJ33_rotateLeft_args : argsOk (My mJ33_rotateLeft) 2 := ⟨by decide +kernel, by decide +kernel, by decide +kernel⟩
theorem mJ33_rotateLeft_plain : plainFor (My mJ33_rotateLeft) = true := by decide +kernel
def mJ33_rotateRight : Mt := (yJ33_rotateRight, cJ33_rotateRight, 5, (Option.some (Jvm.ClassFile.FieldType.object "java/util/HashMap$TreeNode")), { frames := 0, cells := 0, slots := 0, locals := 0 })
theorem mJ33_rotateRight_c : (Mm mJ33_rotateRight).cells = 0 := rfl
theorem mJ33_rotateRight_s : (Mm mJ33_rotateRight).slots = 0 := rfl
theorem mJ33_rotateRight_args : argsOk (My mJ33_rotateRight) 2 := ⟨by decide +kernel, by decide +kernel, by decide +kernel⟩
theorem mJ33_rotateRight_plain : plainFor (My mJ33_rotateRight) = true := by decide +kernel
def mJ33_moveRootToFront : Mt := (yJ33_moveRootToFront, cJ33_moveRootToFront, 7, (Option.none), { frames := 0, cells := 0, slots := 0, locals := 0 })
theorem mJ33_moveRootToFront_c : (Mm mJ33_moveRootToFront).cells = 0 := rfl
theorem mJ33_moveRootToFront_s : (Mm mJ33_moveRootToFront).slots = 0 := rfl
theorem mJ33_moveRootToFront_args : argsOk (My mJ33_moveRootToFront) 2 := ⟨by decide +kernel, by decide +kernel, by decide +kernel⟩
theorem mJ33_moveRootToFront_plain : plainFor (My mJ33_moveRootToFront) = true := by decide +kernel
def mJ33_putTreeVal : Mt := (yJ33_putTreeVal, cJ33_putTreeVal, 16, (Option.some (Jvm.ClassFile.FieldType.object "java/util/HashMap$TreeNode")), { frames := 5, cells := 1, slots := 11, locals := 117 })
theorem mJ33_putTreeVal_c : (Mm mJ33_putTreeVal).cells = 1 := rfl
theorem mJ33_putTreeVal_s : (Mm mJ33_putTreeVal).slots = 11 := rfl
theorem mJ33_putTreeVal_args : argsOk (My mJ33_putTreeVal) 5 := ⟨by decide +kernel, by decide +kernel, by decide +kernel⟩
theorem mJ33_putTreeVal_plain : plainFor (My mJ33_putTreeVal) = true := by decide +kernel
def mJ33_root : Mt := (yJ33_root, cJ33_root, 3, (Option.some (Jvm.ClassFile.FieldType.object "java/util/HashMap$TreeNode")), { frames := 0, cells := 0, slots := 0, locals := 0 })
theorem mJ33_root_c : (Mm mJ33_root).cells = 0 := rfl
theorem mJ33_root_s : (Mm mJ33_root).slots = 0 := rfl
theorem mJ33_root_args : argsOk (My mJ33_root) 0 := ⟨by decide +kernel, by decide +kernel, by decide +kernel⟩
theorem mJ33_root_plain : plainFor (My mJ33_root) = true := by decide +kernel
def mJ33_find : Mt := (yJ33_find, cJ33_find, 11, (Option.some (Jvm.ClassFile.FieldType.object "java/util/HashMap$TreeNode")), { frames := 1, cells := 0, slots := 0, locals := 21 })
theorem mJ33_find_c : (Mm mJ33_find).cells = 0 := rfl
theorem mJ33_find_s : (Mm mJ33_find).slots = 0 := rfl
theorem mJ33_find_args : argsOk (My mJ33_find) 3 := ⟨by decide +kernel, by decide +kernel, by decide +kernel⟩
theorem mJ33_find_plain : plainFor (My mJ33_find) = true := by decide +kernel
def mJ33_init : Mt := (yJ33_init, cJ33_init, 5, (Option.none), { frames := 3, cells := 0, slots := 0, locals := 68 })
theorem mJ33_init_c : (Mm mJ33_init).cells = 0 := rfl
theorem mJ33_init_s : (Mm mJ33_init).slots = 0 := rfl
theorem mJ33_init_args : argsOk (My mJ33_init) 4 := ⟨by decide +kernel, by decide +kernel, by decide +kernel⟩
theorem mJ33_init_plain : plainFor (My mJ33_init) = true := by decide +kernel
def mJ33_getTreeNode : Mt := (yJ33_getTreeNode, cJ33_getTreeNode, 3, (Option.some (Jvm.ClassFile.FieldType.object "java/util/HashMap$TreeNode")), { frames := 2, cells := 0, slots := 0, locals := 51 })
theorem mJ33_getTreeNode_c : (Mm mJ33_getTreeNode).cells = 0 := rfl
theorem mJ33_getTreeNode_s : (Mm mJ33_getTreeNode).slots = 0 := rfl
theorem mJ33_getTreeNode_args : argsOk (My mJ33_getTreeNode) 2 := ⟨by decide +kernel, by decide +kernel, by decide +kernel⟩
theorem mJ33_getTreeNode_plain : plainFor (My mJ33_getTreeNode) = true := by decide +kernel
def mJ33_removeTreeNode : Mt := (yJ33_removeTreeNode, cJ33_removeTreeNode, 21, (Option.none), { frames := 5, cells := 19, slots := 114, locals := 117 })
theorem mJ33_removeTreeNode_c : (Mm mJ33_removeTreeNode).cells = 19 := rfl
theorem mJ33_removeTreeNode_s : (Mm mJ33_removeTreeNode).slots = 114 := rfl
theorem mJ33_removeTreeNode_args : argsOk (My mJ33_removeTreeNode) 3 := ⟨by decide +kernel, by decide +kernel, by decide +kernel⟩
theorem mJ33_removeTreeNode_plain : plainFor (My mJ33_removeTreeNode) = true := by decide +kernel
def mJ33_balanceDeletion : Mt := (yJ33_balanceDeletion, cJ33_balanceDeletion, 7, (Option.some (Jvm.ClassFile.FieldType.object "java/util/HashMap$TreeNode")), { frames := 1, cells := 0, slots := 0, locals := 24 })
theorem mJ33_balanceDeletion_c : (Mm mJ33_balanceDeletion).cells = 0 := rfl
theorem mJ33_balanceDeletion_s : (Mm mJ33_balanceDeletion).slots = 0 := rfl
theorem mJ33_balanceDeletion_args : argsOk (My mJ33_balanceDeletion) 2 := ⟨by decide +kernel, by decide +kernel, by decide +kernel⟩
theorem mJ33_balanceDeletion_plain : plainFor (My mJ33_balanceDeletion) = true := by decide +kernel
def mJ34_checkIndex : Mt := (yJ34_checkIndex, cJ34_checkIndex, 2, (Option.some Jvm.ClassFile.FieldType.int), { frames := 1, cells := 0, slots := 0, locals := 22 })
theorem mJ34_checkIndex_c : (Mm mJ34_checkIndex).cells = 0 := rfl
theorem mJ34_checkIndex_s : (Mm mJ34_checkIndex).slots = 0 := rfl
theorem mJ34_checkIndex_args : argsOk (My mJ34_checkIndex) 2 := ⟨by decide +kernel, by decide +kernel, by decide +kernel⟩
theorem mJ34_checkIndex_plain : plainFor (My mJ34_checkIndex) = true := by decide +kernel
def mJ35_init : Mt := (yJ35_init, cJ35_init, 1, (Option.none), { frames := 3, cells := 1, slots := 8, locals := 60 })
theorem mJ35_init_c : (Mm mJ35_init).cells = 1 := rfl
theorem mJ35_init_s : (Mm mJ35_init).slots = 8 := rfl
theorem mJ35_init_args : argsOk (My mJ35_init) 0 := ⟨by decide +kernel, by decide +kernel, by decide +kernel⟩
theorem mJ35_init_plain : plainFor (My mJ35_init) = true := by decide +kernel
def mJ35_add : Mt := (yJ35_add, cJ35_add, 2, (Option.some Jvm.ClassFile.FieldType.boolean), { frames := 8, cells := 25, slots := 450, locals := 206 })
theorem mJ35_add_c : (Mm mJ35_add).cells = 25 := rfl
theorem mJ35_add_s : (Mm mJ35_add).slots = 450 := rfl
theorem mJ35_add_args : argsOk (My mJ35_add) 1 := ⟨by decide +kernel, by decide +kernel, by decide +kernel⟩
theorem mJ35_add_plain : plainFor (My mJ35_add) = true := by decide +kernel
def mJ35_contains : Mt := (yJ35_contains, cJ35_contains, 2, (Option.some Jvm.ClassFile.FieldType.boolean), { frames := 5, cells := 0, slots := 0, locals := 121 })
theorem mJ35_contains_c : (Mm mJ35_contains).cells = 0 := rfl
theorem mJ35_contains_s : (Mm mJ35_contains).slots = 0 := rfl
theorem mJ35_contains_args : argsOk (My mJ35_contains) 1 := ⟨by decide +kernel, by decide +kernel, by decide +kernel⟩
theorem mJ35_contains_plain : plainFor (My mJ35_contains) = true := by decide +kernel
def mJ36_equals : Mt := (yJ36_equals, cJ36_equals, 2, (Option.some Jvm.ClassFile.FieldType.boolean), { frames := 0, cells := 0, slots := 0, locals := 0 })
theorem mJ36_equals_c : (Mm mJ36_equals).cells = 0 := rfl
theorem mJ36_equals_s : (Mm mJ36_equals).slots = 0 := rfl
theorem mJ36_equals_args : argsOk (My mJ36_equals) 1 := ⟨by decide +kernel, by decide +kernel, by decide +kernel⟩
theorem mJ36_equals_plain : plainFor (My mJ36_equals) = true := by decide +kernel
def mX6_hashCode : Mt := (yX6_hashCode, cX6_hashCode, 1, (Option.some Jvm.ClassFile.FieldType.int), { frames := 0, cells := 0, slots := 0, locals := 0 })
theorem mX6_hashCode_c : (Mm mX6_hashCode).cells = 0 := rfl
theorem mX6_hashCode_s : (Mm mX6_hashCode).slots = 0 := rfl
theorem mX6_hashCode_args : argsOk (My mX6_hashCode) 0 := ⟨by decide +kernel, by decide +kernel, by decide +kernel⟩
theorem mX6_hashCode_plain : plainFor (My mX6_hashCode) = true := by decide +kernel
def mX6_equals : Mt := (yX6_equals, cX6_equals, 2, (Option.some Jvm.ClassFile.FieldType.boolean), { frames := 0, cells := 0, slots := 0, locals := 0 })
theorem mX6_equals_c : (Mm mX6_equals).cells = 0 := rfl
theorem mX6_equals_s : (Mm mX6_equals).slots = 0 := rfl
theorem mX6_equals_args : argsOk (My mX6_equals) 1 := ⟨by decide +kernel, by decide +kernel, by decide +kernel⟩
theorem mX6_equals_plain : plainFor (My mX6_equals) = true := by decide +kernel
def mX6_init : Mt := (yX6_init, cX6_init, 3, (Option.none), { frames := 1, cells := 0, slots := 0, locals := 20 })
theorem mX6_init_c : (Mm mX6_init).cells = 0 := rfl
theorem mX6_init_s : (Mm mX6_init).slots = 0 := rfl
theorem mX6_init_args : argsOk (My mX6_init) 2 := ⟨by decide +kernel, by decide +kernel, by decide +kernel⟩
theorem mX6_init_plain : plainFor (My mX6_init) = true := by decide +kernel
def mX5_copy : Mt := (yX5_copy, cX5_copy, 2, (Option.some (Jvm.ClassFile.FieldType.object "TrophyPlates$Plate")), { frames := 2, cells := 2, slots := 6, locals := 43 })
theorem mX5_copy_c : (Mm mX5_copy).cells = 2 := rfl
theorem mX5_copy_s : (Mm mX5_copy).slots = 6 := rfl
theorem mX5_copy_args : argsOk (My mX5_copy) 0 := ⟨by decide +kernel, by decide +kernel, by decide +kernel⟩
theorem mX5_copy_plain : plainFor (My mX5_copy) = true := by decide +kernel
def mX5_init : Mt := (yX5_init, cX5_init, 4, (Option.none), { frames := 1, cells := 0, slots := 0, locals := 20 })
theorem mX5_init_c : (Mm mX5_init).cells = 0 := rfl
theorem mX5_init_s : (Mm mX5_init).slots = 0 := rfl
theorem mX5_init_args : argsOk (My mX5_init) 3 := ⟨by decide +kernel, by decide +kernel, by decide +kernel⟩
theorem mX5_init_plain : plainFor (My mX5_init) = true := by decide +kernel
def mX5_init_2 : Mt := (yX5_init_2, cX5_init_2, 3, (Option.none), { frames := 2, cells := 1, slots := 2, locals := 43 })
theorem mX5_init_2_c : (Mm mX5_init_2).cells = 1 := rfl
theorem mX5_init_2_s : (Mm mX5_init_2).slots = 2 := rfl
theorem mX5_init_2_args : argsOk (My mX5_init_2) 2 := ⟨by decide +kernel, by decide +kernel, by decide +kernel⟩
theorem mX5_init_2_plain : plainFor (My mX5_init_2) = true := by decide +kernel
def mX5_thicknessWithout : Mt := (yX5_thicknessWithout, cX5_thicknessWithout, 2, (Option.some Jvm.ClassFile.FieldType.int), { frames := 0, cells := 0, slots := 0, locals := 0 })
theorem mX5_thicknessWithout_c : (Mm mX5_thicknessWithout).cells = 0 := rfl
theorem mX5_thicknessWithout_s : (Mm mX5_thicknessWithout).slots = 0 := rfl
theorem mX5_thicknessWithout_args : argsOk (My mX5_thicknessWithout) 1 := ⟨by decide +kernel, by decide +kernel, by decide +kernel⟩
theorem mX5_thicknessWithout_plain : plainFor (My mX5_thicknessWithout) = true := by decide +kernel
def mX5_grind : Mt := (yX5_grind, cX5_grind, 2, (Option.none), { frames := 1, cells := 0, slots := 0, locals := 21 })
theorem mX5_grind_c : (Mm mX5_grind).cells = 0 := rfl
theorem mX5_grind_s : (Mm mX5_grind).slots = 0 := rfl
theorem mX5_grind_args : argsOk (My mX5_grind) 1 := ⟨by decide +kernel, by decide +kernel, by decide +kernel⟩
theorem mX5_grind_plain : plainFor (My mX5_grind) = true := by decide +kernel
def mX5_side : Mt := (yX5_side, cX5_side, 4, (Option.some Jvm.ClassFile.FieldType.int), { frames := 2, cells := 0, slots := 0, locals := 43 })
theorem mX5_side_c : (Mm mX5_side).cells = 0 := rfl
theorem mX5_side_s : (Mm mX5_side).slots = 0 := rfl
theorem mX5_side_args : argsOk (My mX5_side) 2 := ⟨by decide +kernel, by decide +kernel, by decide +kernel⟩
theorem mX5_side_plain : plainFor (My mX5_side) = true := by decide +kernel
def mX5_canBeGround : Mt := (yX5_canBeGround, cX5_canBeGround, 3, (Option.some Jvm.ClassFile.FieldType.boolean), { frames := 1, cells := 0, slots := 0, locals := 21 })
theorem mX5_canBeGround_c : (Mm mX5_canBeGround).cells = 0 := rfl
theorem mX5_canBeGround_s : (Mm mX5_canBeGround).slots = 0 := rfl
theorem mX5_canBeGround_args : argsOk (My mX5_canBeGround) 2 := ⟨by decide +kernel, by decide +kernel, by decide +kernel⟩
theorem mX5_canBeGround_plain : plainFor (My mX5_canBeGround) = true := by decide +kernel
def mX5_isReady : Mt := (yX5_isReady, cX5_isReady, 3, (Option.some Jvm.ClassFile.FieldType.boolean), { frames := 0, cells := 0, slots := 0, locals := 0 })
theorem mX5_isReady_c : (Mm mX5_isReady).cells = 0 := rfl
theorem mX5_isReady_s : (Mm mX5_isReady).slots = 0 := rfl
theorem mX5_isReady_args : argsOk (My mX5_isReady) 2 := ⟨by decide +kernel, by decide +kernel, by decide +kernel⟩
theorem mX5_isReady_plain : plainFor (My mX5_isReady) = true := by decide +kernel
def mX8_init : Mt := (yX8_init, cX8_init, 4, (Option.none), { frames := 1, cells := 0, slots := 0, locals := 20 })
theorem mX8_init_c : (Mm mX8_init).cells = 0 := rfl
theorem mX8_init_s : (Mm mX8_init).slots = 0 := rfl
theorem mX8_init_args : argsOk (My mX8_init) 3 := ⟨by decide +kernel, by decide +kernel, by decide +kernel⟩
theorem mX8_init_plain : plainFor (My mX8_init) = true := by decide +kernel
def mX4_init : Mt := (yX4_init, cX4_init, 3, (Option.none), { frames := 1, cells := 0, slots := 0, locals := 20 })
theorem mX4_init_c : (Mm mX4_init).cells = 0 := rfl
theorem mX4_init_s : (Mm mX4_init).slots = 0 := rfl
theorem mX4_init_args : argsOk (My mX4_init) 2 := ⟨by decide +kernel, by decide +kernel, by decide +kernel⟩
theorem mX4_init_plain : plainFor (My mX4_init) = true := by decide +kernel
def mX2_init : Mt := (yX2_init, cX2_init, 1, (Option.none), { frames := 2, cells := 0, slots := 0, locals := 41 })
theorem mX2_init_c : (Mm mX2_init).cells = 0 := rfl
theorem mX2_init_s : (Mm mX2_init).slots = 0 := rfl
theorem mX2_init_args : argsOk (My mX2_init) 0 := ⟨by decide +kernel, by decide +kernel, by decide +kernel⟩
theorem mX2_init_plain : plainFor (My mX2_init) = true := by decide +kernel
def mX2_init_2 : Mt := (yX2_init_2, cX2_init_2, 2, (Option.none), { frames := 1, cells := 0, slots := 0, locals := 20 })
theorem mX2_init_2_c : (Mm mX2_init_2).cells = 0 := rfl
theorem mX2_init_2_s : (Mm mX2_init_2).slots = 0 := rfl
theorem mX2_init_2_args : argsOk (My mX2_init_2) 1 := ⟨by decide +kernel, by decide +kernel, by decide +kernel⟩
theorem mX2_init_2_plain : plainFor (My mX2_init_2) = true := by decide +kernel
def mX2_push : Mt := (yX2_push, cX2_push, 4, (Option.none), { frames := 2, cells := 1, slots := 2, locals := 42 })
theorem mX2_push_c : (Mm mX2_push).cells = 1 := rfl
theorem mX2_push_s : (Mm mX2_push).slots = 2 := rfl
theorem mX2_push_args : argsOk (My mX2_push) 1 := ⟨by decide +kernel, by decide +kernel, by decide +kernel⟩
theorem mX2_push_plain : plainFor (My mX2_push) = true := by decide +kernel
def mX2_pop : Mt := (yX2_pop, cX2_pop, 2, (Option.some (Jvm.ClassFile.FieldType.object "TrophyPlates$Shop")), { frames := 0, cells := 0, slots := 0, locals := 0 })
theorem mX2_pop_c : (Mm mX2_pop).cells = 0 := rfl
theorem mX2_pop_s : (Mm mX2_pop).slots = 0 := rfl
theorem mX2_pop_args : argsOk (My mX2_pop) 0 := ⟨by decide +kernel, by decide +kernel, by decide +kernel⟩
theorem mX2_pop_plain : plainFor (My mX2_pop) = true := by decide +kernel
def mX7_init : Mt := (yX7_init, cX7_init, 6, (Option.none), { frames := 1, cells := 0, slots := 0, locals := 20 })
theorem mX7_init_c : (Mm mX7_init).cells = 0 := rfl
theorem mX7_init_s : (Mm mX7_init).slots = 0 := rfl
theorem mX7_init_args : argsOk (My mX7_init) 5 := ⟨by decide +kernel, by decide +kernel, by decide +kernel⟩
theorem mX7_init_plain : plainFor (My mX7_init) = true := by decide +kernel
def mX7_init_2 : Mt := (yX7_init_2, cX7_init_2, 3, (Option.none), { frames := 2, cells := 0, slots := 0, locals := 45 })
theorem mX7_init_2_c : (Mm mX7_init_2).cells = 0 := rfl
theorem mX7_init_2_s : (Mm mX7_init_2).slots = 0 := rfl
theorem mX7_init_2_args : argsOk (My mX7_init_2) 2 := ⟨by decide +kernel, by decide +kernel, by decide +kernel⟩
theorem mX7_init_2_plain : plainFor (My mX7_init_2) = true := by decide +kernel
def mX7_length : Mt := (yX7_length, cX7_length, 1, (Option.some Jvm.ClassFile.FieldType.int), { frames := 5, cells := 0, slots := 0, locals := 111 })
theorem mX7_length_c : (Mm mX7_length).cells = 0 := rfl
theorem mX7_length_s : (Mm mX7_length).slots = 0 := rfl
theorem mX7_length_args : argsOk (My mX7_length) 0 := ⟨by decide +kernel, by decide +kernel, by decide +kernel⟩
theorem mX7_length_plain : plainFor (My mX7_length) = true := by decide +kernel
def mX7_effort : Mt := (yX7_effort, cX7_effort, 1, (Option.some Jvm.ClassFile.FieldType.int), { frames := 2, cells := 0, slots := 0, locals := 40 })
theorem mX7_effort_c : (Mm mX7_effort).cells = 0 := rfl
theorem mX7_effort_s : (Mm mX7_effort).slots = 0 := rfl
theorem mX7_effort_args : argsOk (My mX7_effort) 0 := ⟨by decide +kernel, by decide +kernel, by decide +kernel⟩
theorem mX7_effort_plain : plainFor (My mX7_effort) = true := by decide +kernel
def mX1_init : Mt := (yX1_init, cX1_init, 1, (Option.none), { frames := 4, cells := 4, slots := 21, locals := 80 })
theorem mX1_init_c : (Mm mX1_init).cells = 4 := rfl
theorem mX1_init_s : (Mm mX1_init).slots = 21 := rfl
theorem mX1_init_args : argsOk (My mX1_init) 0 := ⟨by decide +kernel, by decide +kernel, by decide +kernel⟩
theorem mX1_init_plain : plainFor (My mX1_init) = true := by decide +kernel
def mX1_copy : Mt := (yX1_copy, cX1_copy, 5, (Option.some (Jvm.ClassFile.FieldType.object "TrophyPlates$Shop")), { frames := 8, cells := 600, slots := 10000, locals := 206 })
theorem mX1_copy_c : (Mm mX1_copy).cells = 600 := rfl
theorem mX1_copy_s : (Mm mX1_copy).slots = 10000 := rfl
theorem mX1_copy_args : argsOk (My mX1_copy) 0 := ⟨by decide +kernel, by decide +kernel, by decide +kernel⟩
theorem mX1_copy_plain : plainFor (My mX1_copy) = true := by decide +kernel
def mX1_isPlate : Mt := (yX1_isPlate, cX1_isPlate, 2, (Option.some Jvm.ClassFile.FieldType.boolean), { frames := 1, cells := 0, slots := 0, locals := 22 })
theorem mX1_isPlate_c : (Mm mX1_isPlate).cells = 0 := rfl
theorem mX1_isPlate_s : (Mm mX1_isPlate).slots = 0 := rfl
theorem mX1_isPlate_args : argsOk (My mX1_isPlate) 1 := ⟨by decide +kernel, by decide +kernel, by decide +kernel⟩
theorem mX1_isPlate_plain : plainFor (My mX1_isPlate) = true := by decide +kernel
def mX1_platesIn : Mt := (yX1_platesIn, cX1_platesIn, 5, (Option.some Jvm.ClassFile.FieldType.int), { frames := 3, cells := 1, slots := 4, locals := 61 })
theorem mX1_platesIn_c : (Mm mX1_platesIn).cells = 1 := rfl
theorem mX1_platesIn_s : (Mm mX1_platesIn).slots = 4 := rfl
theorem mX1_platesIn_args : argsOk (My mX1_platesIn) 1 := ⟨by decide +kernel, by decide +kernel, by decide +kernel⟩
theorem mX1_platesIn_plain : plainFor (My mX1_platesIn) = true := by decide +kernel
def mX1_grind : Mt := (yX1_grind, cX1_grind, 3, (Option.none), { frames := 3, cells := 0, slots := 0, locals := 64 })
theorem mX1_grind_c : (Mm mX1_grind).cells = 0 := rfl
theorem mX1_grind_s : (Mm mX1_grind).slots = 0 := rfl
theorem mX1_grind_args : argsOk (My mX1_grind) 2 := ⟨by decide +kernel, by decide +kernel, by decide +kernel⟩
theorem mX1_grind_plain : plainFor (My mX1_grind) = true := by decide +kernel
def mX1_isShield : Mt := (yX1_isShield, cX1_isShield, 2, (Option.some Jvm.ClassFile.FieldType.boolean), { frames := 1, cells := 0, slots := 0, locals := 22 })
theorem mX1_isShield_c : (Mm mX1_isShield).cells = 0 := rfl
theorem mX1_isShield_s : (Mm mX1_isShield).slots = 0 := rfl
theorem mX1_isShield_args : argsOk (My mX1_isShield) 1 := ⟨by decide +kernel, by decide +kernel, by decide +kernel⟩
theorem mX1_isShield_plain : plainFor (My mX1_isShield) = true := by decide +kernel
def mX1_plateFor : Mt := (yX1_plateFor, cX1_plateFor, 4, (Option.some Jvm.ClassFile.FieldType.int), { frames := 5, cells := 1, slots := 2, locals := 122 })
theorem mX1_plateFor_c : (Mm mX1_plateFor).cells = 1 := rfl
theorem mX1_plateFor_s : (Mm mX1_plateFor).slots = 2 := rfl
theorem mX1_plateFor_args : argsOk (My mX1_plateFor) 2 := ⟨by decide +kernel, by decide +kernel, by decide +kernel⟩
theorem mX1_plateFor_plain : plainFor (My mX1_plateFor) = true := by decide +kernel
def mX1_takeOff : Mt := (yX1_takeOff, cX1_takeOff, 4, (Option.some Jvm.ClassFile.FieldType.int), { frames := 8, cells := 21, slots := 122, locals := 212 })
theorem mX1_takeOff_c : (Mm mX1_takeOff).cells = 21 := rfl
theorem mX1_takeOff_s : (Mm mX1_takeOff).slots = 122 := rfl
theorem mX1_takeOff_args : argsOk (My mX1_takeOff) 2 := ⟨by decide +kernel, by decide +kernel, by decide +kernel⟩
theorem mX1_takeOff_plain : plainFor (My mX1_takeOff) = true := by decide +kernel
def mX1_isOrdered : Mt := (yX1_isOrdered, cX1_isOrdered, 6, (Option.some Jvm.ClassFile.FieldType.boolean), { frames := 9, cells := 270, slots := 4700, locals := 227 })
theorem mX1_isOrdered_c : (Mm mX1_isOrdered).cells = 270 := rfl
theorem mX1_isOrdered_s : (Mm mX1_isOrdered).slots = 4700 := rfl
theorem mX1_isOrdered_args : argsOk (My mX1_isOrdered) 1 := ⟨by decide +kernel, by decide +kernel, by decide +kernel⟩
theorem mX1_isOrdered_plain : plainFor (My mX1_isOrdered) = true := by decide +kernel
def mX1_line : Mt := (yX1_line, cX1_line, 3, (Option.some Jvm.ClassFile.FieldType.int), { frames := 6, cells := 2, slots := 26, locals := 171 })
theorem mX1_line_c : (Mm mX1_line).cells = 2 := rfl
theorem mX1_line_s : (Mm mX1_line).slots = 26 := rfl
theorem mX1_line_args : argsOk (My mX1_line) 1 := ⟨by decide +kernel, by decide +kernel, by decide +kernel⟩
theorem mX1_line_plain : plainFor (My mX1_line) = true := by decide +kernel
def mX1_rushes : Mt := (yX1_rushes, cX1_rushes, 4, (Option.some Jvm.ClassFile.FieldType.int), { frames := 3, cells := 1, slots := 4, locals := 61 })
theorem mX1_rushes_c : (Mm mX1_rushes).cells = 1 := rfl
theorem mX1_rushes_s : (Mm mX1_rushes).slots = 4 := rfl
theorem mX1_rushes_args : argsOk (My mX1_rushes) 0 := ⟨by decide +kernel, by decide +kernel, by decide +kernel⟩
theorem mX1_rushes_plain : plainFor (My mX1_rushes) = true := by decide +kernel
def mX1_isOrder : Mt := (yX1_isOrder, cX1_isOrder, 2, (Option.some Jvm.ClassFile.FieldType.boolean), { frames := 1, cells := 0, slots := 0, locals := 22 })
theorem mX1_isOrder_c : (Mm mX1_isOrder).cells = 0 := rfl
theorem mX1_isOrder_s : (Mm mX1_isOrder).slots = 0 := rfl
theorem mX1_isOrder_args : argsOk (My mX1_isOrder) 1 := ⟨by decide +kernel, by decide +kernel, by decide +kernel⟩
theorem mX1_isOrder_plain : plainFor (My mX1_isOrder) = true := by decide +kernel
def mX1_hurry : Mt := (yX1_hurry, cX1_hurry, 4, (Option.some Jvm.ClassFile.FieldType.int), { frames := 7, cells := 3, slots := 31, locals := 193 })
theorem mX1_hurry_c : (Mm mX1_hurry).cells = 3 := rfl
theorem mX1_hurry_s : (Mm mX1_hurry).slots = 31 := rfl
theorem mX1_hurry_args : argsOk (My mX1_hurry) 1 := ⟨by decide +kernel, by decide +kernel, by decide +kernel⟩
theorem mX1_hurry_plain : plainFor (My mX1_hurry) = true := by decide +kernel
def mX1_cancel : Mt := (yX1_cancel, cX1_cancel, 3, (Option.none), { frames := 3, cells := 0, slots := 0, locals := 106 })
theorem mX1_cancel_c : (Mm mX1_cancel).cells = 0 := rfl
theorem mX1_cancel_s : (Mm mX1_cancel).slots = 0 := rfl
theorem mX1_cancel_args : argsOk (My mX1_cancel) 1 := ⟨by decide +kernel, by decide +kernel, by decide +kernel⟩
theorem mX1_cancel_plain : plainFor (My mX1_cancel) = true := by decide +kernel
def mX1_rest : Mt := (yX1_rest, cX1_rest, 1, (Option.none), { frames := 0, cells := 0, slots := 0, locals := 0 })
theorem mX1_rest_c : (Mm mX1_rest).cells = 0 := rfl
theorem mX1_rest_s : (Mm mX1_rest).slots = 0 := rfl
theorem mX1_rest_args : argsOk (My mX1_rest) 0 := ⟨by decide +kernel, by decide +kernel, by decide +kernel⟩
theorem mX1_rest_plain : plainFor (My mX1_rest) = true := by decide +kernel
def mX1_work : Mt := (yX1_work, cX1_work, 5, (Option.some Jvm.ClassFile.FieldType.int), { frames := 11, cells := 1500, slots := 10000, locals := 281 })
theorem mX1_work_c : (Mm mX1_work).cells = 1500 := rfl
theorem mX1_work_s : (Mm mX1_work).slots = 10000 := rfl
theorem mX1_work_args : argsOk (My mX1_work) 1 := ⟨by decide +kernel, by decide +kernel, by decide +kernel⟩
theorem mX1_work_plain : plainFor (My mX1_work) = true := by decide +kernel
def mX1_step : Mt := (yX1_step, cX1_step, 3, (Option.some Jvm.ClassFile.FieldType.int), { frames := 10, cells := 111, slots := 767, locals := 259 })
theorem mX1_step_c : (Mm mX1_step).cells = 111 := rfl
theorem mX1_step_s : (Mm mX1_step).slots = 767 := rfl
theorem mX1_step_args : argsOk (My mX1_step) 1 := ⟨by decide +kernel, by decide +kernel, by decide +kernel⟩
theorem mX1_step_plain : plainFor (My mX1_step) = true := by decide +kernel
def mX1_begin : Mt := (yX1_begin, cX1_begin, 4, (Option.some Jvm.ClassFile.FieldType.boolean), { frames := 6, cells := 60, slots := 180, locals := 131 })
theorem mX1_begin_c : (Mm mX1_begin).cells = 60 := rfl
theorem mX1_begin_s : (Mm mX1_begin).slots = 180 := rfl
theorem mX1_begin_args : argsOk (My mX1_begin) 0 := ⟨by decide +kernel, by decide +kernel, by decide +kernel⟩
theorem mX1_begin_plain : plainFor (My mX1_begin) = true := by decide +kernel
def mX1_find : Mt := (yX1_find, cX1_find, 4, (Option.some (Jvm.ClassFile.FieldType.object "TrophyPlates$Found")), { frames := 4, cells := 42, slots := 126, locals := 95 })
theorem mX1_find_c : (Mm mX1_find).cells = 42 := rfl
theorem mX1_find_s : (Mm mX1_find).slots = 126 := rfl
def mX1_findn : Mt := (yX1_find, cX1_find, 4, (Option.some (Jvm.ClassFile.FieldType.object "TrophyPlates$Found")), { frames := 4, cells := 2, slots := 6, locals := 95 })
theorem mX1_findn_c : (Mm mX1_findn).cells = 2 := rfl
theorem mX1_findn_s : (Mm mX1_findn).slots = 6 := rfl
theorem mX1_find_args : argsOk (My mX1_find) 2 := ⟨by decide +kernel, by decide +kernel, by decide +kernel⟩
theorem mX1_find_plain : plainFor (My mX1_find) = true := by decide +kernel
def mX1_find_2 : Mt := (yX1_find_2, cX1_find_2, 10, (Option.some (Jvm.ClassFile.FieldType.object "TrophyPlates$Found")), { frames := 3, cells := 41, slots := 123, locals := 66 })
theorem mX1_find_2_c : (Mm mX1_find_2).cells = 41 := rfl
theorem mX1_find_2_s : (Mm mX1_find_2).slots = 123 := rfl
def mX1_find_2n : Mt := (yX1_find_2, cX1_find_2, 10, (Option.some (Jvm.ClassFile.FieldType.object "TrophyPlates$Found")), { frames := 3, cells := 1, slots := 3, locals := 66 })
theorem mX1_find_2n_c : (Mm mX1_find_2n).cells = 1 := rfl
theorem mX1_find_2n_s : (Mm mX1_find_2n).slots = 3 := rfl
theorem mX1_find_2_args : argsOk (My mX1_find_2) 3 := ⟨by decide +kernel, by decide +kernel, by decide +kernel⟩
theorem mX1_find_2_plain : plainFor (My mX1_find_2) = true := by decide +kernel
def mX1_fix : Mt := (yX1_fix, cX1_fix, 5, (Option.none), { frames := 9, cells := 51, slots := 587, locals := 235 })
theorem mX1_fix_c : (Mm mX1_fix).cells = 51 := rfl
theorem mX1_fix_s : (Mm mX1_fix).slots = 587 := rfl
theorem mX1_fix_args : argsOk (My mX1_fix) 0 := ⟨by decide +kernel, by decide +kernel, by decide +kernel⟩
theorem mX1_fix_plain : plainFor (My mX1_fix) = true := by decide +kernel
def mX1_platesOn : Mt := (yX1_platesOn, cX1_platesOn, 5, (Option.some Jvm.ClassFile.FieldType.int), { frames := 6, cells := 2, slots := 7, locals := 124 })
theorem mX1_platesOn_c : (Mm mX1_platesOn).cells = 2 := rfl
theorem mX1_platesOn_s : (Mm mX1_platesOn).slots = 7 := rfl
theorem mX1_platesOn_args : argsOk (My mX1_platesOn) 1 := ⟨by decide +kernel, by decide +kernel, by decide +kernel⟩
theorem mX1_platesOn_plain : plainFor (My mX1_platesOn) = true := by decide +kernel
def mX1_year : Mt := (yX1_year, cX1_year, 7, (Option.some Jvm.ClassFile.FieldType.int), { frames := 6, cells := 2, slots := 7, locals := 124 })
theorem mX1_year_c : (Mm mX1_year).cells = 2 := rfl
theorem mX1_year_s : (Mm mX1_year).slots = 7 := rfl
theorem mX1_year_args : argsOk (My mX1_year) 2 := ⟨by decide +kernel, by decide +kernel, by decide +kernel⟩
theorem mX1_year_plain : plainFor (My mX1_year) = true := by decide +kernel
def mX1_slip : Mt := (yX1_slip, cX1_slip, 2, (Option.some Jvm.ClassFile.FieldType.int), { frames := 4, cells := 0, slots := 0, locals := 86 })
theorem mX1_slip_c : (Mm mX1_slip).cells = 0 := rfl
theorem mX1_slip_s : (Mm mX1_slip).slots = 0 := rfl
theorem mX1_slip_args : argsOk (My mX1_slip) 0 := ⟨by decide +kernel, by decide +kernel, by decide +kernel⟩
theorem mX1_slip_plain : plainFor (My mX1_slip) = true := by decide +kernel
def mX1_times : Mt := (yX1_times, cX1_times, 7, (Option.some (Jvm.ClassFile.FieldType.object "java/util/Map")), { frames := 11, cells := 2700, slots := 26000, locals := 281 })
theorem mX1_times_c : (Mm mX1_times).cells = 2700 := rfl
theorem mX1_times_s : (Mm mX1_times).slots = 26000 := rfl
theorem mX1_times_args : argsOk (My mX1_times) 0 := ⟨by decide +kernel, by decide +kernel, by decide +kernel⟩
theorem mX1_times_plain : plainFor (My mX1_times) = true := by decide +kernel
def mX0_init : Mt := (yX0_init, cX0_init, 1, (Option.none), { frames := 5, cells := 8, slots := 56, locals := 100 })
theorem mX0_init_c : (Mm mX0_init).cells = 8 := rfl
theorem mX0_init_s : (Mm mX0_init).slots = 56 := rfl
theorem mX0_init_args : argsOk (My mX0_init) 0 := ⟨by decide +kernel, by decide +kernel, by decide +kernel⟩
theorem mX0_init_plain : plainFor (My mX0_init) = true := by decide +kernel
def mX0_cut : Mt := (yX0_cut, cX0_cut, 4, (Option.some Jvm.ClassFile.FieldType.int), { frames := 10, cells := 604, slots := 10030, locals := 250 })
theorem mX0_cut_c : (Mm mX0_cut).cells = 604 := rfl
theorem mX0_cut_s : (Mm mX0_cut).slots = 10030 := rfl
theorem mX0_cut_args : argsOk (My mX0_cut) 2 := ⟨by decide +kernel, by decide +kernel, by decide +kernel⟩
theorem mX0_cut_plain : plainFor (My mX0_cut) = true := by decide +kernel
def mX0_isBetween : Mt := (yX0_isBetween, cX0_isBetween, 3, (Option.some Jvm.ClassFile.FieldType.boolean), { frames := 0, cells := 0, slots := 0, locals := 0 })
theorem mX0_isBetween_c : (Mm mX0_isBetween).cells = 0 := rfl
theorem mX0_isBetween_s : (Mm mX0_isBetween).slots = 0 := rfl
theorem mX0_isBetween_args : argsOk (My mX0_isBetween) 3 := ⟨by decide +kernel, by decide +kernel, by decide +kernel⟩
theorem mX0_isBetween_plain : plainFor (My mX0_isBetween) = true := by decide +kernel
def mX0_act : Mt := (yX0_act, cX0_act, 1, (Option.some (Jvm.ClassFile.FieldType.object "TrophyPlates$Shop")), { frames := 9, cells := 601, slots := 10002, locals := 230 })
theorem mX0_act_c : (Mm mX0_act).cells = 601 := rfl
theorem mX0_act_s : (Mm mX0_act).slots = 10002 := rfl
theorem mX0_act_args : argsOk (My mX0_act) 0 := ⟨by decide +kernel, by decide +kernel, by decide +kernel⟩
theorem mX0_act_plain : plainFor (My mX0_act) = true := by decide +kernel
def mX0_spoil : Mt := (yX0_spoil, cX0_spoil, 2, (Option.some Jvm.ClassFile.FieldType.int), { frames := 10, cells := 602, slots := 10006, locals := 250 })
theorem mX0_spoil_c : (Mm mX0_spoil).cells = 602 := rfl
theorem mX0_spoil_s : (Mm mX0_spoil).slots = 10006 := rfl
theorem mX0_spoil_args : argsOk (My mX0_spoil) 1 := ⟨by decide +kernel, by decide +kernel, by decide +kernel⟩
theorem mX0_spoil_plain : plainFor (My mX0_spoil) = true := by decide +kernel
def mX0_grind : Mt := (yX0_grind, cX0_grind, 4, (Option.some Jvm.ClassFile.FieldType.int), { frames := 10, cells := 601, slots := 10002, locals := 250 })
theorem mX0_grind_c : (Mm mX0_grind).cells = 601 := rfl
theorem mX0_grind_s : (Mm mX0_grind).slots = 10002 := rfl
theorem mX0_grind_args : argsOk (My mX0_grind) 2 := ⟨by decide +kernel, by decide +kernel, by decide +kernel⟩
theorem mX0_grind_plain : plainFor (My mX0_grind) = true := by decide +kernel
def mX0_addShield : Mt := (yX0_addShield, cX0_addShield, 3, (Option.some Jvm.ClassFile.FieldType.int), { frames := 10, cells := 601, slots := 10002, locals := 250 })
theorem mX0_addShield_c : (Mm mX0_addShield).cells = 601 := rfl
theorem mX0_addShield_s : (Mm mX0_addShield).slots = 10002 := rfl
theorem mX0_addShield_args : argsOk (My mX0_addShield) 1 := ⟨by decide +kernel, by decide +kernel, by decide +kernel⟩
theorem mX0_addShield_plain : plainFor (My mX0_addShield) = true := by decide +kernel
def mX0_takeOff : Mt := (yX0_takeOff, cX0_takeOff, 3, (Option.some Jvm.ClassFile.FieldType.int), { frames := 10, cells := 623, slots := 10126, locals := 250 })
theorem mX0_takeOff_c : (Mm mX0_takeOff).cells = 623 := rfl
theorem mX0_takeOff_s : (Mm mX0_takeOff).slots = 10126 := rfl
theorem mX0_takeOff_args : argsOk (My mX0_takeOff) 2 := ⟨by decide +kernel, by decide +kernel, by decide +kernel⟩
theorem mX0_takeOff_plain : plainFor (My mX0_takeOff) = true := by decide +kernel
def mX0_isPlace : Mt := (yX0_isPlace, cX0_isPlace, 3, (Option.some Jvm.ClassFile.FieldType.boolean), { frames := 2, cells := 0, slots := 0, locals := 43 })
theorem mX0_isPlace_c : (Mm mX0_isPlace).cells = 0 := rfl
theorem mX0_isPlace_s : (Mm mX0_isPlace).slots = 0 := rfl
theorem mX0_isPlace_args : argsOk (My mX0_isPlace) 2 := ⟨by decide +kernel, by decide +kernel, by decide +kernel⟩
theorem mX0_isPlace_plain : plainFor (My mX0_isPlace) = true := by decide +kernel
def mX0_append : Mt := (yX0_append, cX0_append, 2, (Option.some Jvm.ClassFile.FieldType.int), { frames := 2, cells := 0, slots := 0, locals := 42 })
theorem mX0_append_c : (Mm mX0_append).cells = 0 := rfl
theorem mX0_append_s : (Mm mX0_append).slots = 0 := rfl
theorem mX0_append_args : argsOk (My mX0_append) 1 := ⟨by decide +kernel, by decide +kernel, by decide +kernel⟩
theorem mX0_append_plain : plainFor (My mX0_append) = true := by decide +kernel
def mX0_clearText : Mt := (yX0_clearText, cX0_clearText, 2, (Option.some Jvm.ClassFile.FieldType.int), { frames := 2, cells := 0, slots := 0, locals := 42 })
theorem mX0_clearText_c : (Mm mX0_clearText).cells = 0 := rfl
theorem mX0_clearText_s : (Mm mX0_clearText).slots = 0 := rfl
theorem mX0_clearText_args : argsOk (My mX0_clearText) 0 := ⟨by decide +kernel, by decide +kernel, by decide +kernel⟩
theorem mX0_clearText_plain : plainFor (My mX0_clearText) = true := by decide +kernel
def mX0_order : Mt := (yX0_order, cX0_order, 8, (Option.some Jvm.ClassFile.FieldType.int), { frames := 10, cells := 878, slots := 14753, locals := 252 })
theorem mX0_order_c : (Mm mX0_order).cells = 878 := rfl
theorem mX0_order_s : (Mm mX0_order).slots = 14753 := rfl
theorem mX0_order_args : argsOk (My mX0_order) 5 := ⟨by decide +kernel, by decide +kernel, by decide +kernel⟩
theorem mX0_order_plain : plainFor (My mX0_order) = true := by decide +kernel
def mX0_isSize : Mt := (yX0_isSize, cX0_isSize, 1, (Option.some Jvm.ClassFile.FieldType.boolean), { frames := 1, cells := 0, slots := 0, locals := 22 })
theorem mX0_isSize_c : (Mm mX0_isSize).cells = 0 := rfl
theorem mX0_isSize_s : (Mm mX0_isSize).slots = 0 := rfl
theorem mX0_isSize_args : argsOk (My mX0_isSize) 1 := ⟨by decide +kernel, by decide +kernel, by decide +kernel⟩
theorem mX0_isSize_plain : plainFor (My mX0_isSize) = true := by decide +kernel
def mX0_isDepth : Mt := (yX0_isDepth, cX0_isDepth, 1, (Option.some Jvm.ClassFile.FieldType.boolean), { frames := 1, cells := 0, slots := 0, locals := 22 })
theorem mX0_isDepth_c : (Mm mX0_isDepth).cells = 0 := rfl
theorem mX0_isDepth_s : (Mm mX0_isDepth).slots = 0 := rfl
theorem mX0_isDepth_args : argsOk (My mX0_isDepth) 1 := ⟨by decide +kernel, by decide +kernel, by decide +kernel⟩
theorem mX0_isDepth_plain : plainFor (My mX0_isDepth) = true := by decide +kernel
def mX0_hurry : Mt := (yX0_hurry, cX0_hurry, 2, (Option.some Jvm.ClassFile.FieldType.int), { frames := 10, cells := 604, slots := 10033, locals := 250 })
theorem mX0_hurry_c : (Mm mX0_hurry).cells = 604 := rfl
theorem mX0_hurry_s : (Mm mX0_hurry).slots = 10033 := rfl
theorem mX0_hurry_args : argsOk (My mX0_hurry) 1 := ⟨by decide +kernel, by decide +kernel, by decide +kernel⟩
theorem mX0_hurry_plain : plainFor (My mX0_hurry) = true := by decide +kernel
def mX0_cancel : Mt := (yX0_cancel, cX0_cancel, 2, (Option.some Jvm.ClassFile.FieldType.int), { frames := 10, cells := 601, slots := 10002, locals := 250 })
theorem mX0_cancel_c : (Mm mX0_cancel).cells = 601 := rfl
theorem mX0_cancel_s : (Mm mX0_cancel).slots = 10002 := rfl
theorem mX0_cancel_args : argsOk (My mX0_cancel) 1 := ⟨by decide +kernel, by decide +kernel, by decide +kernel⟩
theorem mX0_cancel_plain : plainFor (My mX0_cancel) = true := by decide +kernel
def mX0_work : Mt := (yX0_work, cX0_work, 2, (Option.some Jvm.ClassFile.FieldType.int), { frames := 12, cells := 2101, slots := 20002, locals := 305 })
theorem mX0_work_c : (Mm mX0_work).cells = 2101 := rfl
theorem mX0_work_s : (Mm mX0_work).slots = 20002 := rfl
theorem mX0_work_args : argsOk (My mX0_work) 1 := ⟨by decide +kernel, by decide +kernel, by decide +kernel⟩
theorem mX0_work_plain : plainFor (My mX0_work) = true := by decide +kernel
def mX0_lengthOf : Mt := (yX0_lengthOf, cX0_lengthOf, 4, (Option.some Jvm.ClassFile.FieldType.int), { frames := 4, cells := 0, slots := 0, locals := 88 })
theorem mX0_lengthOf_c : (Mm mX0_lengthOf).cells = 0 := rfl
theorem mX0_lengthOf_s : (Mm mX0_lengthOf).slots = 0 := rfl
theorem mX0_lengthOf_args : argsOk (My mX0_lengthOf) 2 := ⟨by decide +kernel, by decide +kernel, by decide +kernel⟩
theorem mX0_lengthOf_plain : plainFor (My mX0_lengthOf) = true := by decide +kernel
def mX0_isAhead : Mt := (yX0_isAhead, cX0_isAhead, 3, (Option.some Jvm.ClassFile.FieldType.boolean), { frames := 0, cells := 0, slots := 0, locals := 0 })
theorem mX0_isAhead_c : (Mm mX0_isAhead).cells = 0 := rfl
theorem mX0_isAhead_s : (Mm mX0_isAhead).slots = 0 := rfl
theorem mX0_isAhead_args : argsOk (My mX0_isAhead) 2 := ⟨by decide +kernel, by decide +kernel, by decide +kernel⟩
theorem mX0_isAhead_plain : plainFor (My mX0_isAhead) = true := by decide +kernel
def mX0_slip : Mt := (yX0_slip, cX0_slip, 1, (Option.some Jvm.ClassFile.FieldType.int), { frames := 10, cells := 601, slots := 10002, locals := 250 })
theorem mX0_slip_c : (Mm mX0_slip).cells = 601 := rfl
theorem mX0_slip_s : (Mm mX0_slip).slots = 10002 := rfl
theorem mX0_slip_args : argsOk (My mX0_slip) 0 := ⟨by decide +kernel, by decide +kernel, by decide +kernel⟩
theorem mX0_slip_plain : plainFor (My mX0_slip) = true := by decide +kernel
def mX0_undo : Mt := (yX0_undo, cX0_undo, 1, (Option.some Jvm.ClassFile.FieldType.int), { frames := 1, cells := 0, slots := 0, locals := 21 })
theorem mX0_undo_c : (Mm mX0_undo).cells = 0 := rfl
theorem mX0_undo_s : (Mm mX0_undo).slots = 0 := rfl
theorem mX0_undo_args : argsOk (My mX0_undo) 0 := ⟨by decide +kernel, by decide +kernel, by decide +kernel⟩
theorem mX0_undo_plain : plainFor (My mX0_undo) = true := by decide +kernel
def mX0_count : Mt := (yX0_count, cX0_count, 2, (Option.some Jvm.ClassFile.FieldType.int), { frames := 4, cells := 1, slots := 4, locals := 85 })
theorem mX0_count_c : (Mm mX0_count).cells = 1 := rfl
theorem mX0_count_s : (Mm mX0_count).slots = 4 := rfl
theorem mX0_count_args : argsOk (My mX0_count) 1 := ⟨by decide +kernel, by decide +kernel, by decide +kernel⟩
theorem mX0_count_plain : plainFor (My mX0_count) = true := by decide +kernel
def mX0_plate : Mt := (yX0_plate, cX0_plate, 4, (Option.some Jvm.ClassFile.FieldType.int), { frames := 7, cells := 3, slots := 9, locals := 148 })
theorem mX0_plate_c : (Mm mX0_plate).cells = 3 := rfl
theorem mX0_plate_s : (Mm mX0_plate).slots = 9 := rfl
theorem mX0_plate_args : argsOk (My mX0_plate) 2 := ⟨by decide +kernel, by decide +kernel, by decide +kernel⟩
theorem mX0_plate_plain : plainFor (My mX0_plate) = true := by decide +kernel
def mX0_whereIs : Mt := (yX0_whereIs, cX0_whereIs, 5, (Option.some (Jvm.ClassFile.FieldType.array Jvm.ClassFile.FieldType.int)), { frames := 6, cells := 3, slots := 9, locals := 124 })
theorem mX0_whereIs_c : (Mm mX0_whereIs).cells = 3 := rfl
theorem mX0_whereIs_s : (Mm mX0_whereIs).slots = 9 := rfl
theorem mX0_whereIs_args : argsOk (My mX0_whereIs) 1 := ⟨by decide +kernel, by decide +kernel, by decide +kernel⟩
theorem mX0_whereIs_plain : plainFor (My mX0_whereIs) = true := by decide +kernel
def mX0_shield : Mt := (yX0_shield, cX0_shield, 6, (Option.some Jvm.ClassFile.FieldType.int), { frames := 7, cells := 6, slots := 21, locals := 150 })
theorem mX0_shield_c : (Mm mX0_shield).cells = 6 := rfl
theorem mX0_shield_s : (Mm mX0_shield).slots = 21 := rfl
theorem mX0_shield_args : argsOk (My mX0_shield) 2 := ⟨by decide +kernel, by decide +kernel, by decide +kernel⟩
theorem mX0_shield_plain : plainFor (My mX0_shield) = true := by decide +kernel
def mX0_plateFor : Mt := (yX0_plateFor, cX0_plateFor, 3, (Option.some Jvm.ClassFile.FieldType.int), { frames := 6, cells := 1, slots := 2, locals := 145 })
theorem mX0_plateFor_c : (Mm mX0_plateFor).cells = 1 := rfl
theorem mX0_plateFor_s : (Mm mX0_plateFor).slots = 2 := rfl
theorem mX0_plateFor_args : argsOk (My mX0_plateFor) 2 := ⟨by decide +kernel, by decide +kernel, by decide +kernel⟩
theorem mX0_plateFor_plain : plainFor (My mX0_plateFor) = true := by decide +kernel
def mX0_orderOf : Mt := (yX0_orderOf, cX0_orderOf, 4, (Option.some Jvm.ClassFile.FieldType.int), { frames := 6, cells := 0, slots := 0, locals := 131 })
theorem mX0_orderOf_c : (Mm mX0_orderOf).cells = 0 := rfl
theorem mX0_orderOf_s : (Mm mX0_orderOf).slots = 0 := rfl
theorem mX0_orderOf_args : argsOk (My mX0_orderOf) 2 := ⟨by decide +kernel, by decide +kernel, by decide +kernel⟩
theorem mX0_orderOf_plain : plainFor (My mX0_orderOf) = true := by decide +kernel
def mX0_letter : Mt := (yX0_letter, cX0_letter, 4, (Option.some Jvm.ClassFile.FieldType.int), { frames := 4, cells := 0, slots := 0, locals := 85 })
theorem mX0_letter_c : (Mm mX0_letter).cells = 0 := rfl
theorem mX0_letter_s : (Mm mX0_letter).slots = 0 := rfl
theorem mX0_letter_args : argsOk (My mX0_letter) 2 := ⟨by decide +kernel, by decide +kernel, by decide +kernel⟩
theorem mX0_letter_plain : plainFor (My mX0_letter) = true := by decide +kernel
def mX0_lengthOf_2 : Mt := (yX0_lengthOf_2, cX0_lengthOf_2, 2, (Option.some Jvm.ClassFile.FieldType.int), { frames := 5, cells := 0, slots := 0, locals := 111 })
theorem mX0_lengthOf_2_c : (Mm mX0_lengthOf_2).cells = 0 := rfl
theorem mX0_lengthOf_2_s : (Mm mX0_lengthOf_2).slots = 0 := rfl
theorem mX0_lengthOf_2_args : argsOk (My mX0_lengthOf_2) 1 := ⟨by decide +kernel, by decide +kernel, by decide +kernel⟩
theorem mX0_lengthOf_2_plain : plainFor (My mX0_lengthOf_2) = true := by decide +kernel
def mX0_plateFound : Mt := (yX0_plateFound, cX0_plateFound, 5, (Option.some Jvm.ClassFile.FieldType.int), { frames := 5, cells := 42, slots := 126, locals := 118 })
theorem mX0_plateFound_c : (Mm mX0_plateFound).cells = 42 := rfl
theorem mX0_plateFound_s : (Mm mX0_plateFound).slots = 126 := rfl
theorem mX0_plateFound_args : argsOk (My mX0_plateFound) 3 := ⟨by decide +kernel, by decide +kernel, by decide +kernel⟩
theorem mX0_plateFound_plain : plainFor (My mX0_plateFound) = true := by decide +kernel
def mX0_doneIn : Mt := (yX0_doneIn, cX0_doneIn, 3, (Option.some Jvm.ClassFile.FieldType.int), { frames := 12, cells := 2700, slots := 26000, locals := 307 })
theorem mX0_doneIn_c : (Mm mX0_doneIn).cells = 2700 := rfl
theorem mX0_doneIn_s : (Mm mX0_doneIn).slots = 26000 := rfl
theorem mX0_doneIn_args : argsOk (My mX0_doneIn) 1 := ⟨by decide +kernel, by decide +kernel, by decide +kernel⟩
theorem mX0_doneIn_plain : plainFor (My mX0_doneIn) = true := by decide +kernel
def mX0_moved : Mt := (yX0_moved, cX0_moved, 9, (Option.some Jvm.ClassFile.FieldType.int), { frames := 12, cells := 6004, slots := 62035, locals := 307 })
theorem mX0_moved_c : (Mm mX0_moved).cells = 6004 := rfl
theorem mX0_moved_s : (Mm mX0_moved).slots = 62035 := rfl
theorem mX0_moved_args : argsOk (My mX0_moved) 1 := ⟨by decide +kernel, by decide +kernel, by decide +kernel⟩
theorem mX0_moved_plain : plainFor (My mX0_moved) = true := by decide +kernel
def mX0_largestSize : Mt := (yX0_largestSize, cX0_largestSize, 3, (Option.some Jvm.ClassFile.FieldType.int), { frames := 5, cells := 0, slots := 0, locals := 111 })
theorem mX0_largestSize_c : (Mm mX0_largestSize).cells = 0 := rfl
theorem mX0_largestSize_s : (Mm mX0_largestSize).slots = 0 := rfl
theorem mX0_largestSize_args : argsOk (My mX0_largestSize) 1 := ⟨by decide +kernel, by decide +kernel, by decide +kernel⟩
theorem mX0_largestSize_plain : plainFor (My mX0_largestSize) = true := by decide +kernel
def mX3_init : Mt := (yX3_init, cX3_init, 1, (Option.none), { frames := 1, cells := 7, slots := 2452, locals := 20 })
theorem mX3_init_c : (Mm mX3_init).cells = 7 := rfl
theorem mX3_init_s : (Mm mX3_init).slots = 2452 := rfl
theorem mX3_init_args : argsOk (My mX3_init) 0 := ⟨by decide +kernel, by decide +kernel, by decide +kernel⟩
theorem mX3_init_plain : plainFor (My mX3_init) = true := by decide +kernel
def mX3_cut : Mt := (yX3_cut, cX3_cut, 5, (Option.some Jvm.ClassFile.FieldType.int), { frames := 1, cells := 0, slots := 0, locals := 23 })
theorem mX3_cut_c : (Mm mX3_cut).cells = 0 := rfl
theorem mX3_cut_s : (Mm mX3_cut).slots = 0 := rfl
theorem mX3_cut_args : argsOk (My mX3_cut) 2 := ⟨by decide +kernel, by decide +kernel, by decide +kernel⟩
theorem mX3_cut_plain : plainFor (My mX3_cut) = true := by decide +kernel
def mX3_in : Mt := (yX3_in, cX3_in, 3, (Option.some Jvm.ClassFile.FieldType.boolean), { frames := 0, cells := 0, slots := 0, locals := 0 })
theorem mX3_in_c : (Mm mX3_in).cells = 0 := rfl
theorem mX3_in_s : (Mm mX3_in).slots = 0 := rfl
theorem mX3_in_args : argsOk (My mX3_in) 3 := ⟨by decide +kernel, by decide +kernel, by decide +kernel⟩
theorem mX3_in_plain : plainFor (My mX3_in) = true := by decide +kernel
def mX3_act : Mt := (yX3_act, cX3_act, 2, (Option.none), { frames := 0, cells := 0, slots := 0, locals := 0 })
theorem mX3_act_c : (Mm mX3_act).cells = 0 := rfl
theorem mX3_act_s : (Mm mX3_act).slots = 0 := rfl
theorem mX3_act_args : argsOk (My mX3_act) 0 := ⟨by decide +kernel, by decide +kernel, by decide +kernel⟩
theorem mX3_act_plain : plainFor (My mX3_act) = true := by decide +kernel
def mX3_setPlate : Mt := (yX3_setPlate, cX3_setPlate, 4, (Option.none), { frames := 0, cells := 0, slots := 0, locals := 0 })
theorem mX3_setPlate_c : (Mm mX3_setPlate).cells = 0 := rfl
theorem mX3_setPlate_s : (Mm mX3_setPlate).slots = 0 := rfl
theorem mX3_setPlate_args : argsOk (My mX3_setPlate) 4 := ⟨by decide +kernel, by decide +kernel, by decide +kernel⟩
theorem mX3_setPlate_plain : plainFor (My mX3_setPlate) = true := by decide +kernel
def mX3_spoil : Mt := (yX3_spoil, cX3_spoil, 2, (Option.some Jvm.ClassFile.FieldType.int), { frames := 2, cells := 0, slots := 0, locals := 45 })
theorem mX3_spoil_c : (Mm mX3_spoil).cells = 0 := rfl
theorem mX3_spoil_s : (Mm mX3_spoil).slots = 0 := rfl
theorem mX3_spoil_args : argsOk (My mX3_spoil) 1 := ⟨by decide +kernel, by decide +kernel, by decide +kernel⟩
theorem mX3_spoil_plain : plainFor (My mX3_spoil) = true := by decide +kernel
def mX3_isPlate : Mt := (yX3_isPlate, cX3_isPlate, 2, (Option.some Jvm.ClassFile.FieldType.boolean), { frames := 1, cells := 0, slots := 0, locals := 22 })
theorem mX3_isPlate_c : (Mm mX3_isPlate).cells = 0 := rfl
theorem mX3_isPlate_s : (Mm mX3_isPlate).slots = 0 := rfl
theorem mX3_isPlate_args : argsOk (My mX3_isPlate) 1 := ⟨by decide +kernel, by decide +kernel, by decide +kernel⟩
theorem mX3_isPlate_plain : plainFor (My mX3_isPlate) = true := by decide +kernel
def mX3_ofPlate : Mt := (yX3_ofPlate, cX3_ofPlate, 3, (Option.some Jvm.ClassFile.FieldType.int), { frames := 0, cells := 0, slots := 0, locals := 0 })
theorem mX3_ofPlate_c : (Mm mX3_ofPlate).cells = 0 := rfl
theorem mX3_ofPlate_s : (Mm mX3_ofPlate).slots = 0 := rfl
theorem mX3_ofPlate_args : argsOk (My mX3_ofPlate) 3 := ⟨by decide +kernel, by decide +kernel, by decide +kernel⟩
theorem mX3_ofPlate_plain : plainFor (My mX3_ofPlate) = true := by decide +kernel
def mX3_platesIn : Mt := (yX3_platesIn, cX3_platesIn, 4, (Option.some Jvm.ClassFile.FieldType.int), { frames := 1, cells := 0, slots := 0, locals := 22 })
theorem mX3_platesIn_c : (Mm mX3_platesIn).cells = 0 := rfl
theorem mX3_platesIn_s : (Mm mX3_platesIn).slots = 0 := rfl
theorem mX3_platesIn_args : argsOk (My mX3_platesIn) 2 := ⟨by decide +kernel, by decide +kernel, by decide +kernel⟩
theorem mX3_platesIn_plain : plainFor (My mX3_platesIn) = true := by decide +kernel
def mX3_grind : Mt := (yX3_grind, cX3_grind, 4, (Option.some Jvm.ClassFile.FieldType.int), { frames := 3, cells := 0, slots := 0, locals := 68 })
theorem mX3_grind_c : (Mm mX3_grind).cells = 0 := rfl
theorem mX3_grind_s : (Mm mX3_grind).slots = 0 := rfl
theorem mX3_grind_args : argsOk (My mX3_grind) 2 := ⟨by decide +kernel, by decide +kernel, by decide +kernel⟩
theorem mX3_grind_plain : plainFor (My mX3_grind) = true := by decide +kernel
def mX3_depthOf : Mt := (yX3_depthOf, cX3_depthOf, 3, (Option.some Jvm.ClassFile.FieldType.int), { frames := 1, cells := 0, slots := 0, locals := 22 })
theorem mX3_depthOf_c : (Mm mX3_depthOf).cells = 0 := rfl
theorem mX3_depthOf_s : (Mm mX3_depthOf).slots = 0 := rfl
theorem mX3_depthOf_args : argsOk (My mX3_depthOf) 3 := ⟨by decide +kernel, by decide +kernel, by decide +kernel⟩
theorem mX3_depthOf_plain : plainFor (My mX3_depthOf) = true := by decide +kernel
def mX3_leftOver : Mt := (yX3_leftOver, cX3_leftOver, 5, (Option.some Jvm.ClassFile.FieldType.int), { frames := 2, cells := 0, slots := 0, locals := 44 })
theorem mX3_leftOver_c : (Mm mX3_leftOver).cells = 0 := rfl
theorem mX3_leftOver_s : (Mm mX3_leftOver).slots = 0 := rfl
theorem mX3_leftOver_args : argsOk (My mX3_leftOver) 5 := ⟨by decide +kernel, by decide +kernel, by decide +kernel⟩
theorem mX3_leftOver_plain : plainFor (My mX3_leftOver) = true := by decide +kernel
def mX3_grindSide : Mt := (yX3_grindSide, cX3_grindSide, 3, (Option.none), { frames := 2, cells := 0, slots := 0, locals := 44 })
theorem mX3_grindSide_c : (Mm mX3_grindSide).cells = 0 := rfl
theorem mX3_grindSide_s : (Mm mX3_grindSide).slots = 0 := rfl
theorem mX3_grindSide_args : argsOk (My mX3_grindSide) 3 := ⟨by decide +kernel, by decide +kernel, by decide +kernel⟩
theorem mX3_grindSide_plain : plainFor (My mX3_grindSide) = true := by decide +kernel
def mX3_addShield : Mt := (yX3_addShield, cX3_addShield, 2, (Option.some Jvm.ClassFile.FieldType.int), { frames := 1, cells := 0, slots := 0, locals := 22 })
theorem mX3_addShield_c : (Mm mX3_addShield).cells = 0 := rfl
theorem mX3_addShield_s : (Mm mX3_addShield).slots = 0 := rfl
theorem mX3_addShield_args : argsOk (My mX3_addShield) 1 := ⟨by decide +kernel, by decide +kernel, by decide +kernel⟩
theorem mX3_addShield_plain : plainFor (My mX3_addShield) = true := by decide +kernel
def mX3_takeOff : Mt := (yX3_takeOff, cX3_takeOff, 4, (Option.some Jvm.ClassFile.FieldType.int), { frames := 2, cells := 0, slots := 0, locals := 47 })
theorem mX3_takeOff_c : (Mm mX3_takeOff).cells = 0 := rfl
theorem mX3_takeOff_s : (Mm mX3_takeOff).slots = 0 := rfl
theorem mX3_takeOff_args : argsOk (My mX3_takeOff) 2 := ⟨by decide +kernel, by decide +kernel, by decide +kernel⟩
theorem mX3_takeOff_plain : plainFor (My mX3_takeOff) = true := by decide +kernel
def mX3_isShield : Mt := (yX3_isShield, cX3_isShield, 2, (Option.some Jvm.ClassFile.FieldType.boolean), { frames := 1, cells := 0, slots := 0, locals := 22 })
theorem mX3_isShield_c : (Mm mX3_isShield).cells = 0 := rfl
theorem mX3_isShield_s : (Mm mX3_isShield).slots = 0 := rfl
theorem mX3_isShield_args : argsOk (My mX3_isShield) 1 := ⟨by decide +kernel, by decide +kernel, by decide +kernel⟩
theorem mX3_isShield_plain : plainFor (My mX3_isShield) = true := by decide +kernel
def mX3_isYear : Mt := (yX3_isYear, cX3_isYear, 1, (Option.some Jvm.ClassFile.FieldType.boolean), { frames := 1, cells := 0, slots := 0, locals := 22 })
theorem mX3_isYear_c : (Mm mX3_isYear).cells = 0 := rfl
theorem mX3_isYear_s : (Mm mX3_isYear).slots = 0 := rfl
theorem mX3_isYear_args : argsOk (My mX3_isYear) 1 := ⟨by decide +kernel, by decide +kernel, by decide +kernel⟩
theorem mX3_isYear_plain : plainFor (My mX3_isYear) = true := by decide +kernel
def mX3_plateOn : Mt := (yX3_plateOn, cX3_plateOn, 6, (Option.some Jvm.ClassFile.FieldType.int), { frames := 1, cells := 0, slots := 0, locals := 22 })
theorem mX3_plateOn_c : (Mm mX3_plateOn).cells = 0 := rfl
theorem mX3_plateOn_s : (Mm mX3_plateOn).slots = 0 := rfl
theorem mX3_plateOn_args : argsOk (My mX3_plateOn) 3 := ⟨by decide +kernel, by decide +kernel, by decide +kernel⟩
theorem mX3_plateOn_plain : plainFor (My mX3_plateOn) = true := by decide +kernel
def mX3_append : Mt := (yX3_append, cX3_append, 2, (Option.some Jvm.ClassFile.FieldType.int), { frames := 1, cells := 0, slots := 0, locals := 22 })
theorem mX3_append_c : (Mm mX3_append).cells = 0 := rfl
theorem mX3_append_s : (Mm mX3_append).slots = 0 := rfl
theorem mX3_append_args : argsOk (My mX3_append) 1 := ⟨by decide +kernel, by decide +kernel, by decide +kernel⟩
theorem mX3_append_plain : plainFor (My mX3_append) = true := by decide +kernel
def mX3_clearText : Mt := (yX3_clearText, cX3_clearText, 2, (Option.some Jvm.ClassFile.FieldType.int), { frames := 0, cells := 0, slots := 0, locals := 0 })
theorem mX3_clearText_c : (Mm mX3_clearText).cells = 0 := rfl
theorem mX3_clearText_s : (Mm mX3_clearText).slots = 0 := rfl
theorem mX3_clearText_args : argsOk (My mX3_clearText) 0 := ⟨by decide +kernel, by decide +kernel, by decide +kernel⟩
theorem mX3_clearText_plain : plainFor (My mX3_clearText) = true := by decide +kernel
def mX3_order : Mt := (yX3_order, cX3_order, 7, (Option.some Jvm.ClassFile.FieldType.int), { frames := 2, cells := 0, slots := 0, locals := 47 })
theorem mX3_order_c : (Mm mX3_order).cells = 0 := rfl
theorem mX3_order_s : (Mm mX3_order).slots = 0 := rfl
theorem mX3_order_args : argsOk (My mX3_order) 5 := ⟨by decide +kernel, by decide +kernel, by decide +kernel⟩
theorem mX3_order_plain : plainFor (My mX3_order) = true := by decide +kernel
def mX3_isOrdered : Mt := (yX3_isOrdered, cX3_isOrdered, 5, (Option.some Jvm.ClassFile.FieldType.boolean), { frames := 1, cells := 0, slots := 0, locals := 22 })
theorem mX3_isOrdered_c : (Mm mX3_isOrdered).cells = 0 := rfl
theorem mX3_isOrdered_s : (Mm mX3_isOrdered).slots = 0 := rfl
theorem mX3_isOrdered_args : argsOk (My mX3_isOrdered) 2 := ⟨by decide +kernel, by decide +kernel, by decide +kernel⟩
theorem mX3_isOrdered_plain : plainFor (My mX3_isOrdered) = true := by decide +kernel
def mX3_of : Mt := (yX3_of, cX3_of, 3, (Option.some Jvm.ClassFile.FieldType.int), { frames := 0, cells := 0, slots := 0, locals := 0 })
theorem mX3_of_c : (Mm mX3_of).cells = 0 := rfl
theorem mX3_of_s : (Mm mX3_of).slots = 0 := rfl
theorem mX3_of_args : argsOk (My mX3_of) 3 := ⟨by decide +kernel, by decide +kernel, by decide +kernel⟩
theorem mX3_of_plain : plainFor (My mX3_of) = true := by decide +kernel
def mX3_rushes : Mt := (yX3_rushes, cX3_rushes, 3, (Option.some Jvm.ClassFile.FieldType.int), { frames := 1, cells := 0, slots := 0, locals := 22 })
theorem mX3_rushes_c : (Mm mX3_rushes).cells = 0 := rfl
theorem mX3_rushes_s : (Mm mX3_rushes).slots = 0 := rfl
theorem mX3_rushes_args : argsOk (My mX3_rushes) 1 := ⟨by decide +kernel, by decide +kernel, by decide +kernel⟩
theorem mX3_rushes_plain : plainFor (My mX3_rushes) = true := by decide +kernel
def mX3_putIn : Mt := (yX3_putIn, cX3_putIn, 4, (Option.none), { frames := 0, cells := 0, slots := 0, locals := 0 })
theorem mX3_putIn_c : (Mm mX3_putIn).cells = 0 := rfl
theorem mX3_putIn_s : (Mm mX3_putIn).slots = 0 := rfl
theorem mX3_putIn_args : argsOk (My mX3_putIn) 2 := ⟨by decide +kernel, by decide +kernel, by decide +kernel⟩
theorem mX3_putIn_plain : plainFor (My mX3_putIn) = true := by decide +kernel
def mX3_hurry : Mt := (yX3_hurry, cX3_hurry, 2, (Option.some Jvm.ClassFile.FieldType.int), { frames := 3, cells := 0, slots := 0, locals := 69 })
theorem mX3_hurry_c : (Mm mX3_hurry).cells = 0 := rfl
theorem mX3_hurry_s : (Mm mX3_hurry).slots = 0 := rfl
theorem mX3_hurry_args : argsOk (My mX3_hurry) 1 := ⟨by decide +kernel, by decide +kernel, by decide +kernel⟩
theorem mX3_hurry_plain : plainFor (My mX3_hurry) = true := by decide +kernel
def mX3_isOrder : Mt := (yX3_isOrder, cX3_isOrder, 2, (Option.some Jvm.ClassFile.FieldType.boolean), { frames := 1, cells := 0, slots := 0, locals := 22 })
theorem mX3_isOrder_c : (Mm mX3_isOrder).cells = 0 := rfl
theorem mX3_isOrder_s : (Mm mX3_isOrder).slots = 0 := rfl
theorem mX3_isOrder_args : argsOk (My mX3_isOrder) 1 := ⟨by decide +kernel, by decide +kernel, by decide +kernel⟩
theorem mX3_isOrder_plain : plainFor (My mX3_isOrder) = true := by decide +kernel
def mX3_hurryIn : Mt := (yX3_hurryIn, cX3_hurryIn, 5, (Option.some Jvm.ClassFile.FieldType.int), { frames := 2, cells := 0, slots := 0, locals := 45 })
theorem mX3_hurryIn_c : (Mm mX3_hurryIn).cells = 0 := rfl
theorem mX3_hurryIn_s : (Mm mX3_hurryIn).slots = 0 := rfl
theorem mX3_hurryIn_args : argsOk (My mX3_hurryIn) 2 := ⟨by decide +kernel, by decide +kernel, by decide +kernel⟩
theorem mX3_hurryIn_plain : plainFor (My mX3_hurryIn) = true := by decide +kernel
def mX3_takeOut : Mt := (yX3_takeOut, cX3_takeOut, 4, (Option.none), { frames := 1, cells := 0, slots := 0, locals := 22 })
theorem mX3_takeOut_c : (Mm mX3_takeOut).cells = 0 := rfl
theorem mX3_takeOut_s : (Mm mX3_takeOut).slots = 0 := rfl
theorem mX3_takeOut_args : argsOk (My mX3_takeOut) 2 := ⟨by decide +kernel, by decide +kernel, by decide +kernel⟩
theorem mX3_takeOut_plain : plainFor (My mX3_takeOut) = true := by decide +kernel
def mX3_cancel : Mt := (yX3_cancel, cX3_cancel, 2, (Option.some Jvm.ClassFile.FieldType.int), { frames := 2, cells := 0, slots := 0, locals := 45 })
theorem mX3_cancel_c : (Mm mX3_cancel).cells = 0 := rfl
theorem mX3_cancel_s : (Mm mX3_cancel).slots = 0 := rfl
theorem mX3_cancel_args : argsOk (My mX3_cancel) 1 := ⟨by decide +kernel, by decide +kernel, by decide +kernel⟩
theorem mX3_cancel_plain : plainFor (My mX3_cancel) = true := by decide +kernel
def mX3_rest : Mt := (yX3_rest, cX3_rest, 1, (Option.none), { frames := 0, cells := 0, slots := 0, locals := 0 })
theorem mX3_rest_c : (Mm mX3_rest).cells = 0 := rfl
theorem mX3_rest_s : (Mm mX3_rest).slots = 0 := rfl
theorem mX3_rest_args : argsOk (My mX3_rest) 1 := ⟨by decide +kernel, by decide +kernel, by decide +kernel⟩
theorem mX3_rest_plain : plainFor (My mX3_rest) = true := by decide +kernel
def mX3_work : Mt := (yX3_work, cX3_work, 5, (Option.some Jvm.ClassFile.FieldType.int), { frames := 7, cells := 0, slots := 0, locals := 165 })
theorem mX3_work_c : (Mm mX3_work).cells = 0 := rfl
theorem mX3_work_s : (Mm mX3_work).slots = 0 := rfl
theorem mX3_work_args : argsOk (My mX3_work) 1 := ⟨by decide +kernel, by decide +kernel, by decide +kernel⟩
theorem mX3_work_plain : plainFor (My mX3_work) = true := by decide +kernel
def mX3_goesOn : Mt := (yX3_goesOn, cX3_goesOn, 3, (Option.some Jvm.ClassFile.FieldType.boolean), { frames := 6, cells := 0, slots := 0, locals := 143 })
theorem mX3_goesOn_c : (Mm mX3_goesOn).cells = 0 := rfl
theorem mX3_goesOn_s : (Mm mX3_goesOn).slots = 0 := rfl
theorem mX3_goesOn_args : argsOk (My mX3_goesOn) 1 := ⟨by decide +kernel, by decide +kernel, by decide +kernel⟩
theorem mX3_goesOn_plain : plainFor (My mX3_goesOn) = true := by decide +kernel
def mX3_nameLength : Mt := (yX3_nameLength, cX3_nameLength, 5, (Option.some Jvm.ClassFile.FieldType.int), { frames := 1, cells := 0, slots := 0, locals := 22 })
theorem mX3_nameLength_c : (Mm mX3_nameLength).cells = 0 := rfl
theorem mX3_nameLength_s : (Mm mX3_nameLength).slots = 0 := rfl
theorem mX3_nameLength_args : argsOk (My mX3_nameLength) 2 := ⟨by decide +kernel, by decide +kernel, by decide +kernel⟩
theorem mX3_nameLength_plain : plainFor (My mX3_nameLength) = true := by decide +kernel
def mX3_widthOf : Mt := (yX3_widthOf, cX3_widthOf, 1, (Option.some Jvm.ClassFile.FieldType.int), { frames := 0, cells := 0, slots := 0, locals := 0 })
theorem mX3_widthOf_c : (Mm mX3_widthOf).cells = 0 := rfl
theorem mX3_widthOf_s : (Mm mX3_widthOf).slots = 0 := rfl
theorem mX3_widthOf_args : argsOk (My mX3_widthOf) 1 := ⟨by decide +kernel, by decide +kernel, by decide +kernel⟩
theorem mX3_widthOf_plain : plainFor (My mX3_widthOf) = true := by decide +kernel
def mX3_findPlate : Mt := (yX3_findPlate, cX3_findPlate, 8, (Option.some Jvm.ClassFile.FieldType.boolean), { frames := 5, cells := 0, slots := 0, locals := 116 })
theorem mX3_findPlate_c : (Mm mX3_findPlate).cells = 0 := rfl
theorem mX3_findPlate_s : (Mm mX3_findPlate).slots = 0 := rfl
theorem mX3_findPlate_args : argsOk (My mX3_findPlate) 3 := ⟨by decide +kernel, by decide +kernel, by decide +kernel⟩
theorem mX3_findPlate_plain : plainFor (My mX3_findPlate) = true := by decide +kernel
def mX3_mayTake : Mt := (yX3_mayTake, cX3_mayTake, 5, (Option.some Jvm.ClassFile.FieldType.boolean), { frames := 4, cells := 0, slots := 0, locals := 92 })
theorem mX3_mayTake_c : (Mm mX3_mayTake).cells = 0 := rfl
theorem mX3_mayTake_s : (Mm mX3_mayTake).slots = 0 := rfl
theorem mX3_mayTake_args : argsOk (My mX3_mayTake) 5 := ⟨by decide +kernel, by decide +kernel, by decide +kernel⟩
theorem mX3_mayTake_plain : plainFor (My mX3_mayTake) = true := by decide +kernel
def mX3_canBeGround : Mt := (yX3_canBeGround, cX3_canBeGround, 5, (Option.some Jvm.ClassFile.FieldType.boolean), { frames := 3, cells := 0, slots := 0, locals := 68 })
theorem mX3_canBeGround_c : (Mm mX3_canBeGround).cells = 0 := rfl
theorem mX3_canBeGround_s : (Mm mX3_canBeGround).slots = 0 := rfl
theorem mX3_canBeGround_args : argsOk (My mX3_canBeGround) 4 := ⟨by decide +kernel, by decide +kernel, by decide +kernel⟩
theorem mX3_canBeGround_plain : plainFor (My mX3_canBeGround) = true := by decide +kernel
def mX3_isReady : Mt := (yX3_isReady, cX3_isReady, 4, (Option.some Jvm.ClassFile.FieldType.boolean), { frames := 3, cells := 0, slots := 0, locals := 68 })
theorem mX3_isReady_c : (Mm mX3_isReady).cells = 0 := rfl
theorem mX3_isReady_s : (Mm mX3_isReady).slots = 0 := rfl
theorem mX3_isReady_args : argsOk (My mX3_isReady) 4 := ⟨by decide +kernel, by decide +kernel, by decide +kernel⟩
theorem mX3_isReady_plain : plainFor (My mX3_isReady) = true := by decide +kernel
def mX3_isBetter : Mt := (yX3_isBetter, cX3_isBetter, 4, (Option.some Jvm.ClassFile.FieldType.boolean), { frames := 1, cells := 0, slots := 0, locals := 22 })
theorem mX3_isBetter_c : (Mm mX3_isBetter).cells = 0 := rfl
theorem mX3_isBetter_s : (Mm mX3_isBetter).slots = 0 := rfl
theorem mX3_isBetter_args : argsOk (My mX3_isBetter) 3 := ⟨by decide +kernel, by decide +kernel, by decide +kernel⟩
theorem mX3_isBetter_plain : plainFor (My mX3_isBetter) = true := by decide +kernel
def mX3_effort : Mt := (yX3_effort, cX3_effort, 2, (Option.some Jvm.ClassFile.FieldType.int), { frames := 1, cells := 0, slots := 0, locals := 22 })
theorem mX3_effort_c : (Mm mX3_effort).cells = 0 := rfl
theorem mX3_effort_s : (Mm mX3_effort).slots = 0 := rfl
theorem mX3_effort_args : argsOk (My mX3_effort) 2 := ⟨by decide +kernel, by decide +kernel, by decide +kernel⟩
theorem mX3_effort_plain : plainFor (My mX3_effort) = true := by decide +kernel
def mX3_finish : Mt := (yX3_finish, cX3_finish, 4, (Option.none), { frames := 3, cells := 0, slots := 0, locals := 71 })
theorem mX3_finish_c : (Mm mX3_finish).cells = 0 := rfl
theorem mX3_finish_s : (Mm mX3_finish).slots = 0 := rfl
theorem mX3_finish_args : argsOk (My mX3_finish) 1 := ⟨by decide +kernel, by decide +kernel, by decide +kernel⟩
theorem mX3_finish_plain : plainFor (My mX3_finish) = true := by decide +kernel
def mX3_fix : Mt := (yX3_fix, cX3_fix, 4, (Option.none), { frames := 2, cells := 0, slots := 0, locals := 48 })
theorem mX3_fix_c : (Mm mX3_fix).cells = 0 := rfl
theorem mX3_fix_s : (Mm mX3_fix).slots = 0 := rfl
theorem mX3_fix_args : argsOk (My mX3_fix) 4 := ⟨by decide +kernel, by decide +kernel, by decide +kernel⟩
theorem mX3_fix_plain : plainFor (My mX3_fix) = true := by decide +kernel
def mX3_platesOn : Mt := (yX3_platesOn, cX3_platesOn, 4, (Option.some Jvm.ClassFile.FieldType.int), { frames := 1, cells := 0, slots := 0, locals := 22 })
theorem mX3_platesOn_c : (Mm mX3_platesOn).cells = 0 := rfl
theorem mX3_platesOn_s : (Mm mX3_platesOn).slots = 0 := rfl
theorem mX3_platesOn_args : argsOk (My mX3_platesOn) 2 := ⟨by decide +kernel, by decide +kernel, by decide +kernel⟩
theorem mX3_platesOn_plain : plainFor (My mX3_platesOn) = true := by decide +kernel
def mX3_yearOn : Mt := (yX3_yearOn, cX3_yearOn, 7, (Option.some Jvm.ClassFile.FieldType.int), { frames := 1, cells := 0, slots := 0, locals := 22 })
theorem mX3_yearOn_c : (Mm mX3_yearOn).cells = 0 := rfl
theorem mX3_yearOn_s : (Mm mX3_yearOn).slots = 0 := rfl
theorem mX3_yearOn_args : argsOk (My mX3_yearOn) 3 := ⟨by decide +kernel, by decide +kernel, by decide +kernel⟩
theorem mX3_yearOn_plain : plainFor (My mX3_yearOn) = true := by decide +kernel
def mX3_slip : Mt := (yX3_slip, cX3_slip, 5, (Option.some Jvm.ClassFile.FieldType.int), { frames := 4, cells := 0, slots := 0, locals := 92 })
theorem mX3_slip_c : (Mm mX3_slip).cells = 0 := rfl
theorem mX3_slip_s : (Mm mX3_slip).slots = 0 := rfl
theorem mX3_slip_args : argsOk (My mX3_slip) 0 := ⟨by decide +kernel, by decide +kernel, by decide +kernel⟩
theorem mX3_slip_plain : plainFor (My mX3_slip) = true := by decide +kernel
def mX3_undo : Mt := (yX3_undo, cX3_undo, 2, (Option.some Jvm.ClassFile.FieldType.int), { frames := 0, cells := 0, slots := 0, locals := 0 })
theorem mX3_undo_c : (Mm mX3_undo).cells = 0 := rfl
theorem mX3_undo_s : (Mm mX3_undo).slots = 0 := rfl
theorem mX3_undo_args : argsOk (My mX3_undo) 0 := ⟨by decide +kernel, by decide +kernel, by decide +kernel⟩
theorem mX3_undo_plain : plainFor (My mX3_undo) = true := by decide +kernel
def mX3_count : Mt := (yX3_count, cX3_count, 3, (Option.some Jvm.ClassFile.FieldType.int), { frames := 2, cells := 0, slots := 0, locals := 45 })
theorem mX3_count_c : (Mm mX3_count).cells = 0 := rfl
theorem mX3_count_s : (Mm mX3_count).slots = 0 := rfl
theorem mX3_count_args : argsOk (My mX3_count) 1 := ⟨by decide +kernel, by decide +kernel, by decide +kernel⟩
theorem mX3_count_plain : plainFor (My mX3_count) = true := by decide +kernel
def mX3_plate : Mt := (yX3_plate, cX3_plate, 3, (Option.some Jvm.ClassFile.FieldType.int), { frames := 2, cells := 0, slots := 0, locals := 43 })
theorem mX3_plate_c : (Mm mX3_plate).cells = 0 := rfl
theorem mX3_plate_s : (Mm mX3_plate).slots = 0 := rfl
theorem mX3_plate_args : argsOk (My mX3_plate) 2 := ⟨by decide +kernel, by decide +kernel, by decide +kernel⟩
theorem mX3_plate_plain : plainFor (My mX3_plate) = true := by decide +kernel
def mX3_shield : Mt := (yX3_shield, cX3_shield, 6, (Option.some Jvm.ClassFile.FieldType.int), { frames := 2, cells := 0, slots := 0, locals := 48 })
theorem mX3_shield_c : (Mm mX3_shield).cells = 0 := rfl
theorem mX3_shield_s : (Mm mX3_shield).slots = 0 := rfl
theorem mX3_shield_args : argsOk (My mX3_shield) 2 := ⟨by decide +kernel, by decide +kernel, by decide +kernel⟩
theorem mX3_shield_plain : plainFor (My mX3_shield) = true := by decide +kernel
def mX3_plateFor : Mt := (yX3_plateFor, cX3_plateFor, 3, (Option.some Jvm.ClassFile.FieldType.int), { frames := 2, cells := 0, slots := 0, locals := 47 })
theorem mX3_plateFor_c : (Mm mX3_plateFor).cells = 0 := rfl
theorem mX3_plateFor_s : (Mm mX3_plateFor).slots = 0 := rfl
theorem mX3_plateFor_args : argsOk (My mX3_plateFor) 2 := ⟨by decide +kernel, by decide +kernel, by decide +kernel⟩
theorem mX3_plateFor_plain : plainFor (My mX3_plateFor) = true := by decide +kernel
def mX3_orderOf : Mt := (yX3_orderOf, cX3_orderOf, 3, (Option.some Jvm.ClassFile.FieldType.int), { frames := 2, cells := 0, slots := 0, locals := 46 })
theorem mX3_orderOf_c : (Mm mX3_orderOf).cells = 0 := rfl
theorem mX3_orderOf_s : (Mm mX3_orderOf).slots = 0 := rfl
theorem mX3_orderOf_args : argsOk (My mX3_orderOf) 2 := ⟨by decide +kernel, by decide +kernel, by decide +kernel⟩
theorem mX3_orderOf_plain : plainFor (My mX3_orderOf) = true := by decide +kernel
def mX3_letter : Mt := (yX3_letter, cX3_letter, 3, (Option.some Jvm.ClassFile.FieldType.int), { frames := 2, cells := 0, slots := 0, locals := 43 })
theorem mX3_letter_c : (Mm mX3_letter).cells = 0 := rfl
theorem mX3_letter_s : (Mm mX3_letter).slots = 0 := rfl
theorem mX3_letter_args : argsOk (My mX3_letter) 2 := ⟨by decide +kernel, by decide +kernel, by decide +kernel⟩
theorem mX3_letter_plain : plainFor (My mX3_letter) = true := by decide +kernel
def mX3_lengthOf : Mt := (yX3_lengthOf, cX3_lengthOf, 2, (Option.some Jvm.ClassFile.FieldType.int), { frames := 2, cells := 0, slots := 0, locals := 43 })
theorem mX3_lengthOf_c : (Mm mX3_lengthOf).cells = 0 := rfl
theorem mX3_lengthOf_s : (Mm mX3_lengthOf).slots = 0 := rfl
theorem mX3_lengthOf_args : argsOk (My mX3_lengthOf) 1 := ⟨by decide +kernel, by decide +kernel, by decide +kernel⟩
theorem mX3_lengthOf_plain : plainFor (My mX3_lengthOf) = true := by decide +kernel
def mX3_textLength : Mt := (yX3_textLength, cX3_textLength, 4, (Option.some Jvm.ClassFile.FieldType.int), { frames := 1, cells := 0, slots := 0, locals := 20 })
theorem mX3_textLength_c : (Mm mX3_textLength).cells = 0 := rfl
theorem mX3_textLength_s : (Mm mX3_textLength).slots = 0 := rfl
theorem mX3_textLength_args : argsOk (My mX3_textLength) 1 := ⟨by decide +kernel, by decide +kernel, by decide +kernel⟩
theorem mX3_textLength_plain : plainFor (My mX3_textLength) = true := by decide +kernel
def mX3_plateFound : Mt := (yX3_plateFound, cX3_plateFound, 4, (Option.some Jvm.ClassFile.FieldType.int), { frames := 6, cells := 0, slots := 0, locals := 143 })
theorem mX3_plateFound_c : (Mm mX3_plateFound).cells = 0 := rfl
theorem mX3_plateFound_s : (Mm mX3_plateFound).slots = 0 := rfl
theorem mX3_plateFound_args : argsOk (My mX3_plateFound) 3 := ⟨by decide +kernel, by decide +kernel, by decide +kernel⟩
theorem mX3_plateFound_plain : plainFor (My mX3_plateFound) = true := by decide +kernel
def mX3_doneIn : Mt := (yX3_doneIn, cX3_doneIn, 2, (Option.some Jvm.ClassFile.FieldType.int), { frames := 8, cells := 0, slots := 0, locals := 187 })
theorem mX3_doneIn_c : (Mm mX3_doneIn).cells = 0 := rfl
theorem mX3_doneIn_s : (Mm mX3_doneIn).slots = 0 := rfl
theorem mX3_doneIn_args : argsOk (My mX3_doneIn) 1 := ⟨by decide +kernel, by decide +kernel, by decide +kernel⟩
theorem mX3_doneIn_plain : plainFor (My mX3_doneIn) = true := by decide +kernel
def mX3_tryNow : Mt := (yX3_tryNow, cX3_tryNow, 2, (Option.none), { frames := 0, cells := 0, slots := 0, locals := 0 })
theorem mX3_tryNow_c : (Mm mX3_tryNow).cells = 0 := rfl
theorem mX3_tryNow_s : (Mm mX3_tryNow).slots = 0 := rfl
theorem mX3_tryNow_args : argsOk (My mX3_tryNow) 0 := ⟨by decide +kernel, by decide +kernel, by decide +kernel⟩
theorem mX3_tryNow_plain : plainFor (My mX3_tryNow) = true := by decide +kernel
def mX3_workOn : Mt := (yX3_workOn, cX3_workOn, 3, (Option.none), { frames := 7, cells := 0, slots := 0, locals := 165 })
theorem mX3_workOn_c : (Mm mX3_workOn).cells = 0 := rfl
theorem mX3_workOn_s : (Mm mX3_workOn).slots = 0 := rfl
theorem mX3_workOn_args : argsOk (My mX3_workOn) 1 := ⟨by decide +kernel, by decide +kernel, by decide +kernel⟩
theorem mX3_workOn_plain : plainFor (My mX3_workOn) = true := by decide +kernel
def mX3_moved : Mt := (yX3_moved, cX3_moved, 6, (Option.some Jvm.ClassFile.FieldType.int), { frames := 8, cells := 0, slots := 0, locals := 187 })
theorem mX3_moved_c : (Mm mX3_moved).cells = 0 := rfl
theorem mX3_moved_s : (Mm mX3_moved).slots = 0 := rfl
theorem mX3_moved_args : argsOk (My mX3_moved) 1 := ⟨by decide +kernel, by decide +kernel, by decide +kernel⟩
theorem mX3_moved_plain : plainFor (My mX3_moved) = true := by decide +kernel
def mX3_largestSize : Mt := (yX3_largestSize, cX3_largestSize, 3, (Option.some Jvm.ClassFile.FieldType.int), { frames := 2, cells := 0, slots := 0, locals := 43 })
theorem mX3_largestSize_c : (Mm mX3_largestSize).cells = 0 := rfl
theorem mX3_largestSize_s : (Mm mX3_largestSize).slots = 0 := rfl
theorem mX3_largestSize_args : argsOk (My mX3_largestSize) 1 := ⟨by decide +kernel, by decide +kernel, by decide +kernel⟩
theorem mX3_largestSize_plain : plainFor (My mX3_largestSize) = true := by decide +kernel
