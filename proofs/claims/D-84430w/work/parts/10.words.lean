/-! the words of every method -/
set_option maxRecDepth 100000
theorem wd_mem {l : List (Nat × Nat)} {f : Nat → Cond} (h1 : sk_ ((gaps_ 0 (l.map (fun q => q.1))).zip (l.map (fun q => f q.2))) lw_tbl = true) (h2 : l.all (fun q => goodWord (f q.2)) = true) {p n : Nat} (h : (p, n) ∈ l) : f n ∈ lw_all := by
  refine lw_g ?_ (List.all_eq_true.mp h2 _ h)
  obtain ⟨i, hi⟩ := List.getElem?_of_mem h
  have hl : ∀ (p : Nat) (l : List Nat), (gaps_ p l).length = l.length := by
    intro p l
    induction l generalizing p with
    | nil => rfl
    | cons x t ih => show (gaps_ (x + 1) t).length + 1 = t.length + 1; rw [ih]
  have hi2 : i < (gaps_ 0 (l.map (fun q => q.1))).length := by
    rw [hl, List.length_map]
    exact (List.getElem?_eq_some_iff.mp hi).1
  refine sk_mem _ _ h1 ((gaps_ 0 (l.map (fun q => q.1)))[i], f n) ?_
  refine List.mem_of_getElem? (i := i) ?_
  rw [List.getElem?_zip_eq_some]
  exact ⟨List.getElem?_eq_getElem hi2, by rw [List.getElem?_map, hi]; rfl⟩
def wc_ (n : Nat) : Cond := match (me0 n).2.2.2.1 with
  | [] => .code (me0 n).1 (me0 n).2.1 (pg0 n).2.1 (me0 n).2.2.1
  | h => .codeWith (me0 n).1 (me0 n).2.1 (pg0 n).2.1 (me0 n).2.2.1 h
def wi_ (n : Nat) : Cond := .instanceMethod (me0 n).1
def we_ (n : Nat) : Cond := .selects (me0 n).1.cls (me0 n).1 (me0 n).1
def ws0_ (n : Nat) : Cond := .static (me0 n).1
def wn_ (c : Nat) : Cond := .initialized (cn1 c)
set_option maxHeartbeats 0
theorem cw_0 : wc_ 0 ∈ lw_all := lw_g (lw_at lw_m1 19 rfl) rfl
theorem cw_1 : wc_ 1 ∈ lw_all := lw_g (lw_at lw_m1 24 rfl) rfl
theorem cw_2 : wc_ 2 ∈ lw_all := lw_g (lw_at lw_m1 27 rfl) rfl
theorem cw_3 : wc_ 3 ∈ lw_all := lw_g (lw_at lw_m1 31 rfl) rfl
theorem cw_4 : wc_ 4 ∈ lw_all := lw_g (lw_at lw_m1 35 rfl) rfl
theorem cw_5 : wc_ 5 ∈ lw_all := lw_g (lw_at lw_m1 39 rfl) rfl
theorem cw_6 : wc_ 6 ∈ lw_all := lw_g (lw_at lw_m1 46 rfl) rfl
theorem cw_7 : wc_ 7 ∈ lw_all := lw_g (lw_at lw_m1 50 rfl) rfl
theorem cw_8 : wc_ 8 ∈ lw_all := lw_g (lw_at lw_m1 54 rfl) rfl
theorem cw_9 : wc_ 9 ∈ lw_all := lw_g (lw_at lw_m1 57 rfl) rfl
theorem cw_10 : wc_ 10 ∈ lw_all := lw_g (lw_at lw_m1 61 rfl) rfl
theorem cw_11 : wc_ 11 ∈ lw_all := lw_g (lw_at lw_m1 65 rfl) rfl
theorem cw_12 : wc_ 12 ∈ lw_all := lw_g (lw_at lw_m1 69 rfl) rfl
theorem cw_13 : wc_ 13 ∈ lw_all := lw_g (lw_at lw_m1 73 rfl) rfl
theorem cw_14 : wc_ 14 ∈ lw_all := lw_g (lw_at lw_m1 77 rfl) rfl
theorem cw_15 : wc_ 15 ∈ lw_all := lw_g (lw_at lw_m1 82 rfl) rfl
theorem cw_16 : wc_ 16 ∈ lw_all := lw_g (lw_at lw_m1 86 rfl) rfl
theorem cw_17 : wc_ 17 ∈ lw_all := lw_g (lw_at lw_m1 90 rfl) rfl
theorem cw_18 : wc_ 18 ∈ lw_all := lw_g (lw_at lw_m1 94 rfl) rfl
theorem cw_19 : wc_ 19 ∈ lw_all := lw_g (lw_at lw_m1 98 rfl) rfl
theorem cw_20 : wc_ 20 ∈ lw_all := lw_g (lw_at lw_m1 102 rfl) rfl
theorem cw_21 : wc_ 21 ∈ lw_all := lw_g (lw_at lw_m1 106 rfl) rfl
theorem cw_22 : wc_ 22 ∈ lw_all := lw_g (lw_at lw_m1 110 rfl) rfl
theorem cw_23 : wc_ 23 ∈ lw_all := lw_g (lw_at lw_m1 114 rfl) rfl
theorem cw_24 : wc_ 24 ∈ lw_all := lw_g (lw_at lw_m1 118 rfl) rfl
theorem cw_25 : wc_ 25 ∈ lw_all := lw_g (lw_at lw_m1 122 rfl) rfl
theorem cw_26 : wc_ 26 ∈ lw_all := lw_g (lw_at lw_m1 126 rfl) rfl
theorem cw_27 : wc_ 27 ∈ lw_all := lw_g (lw_at lw_m1 134 rfl) rfl
theorem cw_28 : wc_ 28 ∈ lw_all := lw_g (lw_at lw_m1 143 rfl) rfl
theorem cw_29 : wc_ 29 ∈ lw_all := lw_g (lw_at lw_m1 151 rfl) rfl
theorem cw_30 : wc_ 30 ∈ lw_all := lw_g (lw_at lw_m1 155 rfl) rfl
theorem cw_31 : wc_ 31 ∈ lw_all := lw_g (lw_at lw_m1 159 rfl) rfl
theorem cw_32 : wc_ 32 ∈ lw_all := lw_g (lw_at lw_m1 163 rfl) rfl
theorem cw_33 : wc_ 33 ∈ lw_all := lw_g (lw_at lw_m1 167 rfl) rfl
theorem cw_34 : wc_ 34 ∈ lw_all := lw_g (lw_at lw_m1 171 rfl) rfl
theorem cw_35 : wc_ 35 ∈ lw_all := lw_g (lw_at lw_m1 175 rfl) rfl
theorem cw_36 : wc_ 36 ∈ lw_all := lw_g (lw_at lw_m1 179 rfl) rfl
theorem cw_37 : wc_ 37 ∈ lw_all := lw_g (lw_at lw_m1 183 rfl) rfl
theorem cw_38 : wc_ 38 ∈ lw_all := lw_g (lw_at lw_m1 187 rfl) rfl
theorem cw_39 : wc_ 39 ∈ lw_all := lw_g (lw_at lw_m1 191 rfl) rfl
theorem cw_40 : wc_ 40 ∈ lw_all := lw_g (lw_at lw_m1 195 rfl) rfl
theorem cw_41 : wc_ 41 ∈ lw_all := lw_g (lw_at lw_m1 199 rfl) rfl
theorem cw_42 : wc_ 42 ∈ lw_all := lw_g (lw_at lw_m1 203 rfl) rfl
theorem cw_43 : wc_ 43 ∈ lw_all := lw_g (lw_at lw_m1 207 rfl) rfl
theorem cw_44 : wc_ 44 ∈ lw_all := lw_g (lw_at lw_m1 211 rfl) rfl
theorem cw_45 : wc_ 45 ∈ lw_all := lw_g (lw_at lw_m1 215 rfl) rfl
theorem cw_46 : wc_ 46 ∈ lw_all := lw_g (lw_at lw_m1 219 rfl) rfl
theorem cw_47 : wc_ 47 ∈ lw_all := lw_g (lw_at lw_m1 223 rfl) rfl
theorem cw_48 : wc_ 48 ∈ lw_all := lw_g (lw_at lw_m1 227 rfl) rfl
theorem cw_49 : wc_ 49 ∈ lw_all := lw_g (lw_at lw_m1 231 rfl) rfl
theorem cw_50 : wc_ 50 ∈ lw_all := lw_g (lw_at lw_m1 235 rfl) rfl
theorem cw_52 : wc_ 52 ∈ lw_all := lw_g (lw_at lw_m5 3 rfl) rfl
theorem cw_53 : wc_ 53 ∈ lw_all := lw_g (lw_at lw_m5 7 rfl) rfl
theorem cw_54 : wc_ 54 ∈ lw_all := lw_g (lw_at lw_m5 11 rfl) rfl
theorem cw_55 : wc_ 55 ∈ lw_all := lw_g (lw_at lw_m7 1 rfl) rfl
theorem cw_56 : wc_ 56 ∈ lw_all := lw_g (lw_at lw_m7 5 rfl) rfl
theorem cw_57 : wc_ 57 ∈ lw_all := lw_g (lw_at lw_m7 9 rfl) rfl
theorem cw_58 : wc_ 58 ∈ lw_all := lw_g (lw_at lw_m7 13 rfl) rfl
theorem cw_59 : wc_ 59 ∈ lw_all := lw_g (lw_at lw_m7 18 rfl) rfl
theorem cw_60 : wc_ 60 ∈ lw_all := lw_g (lw_at lw_m7 22 rfl) rfl
theorem cw_61 : wc_ 61 ∈ lw_all := lw_g (lw_at lw_m7 26 rfl) rfl
theorem cw_62 : wc_ 62 ∈ lw_all := lw_g (lw_at lw_m7 30 rfl) rfl
theorem cw_63 : wc_ 63 ∈ lw_all := lw_g (lw_at lw_m7 34 rfl) rfl
theorem cw_64 : wc_ 64 ∈ lw_all := lw_g (lw_at lw_m7 38 rfl) rfl
theorem cw_65 : wc_ 65 ∈ lw_all := lw_g (lw_at lw_m7 42 rfl) rfl
theorem cw_66 : wc_ 66 ∈ lw_all := lw_g (lw_at lw_m7 46 rfl) rfl
theorem cw_67 : wc_ 67 ∈ lw_all := lw_g (lw_at lw_m7 50 rfl) rfl
theorem cw_68 : wc_ 68 ∈ lw_all := lw_g (lw_at lw_m7 54 rfl) rfl
theorem cw_69 : wc_ 69 ∈ lw_all := lw_g (lw_at lw_m7 58 rfl) rfl
theorem cw_70 : wc_ 70 ∈ lw_all := lw_g (lw_at lw_m7 62 rfl) rfl
theorem cw_71 : wc_ 71 ∈ lw_all := lw_g (lw_at lw_m7 66 rfl) rfl
theorem cw_72 : wc_ 72 ∈ lw_all := lw_g (lw_at lw_m7 70 rfl) rfl
theorem cw_73 : wc_ 73 ∈ lw_all := lw_g (lw_at lw_m7 75 rfl) rfl
theorem cw_74 : wc_ 74 ∈ lw_all := lw_g (lw_at lw_m7 79 rfl) rfl
theorem cw_75 : wc_ 75 ∈ lw_all := lw_g (lw_at lw_m7 83 rfl) rfl
theorem cw_76 : wc_ 76 ∈ lw_all := lw_g (lw_at lw_m7 87 rfl) rfl
theorem cw_77 : wc_ 77 ∈ lw_all := lw_g (lw_at lw_m7 91 rfl) rfl
theorem cw_78 : wc_ 78 ∈ lw_all := lw_g (lw_at lw_m7 95 rfl) rfl
theorem cw_79 : wc_ 79 ∈ lw_all := lw_g (lw_at lw_m7 99 rfl) rfl
theorem cw_80 : wc_ 80 ∈ lw_all := lw_g (lw_at lw_m7 104 rfl) rfl
theorem cw_81 : wc_ 81 ∈ lw_all := lw_g (lw_at lw_m7 108 rfl) rfl
theorem cw_82 : wc_ 82 ∈ lw_all := lw_g (lw_at lw_m7 112 rfl) rfl
theorem cw_83 : wc_ 83 ∈ lw_all := lw_g (lw_at lw_m7 116 rfl) rfl
theorem cw_84 : wc_ 84 ∈ lw_all := lw_g (lw_at lw_m7 120 rfl) rfl
theorem cw_85 : wc_ 85 ∈ lw_all := lw_g (lw_at lw_m7 124 rfl) rfl
theorem cw_86 : wc_ 86 ∈ lw_all := lw_g (lw_at lw_m7 128 rfl) rfl
theorem cw_87 : wc_ 87 ∈ lw_all := lw_g (lw_at lw_m7 132 rfl) rfl
theorem cw_88 : wc_ 88 ∈ lw_all := lw_g (lw_at lw_m7 136 rfl) rfl
theorem cw_89 : wc_ 89 ∈ lw_all := lw_g (lw_at lw_m7 140 rfl) rfl
theorem cw_90 : wc_ 90 ∈ lw_all := lw_g (lw_at lw_m7 144 rfl) rfl
theorem cw_91 : wc_ 91 ∈ lw_all := lw_g (lw_at lw_m7 148 rfl) rfl
theorem cw_92 : wc_ 92 ∈ lw_all := lw_g (lw_at lw_m7 152 rfl) rfl
theorem cw_101 : wc_ 101 ∈ lw_all := lw_g (lw_at lw_m5 15 rfl) rfl
theorem cw_102 : wc_ 102 ∈ lw_all := lw_g (lw_at lw_m5 155 rfl) rfl
theorem cw_103 : wc_ 103 ∈ lw_all := lw_g (lw_at lw_m5 159 rfl) rfl
theorem cw_104 : wc_ 104 ∈ lw_all := lw_g (lw_at lw_m5 163 rfl) rfl
theorem cw_105 : wc_ 105 ∈ lw_all := lw_g (lw_at lw_m5 167 rfl) rfl
theorem cw_106 : wc_ 106 ∈ lw_all := lw_g (lw_at lw_m5 171 rfl) rfl
theorem cw_107 : wc_ 107 ∈ lw_all := lw_g (lw_at lw_m5 175 rfl) rfl
theorem cw_108 : wc_ 108 ∈ lw_all := lw_g (lw_at lw_m5 179 rfl) rfl
theorem cw_109 : wc_ 109 ∈ lw_all := lw_g (lw_at lw_m5 183 rfl) rfl
theorem cw_110 : wc_ 110 ∈ lw_all := lw_g (lw_at lw_m5 187 rfl) rfl
theorem cw_111 : wc_ 111 ∈ lw_all := lw_g (lw_at lw_m5 191 rfl) rfl
theorem cw_112 : wc_ 112 ∈ lw_all := lw_g (lw_at lw_m5 195 rfl) rfl
theorem cw_113 : wc_ 113 ∈ lw_all := lw_g (lw_at lw_m5 199 rfl) rfl
theorem cw_114 : wc_ 114 ∈ lw_all := lw_g (lw_at lw_m5 207 rfl) rfl
theorem cw_115 : wc_ 115 ∈ lw_all := lw_g (lw_at lw_m5 211 rfl) rfl
theorem cw_116 : wc_ 116 ∈ lw_all := lw_g (lw_at lw_m5 215 rfl) rfl
theorem cw_117 : wc_ 117 ∈ lw_all := lw_g (lw_at lw_m5 219 rfl) rfl
theorem cw_118 : wc_ 118 ∈ lw_all := lw_g (lw_at lw_m5 223 rfl) rfl
theorem cw_119 : wc_ 119 ∈ lw_all := lw_g (lw_at lw_m5 227 rfl) rfl
theorem cw_120 : wc_ 120 ∈ lw_all := lw_g (lw_at lw_m5 231 rfl) rfl
theorem cw_121 : wc_ 121 ∈ lw_all := lw_g (lw_at lw_m5 235 rfl) rfl
theorem cw_122 : wc_ 122 ∈ lw_all := lw_g (lw_at lw_m5 239 rfl) rfl
theorem cw_123 : wc_ 123 ∈ lw_all := lw_g (lw_at lw_m6 3 rfl) rfl
theorem cw_124 : wc_ 124 ∈ lw_all := lw_g (lw_at lw_m6 7 rfl) rfl
theorem cw_125 : wc_ 125 ∈ lw_all := lw_g (lw_at lw_m6 11 rfl) rfl
theorem cw_126 : wc_ 126 ∈ lw_all := lw_g (lw_at lw_m6 15 rfl) rfl
theorem cw_127 : wc_ 127 ∈ lw_all := lw_g (lw_at lw_m6 19 rfl) rfl
theorem cw_128 : wc_ 128 ∈ lw_all := lw_g (lw_at lw_m6 24 rfl) rfl
theorem cw_129 : wc_ 129 ∈ lw_all := lw_g (lw_at lw_m6 28 rfl) rfl
theorem cw_130 : wc_ 130 ∈ lw_all := lw_g (lw_at lw_m6 32 rfl) rfl
theorem cw_131 : wc_ 131 ∈ lw_all := lw_g (lw_at lw_m6 36 rfl) rfl
theorem cw_132 : wc_ 132 ∈ lw_all := lw_g (lw_at lw_m6 40 rfl) rfl
theorem cw_133 : wc_ 133 ∈ lw_all := lw_g (lw_at lw_m6 44 rfl) rfl
theorem cw_134 : wc_ 134 ∈ lw_all := lw_g (lw_at lw_m6 48 rfl) rfl
theorem cw_135 : wc_ 135 ∈ lw_all := lw_g (lw_at lw_m6 52 rfl) rfl
theorem cw_136 : wc_ 136 ∈ lw_all := lw_g (lw_at lw_m6 56 rfl) rfl
theorem cw_137 : wc_ 137 ∈ lw_all := lw_g (lw_at lw_m6 60 rfl) rfl
theorem cw_138 : wc_ 138 ∈ lw_all := lw_g (lw_at lw_m6 64 rfl) rfl
theorem cw_139 : wc_ 139 ∈ lw_all := lw_g (lw_at lw_m6 72 rfl) rfl
theorem cw_140 : wc_ 140 ∈ lw_all := lw_g (lw_at lw_m6 76 rfl) rfl
theorem cw_141 : wc_ 141 ∈ lw_all := lw_g (lw_at lw_m6 80 rfl) rfl
theorem cw_142 : wc_ 142 ∈ lw_all := lw_g (lw_at lw_m6 84 rfl) rfl
theorem cw_143 : wc_ 143 ∈ lw_all := lw_g (lw_at lw_m6 88 rfl) rfl
theorem cw_144 : wc_ 144 ∈ lw_all := lw_g (lw_at lw_m6 92 rfl) rfl
theorem cw_145 : wc_ 145 ∈ lw_all := lw_g (lw_at lw_m6 96 rfl) rfl
theorem cw_146 : wc_ 146 ∈ lw_all := lw_g (lw_at lw_m6 100 rfl) rfl
theorem cw_147 : wc_ 147 ∈ lw_all := lw_g (lw_at lw_m6 104 rfl) rfl
theorem cw_148 : wc_ 148 ∈ lw_all := lw_g (lw_at lw_m6 108 rfl) rfl
theorem cw_149 : wc_ 149 ∈ lw_all := lw_g (lw_at lw_m6 112 rfl) rfl
theorem cw_150 : wc_ 150 ∈ lw_all := lw_g (lw_at lw_m6 116 rfl) rfl
theorem cw_151 : wc_ 151 ∈ lw_all := lw_g (lw_at lw_m6 120 rfl) rfl
theorem cw_152 : wc_ 152 ∈ lw_all := lw_g (lw_at lw_m6 124 rfl) rfl
theorem cw_153 : wc_ 153 ∈ lw_all := lw_g (lw_at lw_m6 128 rfl) rfl
theorem cw_154 : wc_ 154 ∈ lw_all := lw_g (lw_at lw_m6 132 rfl) rfl
theorem cw_155 : wc_ 155 ∈ lw_all := lw_g (lw_at lw_m6 136 rfl) rfl
theorem cw_156 : wc_ 156 ∈ lw_all := lw_g (lw_at lw_m6 140 rfl) rfl
theorem cw_157 : wc_ 157 ∈ lw_all := lw_g (lw_at lw_m6 144 rfl) rfl
theorem cw_158 : wc_ 158 ∈ lw_all := lw_g (lw_at lw_m6 148 rfl) rfl
theorem cw_159 : wc_ 159 ∈ lw_all := lw_g (lw_at lw_m6 152 rfl) rfl
theorem cw_160 : wc_ 160 ∈ lw_all := lw_g (lw_at lw_m6 157 rfl) rfl
theorem cw_161 : wc_ 161 ∈ lw_all := lw_g (lw_at lw_m6 161 rfl) rfl
theorem cw_162 : wc_ 162 ∈ lw_all := lw_g (lw_at lw_m6 165 rfl) rfl
theorem cw_163 : wc_ 163 ∈ lw_all := lw_g (lw_at lw_m6 169 rfl) rfl
theorem cw_164 : wc_ 164 ∈ lw_all := lw_g (lw_at lw_m6 173 rfl) rfl
theorem cw_165 : wc_ 165 ∈ lw_all := lw_g (lw_at lw_m6 177 rfl) rfl
theorem cw_166 : wc_ 166 ∈ lw_all := lw_g (lw_at lw_m6 181 rfl) rfl
theorem cw_167 : wc_ 167 ∈ lw_all := lw_g (lw_at lw_m6 185 rfl) rfl
theorem cw_168 : wc_ 168 ∈ lw_all := lw_g (lw_at lw_m6 189 rfl) rfl
theorem cw_169 : wc_ 169 ∈ lw_all := lw_g (lw_at lw_m6 193 rfl) rfl
theorem cw_170 : wc_ 170 ∈ lw_all := lw_g (lw_at lw_m6 197 rfl) rfl
theorem cw_171 : wc_ 171 ∈ lw_all := lw_g (lw_at lw_m6 201 rfl) rfl
theorem cw_172 : wc_ 172 ∈ lw_all := lw_g (lw_at lw_m6 205 rfl) rfl
theorem cw_173 : wc_ 173 ∈ lw_all := lw_g (lw_at lw_m6 209 rfl) rfl
theorem cw_174 : wc_ 174 ∈ lw_all := lw_g (lw_at lw_m6 213 rfl) rfl
theorem cw_175 : wc_ 175 ∈ lw_all := lw_g (lw_at lw_m6 217 rfl) rfl
theorem cw_176 : wc_ 176 ∈ lw_all := lw_g (lw_at lw_m6 221 rfl) rfl
theorem cw_177 : wc_ 177 ∈ lw_all := lw_g (lw_at lw_m6 225 rfl) rfl
theorem cw_178 : wc_ 178 ∈ lw_all := lw_g (lw_at lw_m6 229 rfl) rfl
theorem cw_179 : wc_ 179 ∈ lw_all := lw_g (lw_at lw_m6 233 rfl) rfl
theorem cw_180 : wc_ 180 ∈ lw_all := lw_g (lw_at lw_m6 237 rfl) rfl
theorem cw_191 : wc_ 191 ∈ lw_all := lw_g (lw_at lw_m5 19 rfl) rfl
theorem cw_192 : wc_ 192 ∈ lw_all := lw_g (lw_at lw_m5 23 rfl) rfl
theorem cw_193 : wc_ 193 ∈ lw_all := lw_g (lw_at lw_m5 27 rfl) rfl
theorem cw_194 : wc_ 194 ∈ lw_all := lw_g (lw_at lw_m5 31 rfl) rfl
theorem cw_195 : wc_ 195 ∈ lw_all := lw_g (lw_at lw_m5 34 rfl) rfl
theorem cw_196 : wc_ 196 ∈ lw_all := lw_g (lw_at lw_m5 38 rfl) rfl
theorem cw_197 : wc_ 197 ∈ lw_all := lw_g (lw_at lw_m5 41 rfl) rfl
theorem cw_198 : wc_ 198 ∈ lw_all := lw_g (lw_at lw_m5 145 rfl) rfl
theorem cw_199 : wc_ 199 ∈ lw_all := lw_g (lw_at lw_m5 203 rfl) rfl
theorem cw_205 : wc_ 205 ∈ lw_all := lw_g (lw_at lw_m1 130 rfl) rfl
theorem cw_207 : wc_ 207 ∈ lw_all := lw_g (lw_at lw_m6 68 rfl) rfl
theorem cw_211 : wc_ 211 ∈ lw_all := lw_g (lw_at lw_m7 166 rfl) rfl
theorem cw_212 : wc_ 212 ∈ lw_all := lw_g (lw_at lw_m7 169 rfl) rfl
theorem cw_213 : wc_ 213 ∈ lw_all := lw_g (lw_at lw_m7 172 rfl) rfl
theorem cw_214 : wc_ 214 ∈ lw_all := lw_g (lw_at lw_m10 28 rfl) rfl
theorem cw_215 : wc_ 215 ∈ lw_all := lw_g (lw_at lw_m10 32 rfl) rfl
theorem cw_216 : wc_ 216 ∈ lw_all := lw_g (lw_at lw_m10 36 rfl) rfl
theorem cw_217 : wc_ 217 ∈ lw_all := lw_g (lw_at lw_m10 40 rfl) rfl
theorem cw_218 : wc_ 218 ∈ lw_all := lw_g (lw_at lw_m10 44 rfl) rfl
theorem cw_219 : wc_ 219 ∈ lw_all := lw_g (lw_at lw_m10 48 rfl) rfl
theorem cw_220 : wc_ 220 ∈ lw_all := lw_g (lw_at lw_m10 52 rfl) rfl
theorem cw_221 : wc_ 221 ∈ lw_all := lw_g (lw_at lw_m10 56 rfl) rfl
theorem cw_222 : wc_ 222 ∈ lw_all := lw_g (lw_at lw_m10 60 rfl) rfl
theorem cw_223 : wc_ 223 ∈ lw_all := lw_g (lw_at lw_m10 64 rfl) rfl
theorem cw_224 : wc_ 224 ∈ lw_all := lw_g (lw_at lw_m10 68 rfl) rfl
theorem cw_225 : wc_ 225 ∈ lw_all := lw_g (lw_at lw_m10 72 rfl) rfl
theorem cw_226 : wc_ 226 ∈ lw_all := lw_g (lw_at lw_m10 78 rfl) rfl
theorem cw_227 : wc_ 227 ∈ lw_all := lw_g (lw_at lw_m10 82 rfl) rfl
theorem cw_228 : wc_ 228 ∈ lw_all := lw_g (lw_at lw_m10 86 rfl) rfl
theorem cw_229 : wc_ 229 ∈ lw_all := lw_g (lw_at lw_m10 90 rfl) rfl
theorem cw_230 : wc_ 230 ∈ lw_all := lw_g (lw_at lw_m10 94 rfl) rfl
theorem cw_231 : wc_ 231 ∈ lw_all := lw_g (lw_at lw_m10 98 rfl) rfl
theorem cw_232 : wc_ 232 ∈ lw_all := lw_g (lw_at lw_m10 102 rfl) rfl
theorem cw_233 : wc_ 233 ∈ lw_all := lw_g (lw_at lw_m10 106 rfl) rfl
theorem cw_234 : wc_ 234 ∈ lw_all := lw_g (lw_at lw_m10 110 rfl) rfl
theorem cw_235 : wc_ 235 ∈ lw_all := lw_g (lw_at lw_m10 114 rfl) rfl
theorem cw_236 : wc_ 236 ∈ lw_all := lw_g (lw_at lw_m10 118 rfl) rfl
theorem cw_237 : wc_ 237 ∈ lw_all := lw_g (lw_at lw_m10 122 rfl) rfl
theorem cw_238 : wc_ 238 ∈ lw_all := lw_g (lw_at lw_m10 126 rfl) rfl
theorem cw_239 : wc_ 239 ∈ lw_all := lw_g (lw_at lw_m10 130 rfl) rfl
theorem cw_240 : wc_ 240 ∈ lw_all := lw_g (lw_at lw_m10 134 rfl) rfl
theorem cw_241 : wc_ 241 ∈ lw_all := lw_g (lw_at lw_m10 138 rfl) rfl
theorem cw_242 : wc_ 242 ∈ lw_all := lw_g (lw_at lw_m10 142 rfl) rfl
theorem cw_243 : wc_ 243 ∈ lw_all := lw_g (lw_at lw_m10 146 rfl) rfl
theorem cw_244 : wc_ 244 ∈ lw_all := lw_g (lw_at lw_m10 150 rfl) rfl
theorem cw_245 : wc_ 245 ∈ lw_all := lw_g (lw_at lw_m10 154 rfl) rfl
theorem cw_246 : wc_ 246 ∈ lw_all := lw_g (lw_at lw_m10 158 rfl) rfl
theorem cw_247 : wc_ 247 ∈ lw_all := lw_g (lw_at lw_m10 162 rfl) rfl
theorem cw_248 : wc_ 248 ∈ lw_all := lw_g (lw_at lw_m10 166 rfl) rfl
theorem cw_249 : wc_ 249 ∈ lw_all := lw_g (lw_at lw_m10 170 rfl) rfl
theorem cw_250 : wc_ 250 ∈ lw_all := lw_g (lw_at lw_m10 174 rfl) rfl
theorem cw_251 : wc_ 251 ∈ lw_all := lw_g (lw_at lw_m10 178 rfl) rfl
theorem cw_252 : wc_ 252 ∈ lw_all := lw_g (lw_at lw_m10 182 rfl) rfl
theorem cw_253 : wc_ 253 ∈ lw_all := lw_g (lw_at lw_m10 186 rfl) rfl
theorem cw_254 : wc_ 254 ∈ lw_all := lw_g (lw_at lw_m10 190 rfl) rfl
theorem cw_255 : wc_ 255 ∈ lw_all := lw_g (lw_at lw_m10 194 rfl) rfl
theorem cw_256 : wc_ 256 ∈ lw_all := lw_g (lw_at lw_m10 198 rfl) rfl
theorem cw_257 : wc_ 257 ∈ lw_all := lw_g (lw_at lw_m10 202 rfl) rfl
theorem cw_258 : wc_ 258 ∈ lw_all := lw_g (lw_at lw_m10 206 rfl) rfl
theorem cw_259 : wc_ 259 ∈ lw_all := lw_g (lw_at lw_m10 210 rfl) rfl
theorem cw_260 : wc_ 260 ∈ lw_all := lw_g (lw_at lw_m10 214 rfl) rfl
theorem cw_261 : wc_ 261 ∈ lw_all := lw_g (lw_at lw_m10 218 rfl) rfl
theorem cw_262 : wc_ 262 ∈ lw_all := lw_g (lw_at lw_m10 223 rfl) rfl
theorem cw_263 : wc_ 263 ∈ lw_all := lw_g (lw_at lw_m10 227 rfl) rfl
theorem cw_264 : wc_ 264 ∈ lw_all := lw_g (lw_at lw_m10 231 rfl) rfl
theorem cw_265 : wc_ 265 ∈ lw_all := lw_g (lw_at lw_m10 235 rfl) rfl
theorem cw_266 : wc_ 266 ∈ lw_all := lw_g (lw_at lw_m10 239 rfl) rfl
theorem cw_267 : wc_ 267 ∈ lw_all := lw_g (lw_at lw_m11 3 rfl) rfl
theorem cw_268 : wc_ 268 ∈ lw_all := lw_g (lw_at lw_m11 7 rfl) rfl
theorem cw_269 : wc_ 269 ∈ lw_all := lw_g (lw_at lw_m11 11 rfl) rfl
theorem cw_270 : wc_ 270 ∈ lw_all := lw_g (lw_at lw_m11 15 rfl) rfl
theorem cw_271 : wc_ 271 ∈ lw_all := lw_g (lw_at lw_m11 19 rfl) rfl
theorem cw_272 : wc_ 272 ∈ lw_all := lw_g (lw_at lw_m11 23 rfl) rfl
theorem cw_273 : wc_ 273 ∈ lw_all := lw_g (lw_at lw_m11 27 rfl) rfl
theorem cw_274 : wc_ 274 ∈ lw_all := lw_g (lw_at lw_m11 31 rfl) rfl
theorem cw_275 : wc_ 275 ∈ lw_all := lw_g (lw_at lw_m11 35 rfl) rfl
theorem cw_276 : wc_ 276 ∈ lw_all := lw_g (lw_at lw_m11 39 rfl) rfl
theorem cw_277 : wc_ 277 ∈ lw_all := lw_g (lw_at lw_m11 43 rfl) rfl
theorem cw_278 : wc_ 278 ∈ lw_all := lw_g (lw_at lw_m11 47 rfl) rfl
theorem cw_279 : wc_ 279 ∈ lw_all := lw_g (lw_at lw_m11 51 rfl) rfl
theorem cw_280 : wc_ 280 ∈ lw_all := lw_g (lw_at lw_m11 55 rfl) rfl
theorem cw_281 : wc_ 281 ∈ lw_all := lw_g (lw_at lw_m11 59 rfl) rfl
theorem cw_282 : wc_ 282 ∈ lw_all := lw_g (lw_at lw_m11 63 rfl) rfl
theorem cw_283 : wc_ 283 ∈ lw_all := lw_g (lw_at lw_m11 67 rfl) rfl
theorem cw_284 : wc_ 284 ∈ lw_all := lw_g (lw_at lw_m11 71 rfl) rfl
theorem cw_285 : wc_ 285 ∈ lw_all := lw_g (lw_at lw_m11 75 rfl) rfl
theorem cw_286 : wc_ 286 ∈ lw_all := lw_g (lw_at lw_m11 79 rfl) rfl
theorem cw_287 : wc_ 287 ∈ lw_all := lw_g (lw_at lw_m11 82 rfl) rfl
theorem cw_288 : wc_ 288 ∈ lw_all := lw_g (lw_at lw_m11 86 rfl) rfl
theorem cw_289 : wc_ 289 ∈ lw_all := lw_g (lw_at lw_m11 90 rfl) rfl
theorem cw_290 : wc_ 290 ∈ lw_all := lw_g (lw_at lw_m11 94 rfl) rfl
theorem cw_291 : wc_ 291 ∈ lw_all := lw_g (lw_at lw_m11 98 rfl) rfl
theorem cw_292 : wc_ 292 ∈ lw_all := lw_g (lw_at lw_m11 102 rfl) rfl
theorem cw_293 : wc_ 293 ∈ lw_all := lw_g (lw_at lw_m11 106 rfl) rfl
theorem cw_294 : wc_ 294 ∈ lw_all := lw_g (lw_at lw_m11 110 rfl) rfl
theorem cw_295 : wc_ 295 ∈ lw_all := lw_g (lw_at lw_m11 114 rfl) rfl
theorem cw_296 : wc_ 296 ∈ lw_all := lw_g (lw_at lw_m11 118 rfl) rfl
theorem cw_297 : wc_ 297 ∈ lw_all := lw_g (lw_at lw_m11 122 rfl) rfl
theorem cw_298 : wc_ 298 ∈ lw_all := lw_g (lw_at lw_m11 126 rfl) rfl
theorem cw_299 : wc_ 299 ∈ lw_all := lw_g (lw_at lw_m11 130 rfl) rfl
theorem cw_300 : wc_ 300 ∈ lw_all := lw_g (lw_at lw_m11 136 rfl) rfl
theorem cw_301 : wc_ 301 ∈ lw_all := lw_g (lw_at lw_m11 140 rfl) rfl
theorem cw_302 : wc_ 302 ∈ lw_all := lw_g (lw_at lw_m11 144 rfl) rfl
theorem cw_303 : wc_ 303 ∈ lw_all := lw_g (lw_at lw_m11 148 rfl) rfl
theorem cw_304 : wc_ 304 ∈ lw_all := lw_g (lw_at lw_m11 152 rfl) rfl
theorem cw_305 : wc_ 305 ∈ lw_all := lw_g (lw_at lw_m11 156 rfl) rfl
theorem cw_306 : wc_ 306 ∈ lw_all := lw_g (lw_at lw_m11 160 rfl) rfl
theorem cw_307 : wc_ 307 ∈ lw_all := lw_g (lw_at lw_m11 164 rfl) rfl
theorem cw_308 : wc_ 308 ∈ lw_all := lw_g (lw_at lw_m11 168 rfl) rfl
theorem cw_309 : wc_ 309 ∈ lw_all := lw_g (lw_at lw_m11 172 rfl) rfl
theorem cw_310 : wc_ 310 ∈ lw_all := lw_g (lw_at lw_m11 176 rfl) rfl
theorem cw_311 : wc_ 311 ∈ lw_all := lw_g (lw_at lw_m11 180 rfl) rfl
theorem cw_312 : wc_ 312 ∈ lw_all := lw_g (lw_at lw_m11 184 rfl) rfl
theorem cw_313 : wc_ 313 ∈ lw_all := lw_g (lw_at lw_m11 188 rfl) rfl
theorem cw_314 : wc_ 314 ∈ lw_all := lw_g (lw_at lw_m11 192 rfl) rfl
theorem cw_315 : wc_ 315 ∈ lw_all := lw_g (lw_at lw_m11 196 rfl) rfl
theorem cw_316 : wc_ 316 ∈ lw_all := lw_g (lw_at lw_m11 201 rfl) rfl
theorem cw_317 : wc_ 317 ∈ lw_all := lw_g (lw_at lw_m11 205 rfl) rfl
theorem cw_318 : wc_ 318 ∈ lw_all := lw_g (lw_at lw_m11 209 rfl) rfl
theorem cw_319 : wc_ 319 ∈ lw_all := lw_g (lw_at lw_m11 213 rfl) rfl
theorem cw_320 : wc_ 320 ∈ lw_all := lw_g (lw_at lw_m11 217 rfl) rfl
theorem cw_321 : wc_ 321 ∈ lw_all := lw_g (lw_at lw_m11 221 rfl) rfl
theorem cw_322 : wc_ 322 ∈ lw_all := lw_g (lw_at lw_m11 225 rfl) rfl
theorem cw_323 : wc_ 323 ∈ lw_all := lw_g (lw_at lw_m11 228 rfl) rfl
theorem cw_324 : wc_ 324 ∈ lw_all := lw_g (lw_at lw_m11 232 rfl) rfl
theorem cw_325 : wc_ 325 ∈ lw_all := lw_g (lw_at lw_m11 236 rfl) rfl
theorem cw_326 : wc_ 326 ∈ lw_all := lw_g (lw_at lw_m12 0 rfl) rfl
theorem cw_327 : wc_ 327 ∈ lw_all := lw_g (lw_at lw_m12 3 rfl) rfl
theorem cw_328 : wc_ 328 ∈ lw_all := lw_g (lw_at lw_m12 7 rfl) rfl
theorem cw_329 : wc_ 329 ∈ lw_all := lw_g (lw_at lw_m12 11 rfl) rfl
theorem cw_330 : wc_ 330 ∈ lw_all := lw_g (lw_at lw_m12 15 rfl) rfl
theorem cw_331 : wc_ 331 ∈ lw_all := lw_g (lw_at lw_m12 19 rfl) rfl
theorem cw_332 : wc_ 332 ∈ lw_all := lw_g (lw_at lw_m12 23 rfl) rfl
theorem cw_333 : wc_ 333 ∈ lw_all := lw_g (lw_at lw_m12 27 rfl) rfl
theorem cw_334 : wc_ 334 ∈ lw_all := lw_g (lw_at lw_m12 31 rfl) rfl
theorem cw_335 : wc_ 335 ∈ lw_all := lw_g (lw_at lw_m12 35 rfl) rfl
theorem cw_336 : wc_ 336 ∈ lw_all := lw_g (lw_at lw_m12 39 rfl) rfl
theorem cw_337 : wc_ 337 ∈ lw_all := lw_g (lw_at lw_m12 43 rfl) rfl
theorem cw_338 : wc_ 338 ∈ lw_all := lw_g (lw_at lw_m12 47 rfl) rfl
theorem cw_339 : wc_ 339 ∈ lw_all := lw_g (lw_at lw_m12 51 rfl) rfl
theorem cw_340 : wc_ 340 ∈ lw_all := lw_g (lw_at lw_m12 55 rfl) rfl
theorem cw_341 : wc_ 341 ∈ lw_all := lw_g (lw_at lw_m12 59 rfl) rfl
theorem cw_342 : wc_ 342 ∈ lw_all := lw_g (lw_at lw_m12 63 rfl) rfl
theorem cw_343 : wc_ 343 ∈ lw_all := lw_g (lw_at lw_m12 67 rfl) rfl
theorem cw_344 : wc_ 344 ∈ lw_all := lw_g (lw_at lw_m12 70 rfl) rfl
theorem cw_345 : wc_ 345 ∈ lw_all := lw_g (lw_at lw_m12 74 rfl) rfl
theorem cw_346 : wc_ 346 ∈ lw_all := lw_g (lw_at lw_m12 78 rfl) rfl
theorem cw_347 : wc_ 347 ∈ lw_all := lw_g (lw_at lw_m12 82 rfl) rfl
theorem cw_348 : wc_ 348 ∈ lw_all := lw_g (lw_at lw_m12 86 rfl) rfl
theorem cw_349 : wc_ 349 ∈ lw_all := lw_g (lw_at lw_m12 90 rfl) rfl
theorem cw_350 : wc_ 350 ∈ lw_all := lw_g (lw_at lw_m12 94 rfl) rfl
theorem cw_351 : wc_ 351 ∈ lw_all := lw_g (lw_at lw_m12 98 rfl) rfl
theorem cw_352 : wc_ 352 ∈ lw_all := lw_g (lw_at lw_m12 102 rfl) rfl
theorem cw_353 : wc_ 353 ∈ lw_all := lw_g (lw_at lw_m12 106 rfl) rfl
theorem cw_354 : wc_ 354 ∈ lw_all := lw_g (lw_at lw_m12 112 rfl) rfl
theorem cw_355 : wc_ 355 ∈ lw_all := lw_g (lw_at lw_m12 116 rfl) rfl
theorem cw_356 : wc_ 356 ∈ lw_all := lw_g (lw_at lw_m12 120 rfl) rfl
theorem cw_357 : wc_ 357 ∈ lw_all := lw_g (lw_at lw_m12 124 rfl) rfl
theorem cw_358 : wc_ 358 ∈ lw_all := lw_g (lw_at lw_m12 128 rfl) rfl
theorem cw_359 : wc_ 359 ∈ lw_all := lw_g (lw_at lw_m12 132 rfl) rfl
theorem cw_360 : wc_ 360 ∈ lw_all := lw_g (lw_at lw_m12 136 rfl) rfl
theorem cw_361 : wc_ 361 ∈ lw_all := lw_g (lw_at lw_m12 141 rfl) rfl
theorem cw_362 : wc_ 362 ∈ lw_all := lw_g (lw_at lw_m12 145 rfl) rfl
theorem cw_363 : wc_ 363 ∈ lw_all := lw_g (lw_at lw_m12 149 rfl) rfl
theorem cw_364 : wc_ 364 ∈ lw_all := lw_g (lw_at lw_m12 153 rfl) rfl
theorem cw_365 : wc_ 365 ∈ lw_all := lw_g (lw_at lw_m12 157 rfl) rfl
theorem cw_366 : wc_ 366 ∈ lw_all := lw_g (lw_at lw_m12 161 rfl) rfl
theorem cw_367 : wc_ 367 ∈ lw_all := lw_g (lw_at lw_m12 166 rfl) rfl
theorem cw_368 : wc_ 368 ∈ lw_all := lw_g (lw_at lw_m12 170 rfl) rfl
theorem cw_369 : wc_ 369 ∈ lw_all := lw_g (lw_at lw_m12 174 rfl) rfl
theorem cw_370 : wc_ 370 ∈ lw_all := lw_g (lw_at lw_m12 178 rfl) rfl
theorem cw_371 : wc_ 371 ∈ lw_all := lw_g (lw_at lw_m12 182 rfl) rfl
theorem cw_372 : wc_ 372 ∈ lw_all := lw_g (lw_at lw_m12 186 rfl) rfl
theorem cw_373 : wc_ 373 ∈ lw_all := lw_g (lw_at lw_m12 190 rfl) rfl
theorem cw_374 : wc_ 374 ∈ lw_all := lw_g (lw_at lw_m12 194 rfl) rfl
theorem cw_375 : wc_ 375 ∈ lw_all := lw_g (lw_at lw_m12 198 rfl) rfl
theorem cw_376 : wc_ 376 ∈ lw_all := lw_g (lw_at lw_m12 202 rfl) rfl
theorem cw_377 : wc_ 377 ∈ lw_all := lw_g (lw_at lw_m12 206 rfl) rfl
theorem cw_378 : wc_ 378 ∈ lw_all := lw_g (lw_at lw_m12 210 rfl) rfl
theorem cw_379 : wc_ 379 ∈ lw_all := lw_g (lw_at lw_m12 214 rfl) rfl
theorem cw_380 : wc_ 380 ∈ lw_all := lw_g (lw_at lw_m12 218 rfl) rfl
theorem cw_381 : wc_ 381 ∈ lw_all := lw_g (lw_at lw_m12 222 rfl) rfl
theorem cw_382 : wc_ 382 ∈ lw_all := lw_g (lw_at lw_m12 226 rfl) rfl
theorem cw_383 : wc_ 383 ∈ lw_all := lw_g (lw_at lw_m12 230 rfl) rfl
theorem cw_384 : wc_ 384 ∈ lw_all := lw_g (lw_at lw_m12 234 rfl) rfl
theorem cw_385 : wc_ 385 ∈ lw_all := lw_g (lw_at lw_m12 238 rfl) rfl
theorem cw_386 : wc_ 386 ∈ lw_all := lw_g (lw_at lw_m13 2 rfl) rfl
theorem cw_387 : wc_ 387 ∈ lw_all := lw_g (lw_at lw_m13 6 rfl) rfl
theorem cw_388 : wc_ 388 ∈ lw_all := lw_g (lw_at lw_m13 10 rfl) rfl
theorem cw_389 : wc_ 389 ∈ lw_all := lw_g (lw_at lw_m13 14 rfl) rfl
theorem cw_390 : wc_ 390 ∈ lw_all := lw_g (lw_at lw_m13 18 rfl) rfl
theorem cw_391 : wc_ 391 ∈ lw_all := lw_g (lw_at lw_m13 22 rfl) rfl
theorem cw_392 : wc_ 392 ∈ lw_all := lw_g (lw_at lw_m13 26 rfl) rfl
theorem cw_393 : wc_ 393 ∈ lw_all := lw_g (lw_at lw_m13 30 rfl) rfl
theorem cw_394 : wc_ 394 ∈ lw_all := lw_g (lw_at lw_m13 34 rfl) rfl
theorem cw_395 : wc_ 395 ∈ lw_all := lw_g (lw_at lw_m13 38 rfl) rfl
theorem cw_396 : wc_ 396 ∈ lw_all := lw_g (lw_at lw_m13 42 rfl) rfl
theorem cw_397 : wc_ 397 ∈ lw_all := lw_g (lw_at lw_m13 46 rfl) rfl
theorem cw_398 : wc_ 398 ∈ lw_all := lw_g (lw_at lw_m13 50 rfl) rfl
theorem cw_399 : wc_ 399 ∈ lw_all := lw_g (lw_at lw_m13 54 rfl) rfl
theorem cw_400 : wc_ 400 ∈ lw_all := lw_g (lw_at lw_m13 58 rfl) rfl
theorem cw_401 : wc_ 401 ∈ lw_all := lw_g (lw_at lw_m13 62 rfl) rfl
theorem cw_402 : wc_ 402 ∈ lw_all := lw_g (lw_at lw_m13 66 rfl) rfl
theorem cw_403 : wc_ 403 ∈ lw_all := lw_g (lw_at lw_m13 70 rfl) rfl
theorem cw_404 : wc_ 404 ∈ lw_all := lw_g (lw_at lw_m13 74 rfl) rfl
theorem cw_405 : wc_ 405 ∈ lw_all := lw_g (lw_at lw_m13 78 rfl) rfl
theorem cw_406 : wc_ 406 ∈ lw_all := lw_g (lw_at lw_m13 82 rfl) rfl
theorem cw_407 : wc_ 407 ∈ lw_all := lw_g (lw_at lw_m13 86 rfl) rfl
theorem cw_408 : wc_ 408 ∈ lw_all := lw_g (lw_at lw_m13 90 rfl) rfl
theorem cw_409 : wc_ 409 ∈ lw_all := lw_g (lw_at lw_m13 94 rfl) rfl
theorem cw_410 : wc_ 410 ∈ lw_all := lw_g (lw_at lw_m13 98 rfl) rfl
theorem cw_411 : wc_ 411 ∈ lw_all := lw_g (lw_at lw_m13 102 rfl) rfl
theorem cw_412 : wc_ 412 ∈ lw_all := lw_g (lw_at lw_m13 106 rfl) rfl
theorem cw_413 : wc_ 413 ∈ lw_all := lw_g (lw_at lw_m13 110 rfl) rfl
theorem cw_420 : wc_ 420 ∈ lw_all := lw_g (lw_at lw_m5 46 rfl) rfl
theorem cw_421 : wc_ 421 ∈ lw_all := lw_g (lw_at lw_m5 50 rfl) rfl
theorem cw_422 : wc_ 422 ∈ lw_all := lw_g (lw_at lw_m5 56 rfl) rfl
theorem cw_423 : wc_ 423 ∈ lw_all := lw_g (lw_at lw_m5 60 rfl) rfl
theorem cw_424 : wc_ 424 ∈ lw_all := lw_g (lw_at lw_m5 90 rfl) rfl
theorem cw_425 : wc_ 425 ∈ lw_all := lw_g (lw_at lw_m5 125 rfl) rfl
theorem cw_426 : wc_ 426 ∈ lw_all := lw_g (lw_at lw_m5 131 rfl) rfl
theorem cw_427 : wc_ 427 ∈ lw_all := lw_g (lw_at lw_m5 150 rfl) rfl
theorem cw_430 : wc_ 430 ∈ lw_all := lw_g (lw_at lw_m5 64 rfl) rfl
theorem cw_431 : wc_ 431 ∈ lw_all := lw_g (lw_at lw_m5 67 rfl) rfl
theorem cw_432 : wc_ 432 ∈ lw_all := lw_g (lw_at lw_m5 72 rfl) rfl
theorem cw_433 : wc_ 433 ∈ lw_all := lw_g (lw_at lw_m5 128 rfl) rfl
theorem cw_436 : wc_ 436 ∈ lw_all := lw_g (lw_at lw_m5 95 rfl) rfl
theorem cw_437 : wc_ 437 ∈ lw_all := lw_g (lw_at lw_m5 134 rfl) rfl
def cwl0 : List Nat := [0, 1, 2, 3, 4, 5, 6, 7, 8, 9, 10, 11, 12, 13, 14, 15, 16, 17, 18, 19, 20, 21, 22, 23, 24, 25, 26, 27, 28, 29, 30, 31, 32, 33, 34, 35, 36, 37, 38, 39, 40, 41, 42, 43, 44, 45, 46, 47, 48, 49, 50, 52, 53, 54, 55, 56, 57, 58, 59, 60, 61, 62, 63, 64, 65, 66, 67, 68, 69, 70, 71, 72, 73, 74, 75, 76, 77, 78, 79, 80, 81, 82, 83, 84, 85, 86, 87, 88, 89, 90, 91, 92, 101, 102, 103, 104, 105, 106, 107, 108, 109, 110, 111, 112, 113, 114, 115, 116, 117, 118, 119, 120, 121, 122, 123, 124, 125, 126, 127, 128, 129, 130, 131, 132, 133, 134, 135, 136, 137, 138, 139, 140, 141, 142, 143, 144, 145, 146, 147, 148, 149, 150, 151, 152, 153, 154, 155, 156, 157, 158, 159, 160, 161, 162, 163, 164, 165, 166, 167, 168, 169, 170, 171, 172, 173, 174, 175, 176, 177, 178, 179, 180, 191, 192, 193, 194, 195, 196, 197, 198, 199, 205, 207, 211, 212, 213, 214, 215, 216, 217, 218, 219, 220, 221, 222, 223, 224, 225, 226, 227, 228, 229, 230, 231, 232, 233, 234, 235, 236, 237, 238, 239, 240, 241, 242, 243, 244, 245, 246, 247, 248, 249, 250, 251, 252, 253, 254, 255, 256, 257, 258, 259, 260, 261, 262, 263, 264, 265, 266, 267, 268, 269, 270, 271, 272, 273, 274, 275, 276, 277, 278, 279, 280, 281, 282, 283, 284, 285, 286, 287, 288, 289, 290, 291, 292, 293, 294, 295, 296, 297, 298, 299, 300, 301, 302, 303, 304, 305, 306, 307, 308, 309, 310, 311, 312, 313, 314, 315, 316, 317, 318, 319, 320, 321, 322, 323, 324, 325, 326, 327, 328, 329, 330, 331, 332, 333, 334, 335, 336, 337, 338, 339, 340, 341, 342, 343, 344, 345, 346, 347, 348, 349, 350, 351, 352, 353, 354, 355, 356, 357, 358, 359, 360, 361, 362, 363, 364, 365, 366, 367, 368, 369, 370, 371, 372, 373, 374, 375, 376, 377, 378, 379, 380, 381, 382, 383, 384, 385, 386, 387, 388, 389, 390, 391, 392, 393, 394, 395, 396, 397, 398, 399, 400, 401, 402, 403, 404, 405, 406, 407, 408, 409, 410, 411, 412, 413, 420, 421, 422, 423, 424, 425, 426, 427, 430, 431, 432, 433, 436, 437]
theorem cwl_0 : ∀ n ∈ [0, 1, 2, 3, 4, 5, 6, 7, 8, 9, 10, 11, 12, 13, 14, 15], wc_ n ∈ lw_all := List.forall_mem_cons.mpr ⟨cw_0, List.forall_mem_cons.mpr ⟨cw_1, List.forall_mem_cons.mpr ⟨cw_2, List.forall_mem_cons.mpr ⟨cw_3, List.forall_mem_cons.mpr ⟨cw_4, List.forall_mem_cons.mpr ⟨cw_5, List.forall_mem_cons.mpr ⟨cw_6, List.forall_mem_cons.mpr ⟨cw_7, List.forall_mem_cons.mpr ⟨cw_8, List.forall_mem_cons.mpr ⟨cw_9, List.forall_mem_cons.mpr ⟨cw_10, List.forall_mem_cons.mpr ⟨cw_11, List.forall_mem_cons.mpr ⟨cw_12, List.forall_mem_cons.mpr ⟨cw_13, List.forall_mem_cons.mpr ⟨cw_14, List.forall_mem_cons.mpr ⟨cw_15, fun _ h => absurd h List.not_mem_nil⟩⟩⟩⟩⟩⟩⟩⟩⟩⟩⟩⟩⟩⟩⟩⟩
theorem cwl_1 : ∀ n ∈ [16, 17, 18, 19, 20, 21, 22, 23, 24, 25, 26, 27, 28, 29, 30, 31], wc_ n ∈ lw_all := List.forall_mem_cons.mpr ⟨cw_16, List.forall_mem_cons.mpr ⟨cw_17, List.forall_mem_cons.mpr ⟨cw_18, List.forall_mem_cons.mpr ⟨cw_19, List.forall_mem_cons.mpr ⟨cw_20, List.forall_mem_cons.mpr ⟨cw_21, List.forall_mem_cons.mpr ⟨cw_22, List.forall_mem_cons.mpr ⟨cw_23, List.forall_mem_cons.mpr ⟨cw_24, List.forall_mem_cons.mpr ⟨cw_25, List.forall_mem_cons.mpr ⟨cw_26, List.forall_mem_cons.mpr ⟨cw_27, List.forall_mem_cons.mpr ⟨cw_28, List.forall_mem_cons.mpr ⟨cw_29, List.forall_mem_cons.mpr ⟨cw_30, List.forall_mem_cons.mpr ⟨cw_31, fun _ h => absurd h List.not_mem_nil⟩⟩⟩⟩⟩⟩⟩⟩⟩⟩⟩⟩⟩⟩⟩⟩
theorem cwl_2 : ∀ n ∈ [32, 33, 34, 35, 36, 37, 38, 39, 40, 41, 42, 43, 44, 45, 46, 47], wc_ n ∈ lw_all := List.forall_mem_cons.mpr ⟨cw_32, List.forall_mem_cons.mpr ⟨cw_33, List.forall_mem_cons.mpr ⟨cw_34, List.forall_mem_cons.mpr ⟨cw_35, List.forall_mem_cons.mpr ⟨cw_36, List.forall_mem_cons.mpr ⟨cw_37, List.forall_mem_cons.mpr ⟨cw_38, List.forall_mem_cons.mpr ⟨cw_39, List.forall_mem_cons.mpr ⟨cw_40, List.forall_mem_cons.mpr ⟨cw_41, List.forall_mem_cons.mpr ⟨cw_42, List.forall_mem_cons.mpr ⟨cw_43, List.forall_mem_cons.mpr ⟨cw_44, List.forall_mem_cons.mpr ⟨cw_45, List.forall_mem_cons.mpr ⟨cw_46, List.forall_mem_cons.mpr ⟨cw_47, fun _ h => absurd h List.not_mem_nil⟩⟩⟩⟩⟩⟩⟩⟩⟩⟩⟩⟩⟩⟩⟩⟩
theorem cwl_3 : ∀ n ∈ [48, 49, 50, 52, 53, 54, 55, 56, 57, 58, 59, 60, 61, 62, 63, 64], wc_ n ∈ lw_all := List.forall_mem_cons.mpr ⟨cw_48, List.forall_mem_cons.mpr ⟨cw_49, List.forall_mem_cons.mpr ⟨cw_50, List.forall_mem_cons.mpr ⟨cw_52, List.forall_mem_cons.mpr ⟨cw_53, List.forall_mem_cons.mpr ⟨cw_54, List.forall_mem_cons.mpr ⟨cw_55, List.forall_mem_cons.mpr ⟨cw_56, List.forall_mem_cons.mpr ⟨cw_57, List.forall_mem_cons.mpr ⟨cw_58, List.forall_mem_cons.mpr ⟨cw_59, List.forall_mem_cons.mpr ⟨cw_60, List.forall_mem_cons.mpr ⟨cw_61, List.forall_mem_cons.mpr ⟨cw_62, List.forall_mem_cons.mpr ⟨cw_63, List.forall_mem_cons.mpr ⟨cw_64, fun _ h => absurd h List.not_mem_nil⟩⟩⟩⟩⟩⟩⟩⟩⟩⟩⟩⟩⟩⟩⟩⟩
theorem cwl_4 : ∀ n ∈ [65, 66, 67, 68, 69, 70, 71, 72, 73, 74, 75, 76, 77, 78, 79, 80], wc_ n ∈ lw_all := List.forall_mem_cons.mpr ⟨cw_65, List.forall_mem_cons.mpr ⟨cw_66, List.forall_mem_cons.mpr ⟨cw_67, List.forall_mem_cons.mpr ⟨cw_68, List.forall_mem_cons.mpr ⟨cw_69, List.forall_mem_cons.mpr ⟨cw_70, List.forall_mem_cons.mpr ⟨cw_71, List.forall_mem_cons.mpr ⟨cw_72, List.forall_mem_cons.mpr ⟨cw_73, List.forall_mem_cons.mpr ⟨cw_74, List.forall_mem_cons.mpr ⟨cw_75, List.forall_mem_cons.mpr ⟨cw_76, List.forall_mem_cons.mpr ⟨cw_77, List.forall_mem_cons.mpr ⟨cw_78, List.forall_mem_cons.mpr ⟨cw_79, List.forall_mem_cons.mpr ⟨cw_80, fun _ h => absurd h List.not_mem_nil⟩⟩⟩⟩⟩⟩⟩⟩⟩⟩⟩⟩⟩⟩⟩⟩
theorem cwl_5 : ∀ n ∈ [81, 82, 83, 84, 85, 86, 87, 88, 89, 90, 91, 92, 101, 102, 103, 104], wc_ n ∈ lw_all := List.forall_mem_cons.mpr ⟨cw_81, List.forall_mem_cons.mpr ⟨cw_82, List.forall_mem_cons.mpr ⟨cw_83, List.forall_mem_cons.mpr ⟨cw_84, List.forall_mem_cons.mpr ⟨cw_85, List.forall_mem_cons.mpr ⟨cw_86, List.forall_mem_cons.mpr ⟨cw_87, List.forall_mem_cons.mpr ⟨cw_88, List.forall_mem_cons.mpr ⟨cw_89, List.forall_mem_cons.mpr ⟨cw_90, List.forall_mem_cons.mpr ⟨cw_91, List.forall_mem_cons.mpr ⟨cw_92, List.forall_mem_cons.mpr ⟨cw_101, List.forall_mem_cons.mpr ⟨cw_102, List.forall_mem_cons.mpr ⟨cw_103, List.forall_mem_cons.mpr ⟨cw_104, fun _ h => absurd h List.not_mem_nil⟩⟩⟩⟩⟩⟩⟩⟩⟩⟩⟩⟩⟩⟩⟩⟩
theorem cwl_6 : ∀ n ∈ [105, 106, 107, 108, 109, 110, 111, 112, 113, 114, 115, 116, 117, 118, 119, 120], wc_ n ∈ lw_all := List.forall_mem_cons.mpr ⟨cw_105, List.forall_mem_cons.mpr ⟨cw_106, List.forall_mem_cons.mpr ⟨cw_107, List.forall_mem_cons.mpr ⟨cw_108, List.forall_mem_cons.mpr ⟨cw_109, List.forall_mem_cons.mpr ⟨cw_110, List.forall_mem_cons.mpr ⟨cw_111, List.forall_mem_cons.mpr ⟨cw_112, List.forall_mem_cons.mpr ⟨cw_113, List.forall_mem_cons.mpr ⟨cw_114, List.forall_mem_cons.mpr ⟨cw_115, List.forall_mem_cons.mpr ⟨cw_116, List.forall_mem_cons.mpr ⟨cw_117, List.forall_mem_cons.mpr ⟨cw_118, List.forall_mem_cons.mpr ⟨cw_119, List.forall_mem_cons.mpr ⟨cw_120, fun _ h => absurd h List.not_mem_nil⟩⟩⟩⟩⟩⟩⟩⟩⟩⟩⟩⟩⟩⟩⟩⟩
theorem cwl_7 : ∀ n ∈ [121, 122, 123, 124, 125, 126, 127, 128, 129, 130, 131, 132, 133, 134, 135, 136], wc_ n ∈ lw_all := List.forall_mem_cons.mpr ⟨cw_121, List.forall_mem_cons.mpr ⟨cw_122, List.forall_mem_cons.mpr ⟨cw_123, List.forall_mem_cons.mpr ⟨cw_124, List.forall_mem_cons.mpr ⟨cw_125, List.forall_mem_cons.mpr ⟨cw_126, List.forall_mem_cons.mpr ⟨cw_127, List.forall_mem_cons.mpr ⟨cw_128, List.forall_mem_cons.mpr ⟨cw_129, List.forall_mem_cons.mpr ⟨cw_130, List.forall_mem_cons.mpr ⟨cw_131, List.forall_mem_cons.mpr ⟨cw_132, List.forall_mem_cons.mpr ⟨cw_133, List.forall_mem_cons.mpr ⟨cw_134, List.forall_mem_cons.mpr ⟨cw_135, List.forall_mem_cons.mpr ⟨cw_136, fun _ h => absurd h List.not_mem_nil⟩⟩⟩⟩⟩⟩⟩⟩⟩⟩⟩⟩⟩⟩⟩⟩
theorem cwl_8 : ∀ n ∈ [137, 138, 139, 140, 141, 142, 143, 144, 145, 146, 147, 148, 149, 150, 151, 152], wc_ n ∈ lw_all := List.forall_mem_cons.mpr ⟨cw_137, List.forall_mem_cons.mpr ⟨cw_138, List.forall_mem_cons.mpr ⟨cw_139, List.forall_mem_cons.mpr ⟨cw_140, List.forall_mem_cons.mpr ⟨cw_141, List.forall_mem_cons.mpr ⟨cw_142, List.forall_mem_cons.mpr ⟨cw_143, List.forall_mem_cons.mpr ⟨cw_144, List.forall_mem_cons.mpr ⟨cw_145, List.forall_mem_cons.mpr ⟨cw_146, List.forall_mem_cons.mpr ⟨cw_147, List.forall_mem_cons.mpr ⟨cw_148, List.forall_mem_cons.mpr ⟨cw_149, List.forall_mem_cons.mpr ⟨cw_150, List.forall_mem_cons.mpr ⟨cw_151, List.forall_mem_cons.mpr ⟨cw_152, fun _ h => absurd h List.not_mem_nil⟩⟩⟩⟩⟩⟩⟩⟩⟩⟩⟩⟩⟩⟩⟩⟩
theorem cwl_9 : ∀ n ∈ [153, 154, 155, 156, 157, 158, 159, 160, 161, 162, 163, 164, 165, 166, 167, 168], wc_ n ∈ lw_all := List.forall_mem_cons.mpr ⟨cw_153, List.forall_mem_cons.mpr ⟨cw_154, List.forall_mem_cons.mpr ⟨cw_155, List.forall_mem_cons.mpr ⟨cw_156, List.forall_mem_cons.mpr ⟨cw_157, List.forall_mem_cons.mpr ⟨cw_158, List.forall_mem_cons.mpr ⟨cw_159, List.forall_mem_cons.mpr ⟨cw_160, List.forall_mem_cons.mpr ⟨cw_161, List.forall_mem_cons.mpr ⟨cw_162, List.forall_mem_cons.mpr ⟨cw_163, List.forall_mem_cons.mpr ⟨cw_164, List.forall_mem_cons.mpr ⟨cw_165, List.forall_mem_cons.mpr ⟨cw_166, List.forall_mem_cons.mpr ⟨cw_167, List.forall_mem_cons.mpr ⟨cw_168, fun _ h => absurd h List.not_mem_nil⟩⟩⟩⟩⟩⟩⟩⟩⟩⟩⟩⟩⟩⟩⟩⟩
theorem cwl_10 : ∀ n ∈ [169, 170, 171, 172, 173, 174, 175, 176, 177, 178, 179, 180, 191, 192, 193, 194], wc_ n ∈ lw_all := List.forall_mem_cons.mpr ⟨cw_169, List.forall_mem_cons.mpr ⟨cw_170, List.forall_mem_cons.mpr ⟨cw_171, List.forall_mem_cons.mpr ⟨cw_172, List.forall_mem_cons.mpr ⟨cw_173, List.forall_mem_cons.mpr ⟨cw_174, List.forall_mem_cons.mpr ⟨cw_175, List.forall_mem_cons.mpr ⟨cw_176, List.forall_mem_cons.mpr ⟨cw_177, List.forall_mem_cons.mpr ⟨cw_178, List.forall_mem_cons.mpr ⟨cw_179, List.forall_mem_cons.mpr ⟨cw_180, List.forall_mem_cons.mpr ⟨cw_191, List.forall_mem_cons.mpr ⟨cw_192, List.forall_mem_cons.mpr ⟨cw_193, List.forall_mem_cons.mpr ⟨cw_194, fun _ h => absurd h List.not_mem_nil⟩⟩⟩⟩⟩⟩⟩⟩⟩⟩⟩⟩⟩⟩⟩⟩
theorem cwl_11 : ∀ n ∈ [195, 196, 197, 198, 199, 205, 207, 211, 212, 213, 214, 215, 216, 217, 218, 219], wc_ n ∈ lw_all := List.forall_mem_cons.mpr ⟨cw_195, List.forall_mem_cons.mpr ⟨cw_196, List.forall_mem_cons.mpr ⟨cw_197, List.forall_mem_cons.mpr ⟨cw_198, List.forall_mem_cons.mpr ⟨cw_199, List.forall_mem_cons.mpr ⟨cw_205, List.forall_mem_cons.mpr ⟨cw_207, List.forall_mem_cons.mpr ⟨cw_211, List.forall_mem_cons.mpr ⟨cw_212, List.forall_mem_cons.mpr ⟨cw_213, List.forall_mem_cons.mpr ⟨cw_214, List.forall_mem_cons.mpr ⟨cw_215, List.forall_mem_cons.mpr ⟨cw_216, List.forall_mem_cons.mpr ⟨cw_217, List.forall_mem_cons.mpr ⟨cw_218, List.forall_mem_cons.mpr ⟨cw_219, fun _ h => absurd h List.not_mem_nil⟩⟩⟩⟩⟩⟩⟩⟩⟩⟩⟩⟩⟩⟩⟩⟩
theorem cwl_12 : ∀ n ∈ [220, 221, 222, 223, 224, 225, 226, 227, 228, 229, 230, 231, 232, 233, 234, 235], wc_ n ∈ lw_all := List.forall_mem_cons.mpr ⟨cw_220, List.forall_mem_cons.mpr ⟨cw_221, List.forall_mem_cons.mpr ⟨cw_222, List.forall_mem_cons.mpr ⟨cw_223, List.forall_mem_cons.mpr ⟨cw_224, List.forall_mem_cons.mpr ⟨cw_225, List.forall_mem_cons.mpr ⟨cw_226, List.forall_mem_cons.mpr ⟨cw_227, List.forall_mem_cons.mpr ⟨cw_228, List.forall_mem_cons.mpr ⟨cw_229, List.forall_mem_cons.mpr ⟨cw_230, List.forall_mem_cons.mpr ⟨cw_231, List.forall_mem_cons.mpr ⟨cw_232, List.forall_mem_cons.mpr ⟨cw_233, List.forall_mem_cons.mpr ⟨cw_234, List.forall_mem_cons.mpr ⟨cw_235, fun _ h => absurd h List.not_mem_nil⟩⟩⟩⟩⟩⟩⟩⟩⟩⟩⟩⟩⟩⟩⟩⟩
theorem cwl_13 : ∀ n ∈ [236, 237, 238, 239, 240, 241, 242, 243, 244, 245, 246, 247, 248, 249, 250, 251], wc_ n ∈ lw_all := List.forall_mem_cons.mpr ⟨cw_236, List.forall_mem_cons.mpr ⟨cw_237, List.forall_mem_cons.mpr ⟨cw_238, List.forall_mem_cons.mpr ⟨cw_239, List.forall_mem_cons.mpr ⟨cw_240, List.forall_mem_cons.mpr ⟨cw_241, List.forall_mem_cons.mpr ⟨cw_242, List.forall_mem_cons.mpr ⟨cw_243, List.forall_mem_cons.mpr ⟨cw_244, List.forall_mem_cons.mpr ⟨cw_245, List.forall_mem_cons.mpr ⟨cw_246, List.forall_mem_cons.mpr ⟨cw_247, List.forall_mem_cons.mpr ⟨cw_248, List.forall_mem_cons.mpr ⟨cw_249, List.forall_mem_cons.mpr ⟨cw_250, List.forall_mem_cons.mpr ⟨cw_251, fun _ h => absurd h List.not_mem_nil⟩⟩⟩⟩⟩⟩⟩⟩⟩⟩⟩⟩⟩⟩⟩⟩
theorem cwl_14 : ∀ n ∈ [252, 253, 254, 255, 256, 257, 258, 259, 260, 261, 262, 263, 264, 265, 266, 267], wc_ n ∈ lw_all := List.forall_mem_cons.mpr ⟨cw_252, List.forall_mem_cons.mpr ⟨cw_253, List.forall_mem_cons.mpr ⟨cw_254, List.forall_mem_cons.mpr ⟨cw_255, List.forall_mem_cons.mpr ⟨cw_256, List.forall_mem_cons.mpr ⟨cw_257, List.forall_mem_cons.mpr ⟨cw_258, List.forall_mem_cons.mpr ⟨cw_259, List.forall_mem_cons.mpr ⟨cw_260, List.forall_mem_cons.mpr ⟨cw_261, List.forall_mem_cons.mpr ⟨cw_262, List.forall_mem_cons.mpr ⟨cw_263, List.forall_mem_cons.mpr ⟨cw_264, List.forall_mem_cons.mpr ⟨cw_265, List.forall_mem_cons.mpr ⟨cw_266, List.forall_mem_cons.mpr ⟨cw_267, fun _ h => absurd h List.not_mem_nil⟩⟩⟩⟩⟩⟩⟩⟩⟩⟩⟩⟩⟩⟩⟩⟩
theorem cwl_15 : ∀ n ∈ [268, 269, 270, 271, 272, 273, 274, 275, 276, 277, 278, 279, 280, 281, 282, 283], wc_ n ∈ lw_all := List.forall_mem_cons.mpr ⟨cw_268, List.forall_mem_cons.mpr ⟨cw_269, List.forall_mem_cons.mpr ⟨cw_270, List.forall_mem_cons.mpr ⟨cw_271, List.forall_mem_cons.mpr ⟨cw_272, List.forall_mem_cons.mpr ⟨cw_273, List.forall_mem_cons.mpr ⟨cw_274, List.forall_mem_cons.mpr ⟨cw_275, List.forall_mem_cons.mpr ⟨cw_276, List.forall_mem_cons.mpr ⟨cw_277, List.forall_mem_cons.mpr ⟨cw_278, List.forall_mem_cons.mpr ⟨cw_279, List.forall_mem_cons.mpr ⟨cw_280, List.forall_mem_cons.mpr ⟨cw_281, List.forall_mem_cons.mpr ⟨cw_282, List.forall_mem_cons.mpr ⟨cw_283, fun _ h => absurd h List.not_mem_nil⟩⟩⟩⟩⟩⟩⟩⟩⟩⟩⟩⟩⟩⟩⟩⟩
theorem cwl_16 : ∀ n ∈ [284, 285, 286, 287, 288, 289, 290, 291, 292, 293, 294, 295, 296, 297, 298, 299], wc_ n ∈ lw_all := List.forall_mem_cons.mpr ⟨cw_284, List.forall_mem_cons.mpr ⟨cw_285, List.forall_mem_cons.mpr ⟨cw_286, List.forall_mem_cons.mpr ⟨cw_287, List.forall_mem_cons.mpr ⟨cw_288, List.forall_mem_cons.mpr ⟨cw_289, List.forall_mem_cons.mpr ⟨cw_290, List.forall_mem_cons.mpr ⟨cw_291, List.forall_mem_cons.mpr ⟨cw_292, List.forall_mem_cons.mpr ⟨cw_293, List.forall_mem_cons.mpr ⟨cw_294, List.forall_mem_cons.mpr ⟨cw_295, List.forall_mem_cons.mpr ⟨cw_296, List.forall_mem_cons.mpr ⟨cw_297, List.forall_mem_cons.mpr ⟨cw_298, List.forall_mem_cons.mpr ⟨cw_299, fun _ h => absurd h List.not_mem_nil⟩⟩⟩⟩⟩⟩⟩⟩⟩⟩⟩⟩⟩⟩⟩⟩
theorem cwl_17 : ∀ n ∈ [300, 301, 302, 303, 304, 305, 306, 307, 308, 309, 310, 311, 312, 313, 314, 315], wc_ n ∈ lw_all := List.forall_mem_cons.mpr ⟨cw_300, List.forall_mem_cons.mpr ⟨cw_301, List.forall_mem_cons.mpr ⟨cw_302, List.forall_mem_cons.mpr ⟨cw_303, List.forall_mem_cons.mpr ⟨cw_304, List.forall_mem_cons.mpr ⟨cw_305, List.forall_mem_cons.mpr ⟨cw_306, List.forall_mem_cons.mpr ⟨cw_307, List.forall_mem_cons.mpr ⟨cw_308, List.forall_mem_cons.mpr ⟨cw_309, List.forall_mem_cons.mpr ⟨cw_310, List.forall_mem_cons.mpr ⟨cw_311, List.forall_mem_cons.mpr ⟨cw_312, List.forall_mem_cons.mpr ⟨cw_313, List.forall_mem_cons.mpr ⟨cw_314, List.forall_mem_cons.mpr ⟨cw_315, fun _ h => absurd h List.not_mem_nil⟩⟩⟩⟩⟩⟩⟩⟩⟩⟩⟩⟩⟩⟩⟩⟩
theorem cwl_18 : ∀ n ∈ [316, 317, 318, 319, 320, 321, 322, 323, 324, 325, 326, 327, 328, 329, 330, 331], wc_ n ∈ lw_all := List.forall_mem_cons.mpr ⟨cw_316, List.forall_mem_cons.mpr ⟨cw_317, List.forall_mem_cons.mpr ⟨cw_318, List.forall_mem_cons.mpr ⟨cw_319, List.forall_mem_cons.mpr ⟨cw_320, List.forall_mem_cons.mpr ⟨cw_321, List.forall_mem_cons.mpr ⟨cw_322, List.forall_mem_cons.mpr ⟨cw_323, List.forall_mem_cons.mpr ⟨cw_324, List.forall_mem_cons.mpr ⟨cw_325, List.forall_mem_cons.mpr ⟨cw_326, List.forall_mem_cons.mpr ⟨cw_327, List.forall_mem_cons.mpr ⟨cw_328, List.forall_mem_cons.mpr ⟨cw_329, List.forall_mem_cons.mpr ⟨cw_330, List.forall_mem_cons.mpr ⟨cw_331, fun _ h => absurd h List.not_mem_nil⟩⟩⟩⟩⟩⟩⟩⟩⟩⟩⟩⟩⟩⟩⟩⟩
theorem cwl_19 : ∀ n ∈ [332, 333, 334, 335, 336, 337, 338, 339, 340, 341, 342, 343, 344, 345, 346, 347], wc_ n ∈ lw_all := List.forall_mem_cons.mpr ⟨cw_332, List.forall_mem_cons.mpr ⟨cw_333, List.forall_mem_cons.mpr ⟨cw_334, List.forall_mem_cons.mpr ⟨cw_335, List.forall_mem_cons.mpr ⟨cw_336, List.forall_mem_cons.mpr ⟨cw_337, List.forall_mem_cons.mpr ⟨cw_338, List.forall_mem_cons.mpr ⟨cw_339, List.forall_mem_cons.mpr ⟨cw_340, List.forall_mem_cons.mpr ⟨cw_341, List.forall_mem_cons.mpr ⟨cw_342, List.forall_mem_cons.mpr ⟨cw_343, List.forall_mem_cons.mpr ⟨cw_344, List.forall_mem_cons.mpr ⟨cw_345, List.forall_mem_cons.mpr ⟨cw_346, List.forall_mem_cons.mpr ⟨cw_347, fun _ h => absurd h List.not_mem_nil⟩⟩⟩⟩⟩⟩⟩⟩⟩⟩⟩⟩⟩⟩⟩⟩
theorem cwl_20 : ∀ n ∈ [348, 349, 350, 351, 352, 353, 354, 355, 356, 357, 358, 359, 360, 361, 362, 363], wc_ n ∈ lw_all := List.forall_mem_cons.mpr ⟨cw_348, List.forall_mem_cons.mpr ⟨cw_349, List.forall_mem_cons.mpr ⟨cw_350, List.forall_mem_cons.mpr ⟨cw_351, List.forall_mem_cons.mpr ⟨cw_352, List.forall_mem_cons.mpr ⟨cw_353, List.forall_mem_cons.mpr ⟨cw_354, List.forall_mem_cons.mpr ⟨cw_355, List.forall_mem_cons.mpr ⟨cw_356, List.forall_mem_cons.mpr ⟨cw_357, List.forall_mem_cons.mpr ⟨cw_358, List.forall_mem_cons.mpr ⟨cw_359, List.forall_mem_cons.mpr ⟨cw_360, List.forall_mem_cons.mpr ⟨cw_361, List.forall_mem_cons.mpr ⟨cw_362, List.forall_mem_cons.mpr ⟨cw_363, fun _ h => absurd h List.not_mem_nil⟩⟩⟩⟩⟩⟩⟩⟩⟩⟩⟩⟩⟩⟩⟩⟩
theorem cwl_21 : ∀ n ∈ [364, 365, 366, 367, 368, 369, 370, 371, 372, 373, 374, 375, 376, 377, 378, 379], wc_ n ∈ lw_all := List.forall_mem_cons.mpr ⟨cw_364, List.forall_mem_cons.mpr ⟨cw_365, List.forall_mem_cons.mpr ⟨cw_366, List.forall_mem_cons.mpr ⟨cw_367, List.forall_mem_cons.mpr ⟨cw_368, List.forall_mem_cons.mpr ⟨cw_369, List.forall_mem_cons.mpr ⟨cw_370, List.forall_mem_cons.mpr ⟨cw_371, List.forall_mem_cons.mpr ⟨cw_372, List.forall_mem_cons.mpr ⟨cw_373, List.forall_mem_cons.mpr ⟨cw_374, List.forall_mem_cons.mpr ⟨cw_375, List.forall_mem_cons.mpr ⟨cw_376, List.forall_mem_cons.mpr ⟨cw_377, List.forall_mem_cons.mpr ⟨cw_378, List.forall_mem_cons.mpr ⟨cw_379, fun _ h => absurd h List.not_mem_nil⟩⟩⟩⟩⟩⟩⟩⟩⟩⟩⟩⟩⟩⟩⟩⟩
theorem cwl_22 : ∀ n ∈ [380, 381, 382, 383, 384, 385, 386, 387, 388, 389, 390, 391, 392, 393, 394, 395], wc_ n ∈ lw_all := List.forall_mem_cons.mpr ⟨cw_380, List.forall_mem_cons.mpr ⟨cw_381, List.forall_mem_cons.mpr ⟨cw_382, List.forall_mem_cons.mpr ⟨cw_383, List.forall_mem_cons.mpr ⟨cw_384, List.forall_mem_cons.mpr ⟨cw_385, List.forall_mem_cons.mpr ⟨cw_386, List.forall_mem_cons.mpr ⟨cw_387, List.forall_mem_cons.mpr ⟨cw_388, List.forall_mem_cons.mpr ⟨cw_389, List.forall_mem_cons.mpr ⟨cw_390, List.forall_mem_cons.mpr ⟨cw_391, List.forall_mem_cons.mpr ⟨cw_392, List.forall_mem_cons.mpr ⟨cw_393, List.forall_mem_cons.mpr ⟨cw_394, List.forall_mem_cons.mpr ⟨cw_395, fun _ h => absurd h List.not_mem_nil⟩⟩⟩⟩⟩⟩⟩⟩⟩⟩⟩⟩⟩⟩⟩⟩
theorem cwl_23 : ∀ n ∈ [396, 397, 398, 399, 400, 401, 402, 403, 404, 405, 406, 407, 408, 409, 410, 411], wc_ n ∈ lw_all := List.forall_mem_cons.mpr ⟨cw_396, List.forall_mem_cons.mpr ⟨cw_397, List.forall_mem_cons.mpr ⟨cw_398, List.forall_mem_cons.mpr ⟨cw_399, List.forall_mem_cons.mpr ⟨cw_400, List.forall_mem_cons.mpr ⟨cw_401, List.forall_mem_cons.mpr ⟨cw_402, List.forall_mem_cons.mpr ⟨cw_403, List.forall_mem_cons.mpr ⟨cw_404, List.forall_mem_cons.mpr ⟨cw_405, List.forall_mem_cons.mpr ⟨cw_406, List.forall_mem_cons.mpr ⟨cw_407, List.forall_mem_cons.mpr ⟨cw_408, List.forall_mem_cons.mpr ⟨cw_409, List.forall_mem_cons.mpr ⟨cw_410, List.forall_mem_cons.mpr ⟨cw_411, fun _ h => absurd h List.not_mem_nil⟩⟩⟩⟩⟩⟩⟩⟩⟩⟩⟩⟩⟩⟩⟩⟩
theorem cwl_24 : ∀ n ∈ [412, 413, 420, 421, 422, 423, 424, 425, 426, 427, 430, 431, 432, 433, 436, 437], wc_ n ∈ lw_all := List.forall_mem_cons.mpr ⟨cw_412, List.forall_mem_cons.mpr ⟨cw_413, List.forall_mem_cons.mpr ⟨cw_420, List.forall_mem_cons.mpr ⟨cw_421, List.forall_mem_cons.mpr ⟨cw_422, List.forall_mem_cons.mpr ⟨cw_423, List.forall_mem_cons.mpr ⟨cw_424, List.forall_mem_cons.mpr ⟨cw_425, List.forall_mem_cons.mpr ⟨cw_426, List.forall_mem_cons.mpr ⟨cw_427, List.forall_mem_cons.mpr ⟨cw_430, List.forall_mem_cons.mpr ⟨cw_431, List.forall_mem_cons.mpr ⟨cw_432, List.forall_mem_cons.mpr ⟨cw_433, List.forall_mem_cons.mpr ⟨cw_436, List.forall_mem_cons.mpr ⟨cw_437, fun _ h => absurd h List.not_mem_nil⟩⟩⟩⟩⟩⟩⟩⟩⟩⟩⟩⟩⟩⟩⟩⟩
theorem cwl0_in : ∀ n ∈ cwl0, wc_ n ∈ lw_all := by
  show ∀ n ∈ [0, 1, 2, 3, 4, 5, 6, 7, 8, 9, 10, 11, 12, 13, 14, 15] ++ ([16, 17, 18, 19, 20, 21, 22, 23, 24, 25, 26, 27, 28, 29, 30, 31] ++ ([32, 33, 34, 35, 36, 37, 38, 39, 40, 41, 42, 43, 44, 45, 46, 47] ++ ([48, 49, 50, 52, 53, 54, 55, 56, 57, 58, 59, 60, 61, 62, 63, 64] ++ ([65, 66, 67, 68, 69, 70, 71, 72, 73, 74, 75, 76, 77, 78, 79, 80] ++ ([81, 82, 83, 84, 85, 86, 87, 88, 89, 90, 91, 92, 101, 102, 103, 104] ++ ([105, 106, 107, 108, 109, 110, 111, 112, 113, 114, 115, 116, 117, 118, 119, 120] ++ ([121, 122, 123, 124, 125, 126, 127, 128, 129, 130, 131, 132, 133, 134, 135, 136] ++ ([137, 138, 139, 140, 141, 142, 143, 144, 145, 146, 147, 148, 149, 150, 151, 152] ++ ([153, 154, 155, 156, 157, 158, 159, 160, 161, 162, 163, 164, 165, 166, 167, 168] ++ ([169, 170, 171, 172, 173, 174, 175, 176, 177, 178, 179, 180, 191, 192, 193, 194] ++ ([195, 196, 197, 198, 199, 205, 207, 211, 212, 213, 214, 215, 216, 217, 218, 219] ++ ([220, 221, 222, 223, 224, 225, 226, 227, 228, 229, 230, 231, 232, 233, 234, 235] ++ ([236, 237, 238, 239, 240, 241, 242, 243, 244, 245, 246, 247, 248, 249, 250, 251] ++ ([252, 253, 254, 255, 256, 257, 258, 259, 260, 261, 262, 263, 264, 265, 266, 267] ++ ([268, 269, 270, 271, 272, 273, 274, 275, 276, 277, 278, 279, 280, 281, 282, 283] ++ ([284, 285, 286, 287, 288, 289, 290, 291, 292, 293, 294, 295, 296, 297, 298, 299] ++ ([300, 301, 302, 303, 304, 305, 306, 307, 308, 309, 310, 311, 312, 313, 314, 315] ++ ([316, 317, 318, 319, 320, 321, 322, 323, 324, 325, 326, 327, 328, 329, 330, 331] ++ ([332, 333, 334, 335, 336, 337, 338, 339, 340, 341, 342, 343, 344, 345, 346, 347] ++ ([348, 349, 350, 351, 352, 353, 354, 355, 356, 357, 358, 359, 360, 361, 362, 363] ++ ([364, 365, 366, 367, 368, 369, 370, 371, 372, 373, 374, 375, 376, 377, 378, 379] ++ ([380, 381, 382, 383, 384, 385, 386, 387, 388, 389, 390, 391, 392, 393, 394, 395] ++ ([396, 397, 398, 399, 400, 401, 402, 403, 404, 405, 406, 407, 408, 409, 410, 411] ++ ([412, 413, 420, 421, 422, 423, 424, 425, 426, 427, 430, 431, 432, 433, 436, 437])))))))))))))))))))))))), wc_ n ∈ lw_all
  exact List.forall_mem_append.mpr ⟨cwl_0, List.forall_mem_append.mpr ⟨cwl_1, List.forall_mem_append.mpr ⟨cwl_2, List.forall_mem_append.mpr ⟨cwl_3, List.forall_mem_append.mpr ⟨cwl_4, List.forall_mem_append.mpr ⟨cwl_5, List.forall_mem_append.mpr ⟨cwl_6, List.forall_mem_append.mpr ⟨cwl_7, List.forall_mem_append.mpr ⟨cwl_8, List.forall_mem_append.mpr ⟨cwl_9, List.forall_mem_append.mpr ⟨cwl_10, List.forall_mem_append.mpr ⟨cwl_11, List.forall_mem_append.mpr ⟨cwl_12, List.forall_mem_append.mpr ⟨cwl_13, List.forall_mem_append.mpr ⟨cwl_14, List.forall_mem_append.mpr ⟨cwl_15, List.forall_mem_append.mpr ⟨cwl_16, List.forall_mem_append.mpr ⟨cwl_17, List.forall_mem_append.mpr ⟨cwl_18, List.forall_mem_append.mpr ⟨cwl_19, List.forall_mem_append.mpr ⟨cwl_20, List.forall_mem_append.mpr ⟨cwl_21, List.forall_mem_append.mpr ⟨cwl_22, List.forall_mem_append.mpr ⟨cwl_23, cwl_24⟩⟩⟩⟩⟩⟩⟩⟩⟩⟩⟩⟩⟩⟩⟩⟩⟩⟩⟩⟩⟩⟩⟩⟩
def iml0 : List (Nat × Nat) := [(336, 0), (341, 1), (349, 3), (353, 4), (357, 5), (364, 6), (368, 7), (372, 8), (379, 10), (383, 11), (387, 12), (391, 13), (395, 14), (400, 15), (404, 16), (408, 17), (412, 18), (416, 19), (420, 20), (424, 21), (428, 22), (432, 23), (436, 24), (440, 25), (444, 26), (447, 205), (452, 27), (461, 28), (469, 29), (473, 30), (477, 31), (481, 32), (484, 33), (488, 34), (493, 35), (497, 36), (500, 37), (505, 38), (509, 39), (513, 40), (517, 41), (521, 42), (525, 43), (529, 44), (533, 45), (537, 46), (540, 47), (544, 48), (549, 49), (552, 50), (1280, 52), (1285, 53), (1288, 54), (1292, 101), (1296, 191), (1301, 192), (1305, 193), (1309, 194), (1316, 196), (1323, 420), (1327, 421), (1333, 422), (1337, 423), (1402, 425), (1423, 198), (1427, 427), (1433, 102), (1437, 103), (1441, 104), (1445, 105), (1449, 106), (1453, 107), (1457, 108), (1461, 109), (1465, 110), (1469, 111), (1473, 112), (1477, 113), (1480, 199), (1485, 114), (1489, 115), (1493, 116), (1497, 117), (1501, 118), (1505, 119), (1509, 120), (1513, 121), (1517, 122), (1521, 123), (1525, 124), (1529, 125), (1533, 126), (1537, 127), (1542, 128), (1546, 129), (1550, 130), (1554, 131), (1558, 132), (1562, 133), (1566, 134), (1570, 135), (1574, 136), (1578, 137), (1582, 138), (1585, 207), (1590, 139), (1594, 140), (1598, 141), (1602, 142), (1606, 143), (1610, 144), (1614, 145), (1618, 146), (1622, 147), (1626, 148), (1630, 149), (1634, 150), (1638, 151), (1642, 152), (1646, 153), (1650, 154), (1654, 155), (1658, 156), (1662, 157), (1666, 158), (1670, 159), (1675, 160), (1679, 161), (1683, 162), (1687, 163), (1691, 164), (1695, 165), (1699, 166), (1703, 167), (1707, 168), (1711, 169), (1715, 170), (1719, 171), (1723, 172), (1727, 173), (1731, 174), (1735, 175), (1739, 176), (1743, 177), (1747, 178), (1751, 179), (1755, 180), (1758, 55), (1762, 56), (1766, 57), (1770, 58), (1775, 59), (1780, 60), (1783, 61), (1787, 62), (1791, 63), (1795, 64), (1799, 65), (1803, 66), (1807, 67), (1811, 68), (1816, 69), (1819, 70), (1823, 71), (1827, 72), (1833, 73), (1837, 74), (1841, 75), (1845, 76), (1849, 77), (1853, 78), (1857, 79), (1862, 80), (1866, 81), (1870, 82), (1874, 83), (1878, 84), (1882, 85), (1886, 86), (1890, 87), (1894, 88), (1898, 89), (1902, 90), (1906, 91), (1909, 92), (2505, 214), (2510, 215), (2513, 216), (2518, 217), (2522, 218), (2526, 219), (2530, 220), (2534, 221), (2538, 222), (2542, 223), (2546, 224), (2550, 225), (2556, 226), (2560, 227), (2564, 228), (2568, 229), (2572, 230), (2576, 231), (2580, 232), (2584, 233), (2588, 234), (2592, 235), (2596, 236), (2600, 237), (2604, 238), (2608, 239), (2612, 240), (2616, 241), (2620, 242), (2624, 243), (2628, 244), (2632, 245), (2636, 246), (2640, 247), (2644, 248), (2648, 249), (2652, 250), (2656, 251), (2660, 252), (2664, 253), (2668, 254), (2672, 255), (2676, 256), (2680, 257), (2684, 258), (2688, 259), (2692, 260), (2696, 261), (2701, 262), (2705, 263), (2709, 264), (2713, 265), (2717, 266), (2721, 267), (2725, 268), (2729, 269), (2733, 270), (2737, 271), (2741, 272), (2745, 273), (2749, 274), (2753, 275), (2757, 276), (2761, 277), (2765, 278), (2769, 279), (2773, 280), (2777, 281), (2781, 282), (2785, 283), (2789, 284), (2793, 285), (2797, 286), (2804, 288), (2808, 289), (2812, 290), (2816, 291), (2820, 292), (2824, 293), (2828, 294), (2832, 295), (2836, 296), (2840, 297), (2844, 298), (2848, 299), (2854, 300), (2858, 301), (2862, 302), (2866, 303), (2870, 304), (2874, 305), (2878, 306), (2882, 307), (2886, 308), (2890, 309), (2894, 310), (2898, 311), (2902, 312), (2906, 313), (2910, 314), (2914, 315), (2919, 316), (2923, 317), (2927, 318), (2930, 319), (2934, 320), (2938, 321), (2943, 322), (2950, 324), (2953, 325), (2958, 326), (2965, 328), (2969, 329), (2973, 330), (2977, 331), (2981, 332), (2985, 333), (2989, 334), (2993, 335), (2997, 336), (3001, 337), (3005, 338), (3009, 339), (3013, 340), (3017, 341), (3021, 342), (3025, 343), (3032, 345), (3036, 346), (3040, 347), (3044, 348), (3048, 349), (3052, 350), (3056, 351), (3060, 352), (3064, 353), (3070, 354), (3074, 355), (3078, 356), (3082, 357), (3086, 358), (3090, 359), (3094, 360), (3099, 361), (3102, 362), (3106, 363), (3111, 364), (3115, 365), (3118, 366), (3123, 367), (3127, 368), (3131, 369), (3136, 370), (3139, 371), (3143, 372), (3147, 373), (3151, 374), (3155, 375), (3159, 376), (3163, 377), (3168, 378), (3171, 379), (3175, 380), (3180, 381), (3184, 382), (3188, 383), (3192, 384), (3196, 385), (3200, 386), (3204, 387), (3208, 388), (3212, 389), (3216, 390), (3220, 391), (3223, 392), (3227, 393), (3232, 394), (3236, 395), (3239, 396), (3243, 397), (3248, 398), (3252, 399), (3256, 400), (3260, 401), (3264, 402), (3268, 403), (3272, 404), (3276, 405), (3280, 406), (3284, 407), (3288, 408), (3292, 409), (3296, 410), (3300, 411), (3304, 412), (3307, 413)]
theorem iml0_ok : sk_ ((gaps_ 0 (iml0.map (fun q => q.1))).zip (iml0.map (fun q => wi_ q.2))) lw_tbl = true := by decide +kernel
theorem iml0_good : iml0.all (fun q => goodWord (wi_ q.2)) = true := by decide +kernel
theorem iml0_in {p n : Nat} (h : (p, n) ∈ iml0) : wi_ n ∈ lw_all := wd_mem iml0_ok iml0_good h
def sel0 : List (Nat × Nat) := [(0, 1), (1, 3), (2, 4), (3, 5), (4, 6), (5, 7), (6, 8), (7, 10), (8, 11), (9, 12), (10, 13), (11, 14), (12, 15), (13, 16), (14, 17), (15, 18), (16, 19), (17, 20), (18, 21), (19, 22), (20, 23), (21, 24), (22, 25), (23, 26), (24, 27), (25, 28), (26, 29), (27, 30), (28, 31), (29, 32), (30, 35), (31, 36), (32, 38), (33, 39), (34, 40), (35, 41), (36, 42), (37, 43), (38, 44), (39, 45), (40, 46), (41, 49), (43, 53), (44, 192), (45, 193), (46, 194), (47, 196), (48, 198), (49, 102), (50, 103), (51, 104), (52, 105), (53, 106), (54, 107), (55, 108), (56, 109), (57, 110), (58, 111), (59, 112), (60, 113), (61, 114), (62, 115), (63, 116), (64, 117), (65, 118), (66, 119), (67, 120), (68, 121), (69, 122), (70, 123), (71, 124), (72, 125), (73, 126), (74, 127), (75, 128), (76, 129), (77, 130), (78, 131), (79, 132), (80, 133), (81, 134), (82, 135), (83, 136), (84, 137), (85, 138), (86, 139), (87, 140), (88, 141), (89, 142), (90, 143), (91, 144), (92, 145), (93, 146), (94, 147), (95, 148), (96, 149), (97, 150), (98, 151), (99, 152), (100, 153), (101, 154), (102, 155), (103, 156), (104, 157), (105, 158), (106, 159), (107, 160), (108, 161), (109, 162), (110, 163), (111, 164), (112, 165), (113, 166), (114, 167), (115, 168), (116, 169), (117, 170), (118, 171), (119, 172), (120, 173), (121, 174), (122, 175), (123, 176), (124, 177), (125, 178), (126, 179), (127, 180), (128, 60), (129, 69), (130, 73), (131, 74), (132, 75), (133, 76), (134, 77), (135, 78), (136, 79), (137, 80), (138, 81), (139, 82), (140, 83), (141, 84), (142, 85), (143, 86), (144, 87), (145, 88), (146, 89), (147, 90), (148, 91), (149, 215), (150, 217), (151, 218), (152, 219), (153, 220), (154, 221), (155, 222), (156, 223), (157, 224), (158, 225), (159, 226), (160, 227), (161, 228), (162, 229), (163, 230), (164, 231), (165, 232), (166, 233), (167, 234), (168, 235), (169, 236), (170, 237), (171, 238), (172, 239), (173, 240), (174, 241), (175, 242), (176, 243), (177, 244), (178, 245), (179, 246), (180, 247), (181, 248), (182, 249), (183, 250), (184, 251), (185, 252), (186, 253), (187, 254), (188, 255), (189, 256), (190, 257), (191, 258), (192, 259), (193, 260), (194, 261), (195, 262), (196, 263), (197, 264), (198, 265), (199, 266), (200, 267), (201, 268), (202, 269), (203, 270), (204, 271), (205, 272), (206, 273), (207, 274), (208, 275), (209, 276), (210, 277), (211, 278), (212, 279), (213, 280), (214, 281), (215, 282), (216, 283), (217, 284), (218, 285), (219, 286), (220, 288), (221, 289), (222, 290), (223, 291), (224, 292), (225, 293), (226, 294), (227, 295), (228, 296), (229, 297), (230, 298), (231, 299), (232, 300), (233, 301), (234, 302), (235, 303), (236, 304), (237, 305), (238, 306), (239, 307), (240, 308), (241, 309), (242, 310), (243, 311), (244, 312), (245, 313), (246, 314), (247, 315), (248, 316), (249, 317), (250, 318), (251, 322), (252, 324), (253, 326), (254, 328), (255, 329), (256, 330), (257, 331), (258, 332), (259, 333), (260, 334), (261, 335), (262, 336), (263, 337), (264, 338), (265, 339), (266, 340), (267, 341), (268, 342), (269, 343), (270, 345), (271, 346), (272, 347), (273, 348), (274, 349), (275, 350), (276, 351), (277, 352), (278, 353), (279, 354), (280, 355), (281, 356), (282, 357), (283, 358), (284, 359), (285, 360), (286, 361), (287, 364), (288, 365), (289, 370), (290, 378), (291, 381), (292, 382), (293, 383), (294, 384), (295, 385), (296, 386), (297, 387), (298, 388), (299, 389), (300, 390), (301, 391), (302, 394), (303, 395), (304, 398), (305, 399), (306, 400), (307, 401), (308, 402), (309, 403), (310, 404), (311, 405), (312, 406), (313, 407), (314, 408), (315, 409), (316, 410), (317, 411), (318, 412), (337, 0), (448, 205), (485, 33), (489, 34), (501, 37), (541, 47), (545, 48), (553, 50), (1281, 52), (1289, 54), (1293, 101), (1297, 191), (1324, 420), (1328, 421), (1334, 422), (1338, 423), (1403, 425), (1428, 427), (1481, 199), (1586, 207), (1759, 55), (1763, 56), (1767, 57), (1771, 58), (1776, 59), (1784, 61), (1788, 62), (1792, 63), (1796, 64), (1800, 65), (1804, 66), (1808, 67), (1812, 68), (1820, 70), (1824, 71), (1828, 72), (1910, 92), (2506, 214), (2514, 216), (2931, 319), (2935, 320), (2939, 321), (2954, 325), (3103, 362), (3107, 363), (3119, 366), (3124, 367), (3128, 368), (3132, 369), (3140, 371), (3144, 372), (3148, 373), (3152, 374), (3156, 375), (3160, 376), (3164, 377), (3172, 379), (3176, 380), (3224, 392), (3228, 393), (3240, 396), (3244, 397), (3308, 413)]
theorem sel0_ok : sk_ ((gaps_ 0 (sel0.map (fun q => q.1))).zip (sel0.map (fun q => we_ q.2))) lw_tbl = true := by decide +kernel
theorem sel0_good : sel0.all (fun q => goodWord (we_ q.2)) = true := by decide +kernel
theorem sel0_in {p n : Nat} (h : (p, n) ∈ sel0) : we_ n ∈ lw_all := wd_mem sel0_ok sel0_good h
def stl0 : List (Nat × Nat) := [(345, 2), (375, 9), (1312, 195), (1319, 197), (1342, 430), (1345, 431), (1350, 432), (1368, 424), (1373, 436), (1406, 433), (1409, 426), (1412, 437), (1924, 211), (1927, 212), (1930, 213), (2800, 287), (2946, 323), (2961, 327), (3028, 344)]
theorem stl0_ok : sk_ ((gaps_ 0 (stl0.map (fun q => q.1))).zip (stl0.map (fun q => ws0_ q.2))) lw_tbl = true := by decide +kernel
theorem stl0_good : stl0.all (fun q => goodWord (ws0_ q.2)) = true := by decide +kernel
theorem stl0_in {p n : Nat} (h : (p, n) ∈ stl0) : ws0_ n ∈ lw_all := wd_mem stl0_ok stl0_good h
def ini0 : List (Nat × Nat) := [(319, 10), (320, 0), (321, 1), (322, 2), (326, 5), (327, 3), (328, 4), (329, 6), (330, 7), (331, 8), (333, 9)]
theorem ini0_ok : sk_ ((gaps_ 0 (ini0.map (fun q => q.1))).zip (ini0.map (fun q => wn_ q.2))) lw_tbl = true := by decide +kernel
theorem ini0_good : ini0.all (fun q => goodWord (wn_ q.2)) = true := by decide +kernel
theorem ini0_in {p n : Nat} (h : (p, n) ∈ ini0) : wn_ n ∈ lw_all := wd_mem ini0_ok ini0_good h
def okm_ (n : Nat) : Bool := cwl0.contains n && ini0.any (fun q => q.2 == (me0 n).2.2.2.2.2.2) && decide ((me0 n).1.cls = cn1 (me0 n).2.2.2.2.2.2) && (if (me0 n).2.2.2.2.2.1 = 1 then stl0.any (fun q => q.2 == n) else iml0.any (fun q => q.2 == n) && sel0.any (fun q => q.2 == n)) && decide ((pg0 n).2.1 ≤ 30) && _root_.Jvm.plainName (me0 n).1.cls
def mids0 : List Nat := [0, 1, 2, 3, 4, 5, 6, 7, 8, 9, 10, 11, 12, 13, 14, 15, 16, 17, 18, 19, 20, 21, 22, 23, 24, 25, 26, 27, 28, 29, 30, 31, 32, 33, 34, 35, 36, 37, 38, 39, 40, 41, 42, 43, 44, 45, 46, 47, 48, 49, 50, 52, 53, 54, 55, 56, 57, 58, 59, 60, 61, 62, 63, 64, 65, 66, 67, 68, 69, 70, 71, 72, 73, 74, 75, 76, 77, 78, 79, 80, 81, 82, 83, 84, 85, 86, 87, 88, 89, 90, 91, 92, 101, 102, 103, 104, 105, 106, 107, 108, 109, 110, 111, 112, 113, 114, 115, 116, 117, 118, 119, 120, 121, 122, 123, 124, 125, 126, 127, 128, 129, 130, 131, 132, 133, 134, 135, 136, 137, 138, 139, 140, 141, 142, 143, 144, 145, 146, 147, 148, 149, 150, 151, 152, 153, 154, 155, 156, 157, 158, 159, 160, 161, 162, 163, 164, 165, 166, 167, 168, 169, 170, 171, 172, 173, 174, 175, 176, 177, 178, 179, 180, 191, 192, 193, 194, 195, 196, 197, 198, 199, 205, 207, 211, 212, 213, 214, 215, 216, 217, 218, 219, 220, 221, 222, 223, 224, 225, 226, 227, 228, 229, 230, 231, 232, 233, 234, 235, 236, 237, 238, 239, 240, 241, 242, 243, 244, 245, 246, 247, 248, 249, 250, 251, 252, 253, 254, 255, 256, 257, 258, 259, 260, 261, 262, 263, 264, 265, 266, 267, 268, 269, 270, 271, 272, 273, 274, 275, 276, 277, 278, 279, 280, 281, 282, 283, 284, 285, 286, 287, 288, 289, 290, 291, 292, 293, 294, 295, 296, 297, 298, 299, 300, 301, 302, 303, 304, 305, 306, 307, 308, 309, 310, 311, 312, 313, 314, 315, 316, 317, 318, 319, 320, 321, 322, 323, 324, 325, 326, 327, 328, 329, 330, 331, 332, 333, 334, 335, 336, 337, 338, 339, 340, 341, 342, 343, 344, 345, 346, 347, 348, 349, 350, 351, 352, 353, 354, 355, 356, 357, 358, 359, 360, 361, 362, 363, 364, 365, 366, 367, 368, 369, 370, 371, 372, 373, 374, 375, 376, 377, 378, 379, 380, 381, 382, 383, 384, 385, 386, 387, 388, 389, 390, 391, 392, 393, 394, 395, 396, 397, 398, 399, 400, 401, 402, 403, 404, 405, 406, 407, 408, 409, 410, 411, 412, 413, 420, 421, 422, 423, 424, 425, 426, 427, 430, 431, 432, 433, 436, 437]
theorem okm0 : mids0.all okm_ = true := by decide +kernel
