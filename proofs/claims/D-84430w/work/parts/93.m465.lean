section M465_lc
/-! the check of the law's code -/
set_option maxRecDepth 100000
theorem lwb_0 : ((k_450.drop 0).take 30).all (fun q => okb_ 10 code q || nox_ q.2.1) = true := by decide +kernel
theorem lwb_1 : ((k_450.drop 30).take 30).all (fun q => okb_ 10 code q || nox_ q.2.1) = true := by decide +kernel
theorem lwb_2 : ((k_450.drop 60).take 30).all (fun q => okb_ 10 code q || nox_ q.2.1) = true := by decide +kernel
theorem lwb_3 : ((k_450.drop 90).take 30).all (fun q => okb_ 10 code q || nox_ q.2.1) = true := by decide +kernel
theorem lwb_4 : ((k_450.drop 120).take 30).all (fun q => okb_ 10 code q || nox_ q.2.1) = true := by decide +kernel
theorem lwb_5 : ((k_450.drop 150).take 30).all (fun q => okb_ 10 code q || nox_ q.2.1) = true := by decide +kernel
theorem lwb_6 : ((k_450.drop 180).take 30).all (fun q => okb_ 10 code q || nox_ q.2.1) = true := by decide +kernel
theorem lwb_7 : ((k_450.drop 210).take 30).all (fun q => okb_ 10 code q || nox_ q.2.1) = true := by decide +kernel
theorem lwb_8 : ((k_450.drop 240).take 30).all (fun q => okb_ 10 code q || nox_ q.2.1) = true := by decide +kernel
theorem lwb_9 : ((k_450.drop 270).take 30).all (fun q => okb_ 10 code q || nox_ q.2.1) = true := by decide +kernel
theorem lwb_10 : ((k_450.drop 300).take 30).all (fun q => okb_ 10 code q || nox_ q.2.1) = true := by decide +kernel
theorem lwb_11 : ((k_450.drop 330).take 30).all (fun q => okb_ 10 code q || nox_ q.2.1) = true := by decide +kernel
theorem lwb_12 : ((k_450.drop 360).take 30).all (fun q => okb_ 10 code q || nox_ q.2.1) = true := by decide +kernel
theorem lwb_13 : ((k_450.drop 390).take 30).all (fun q => okb_ 10 code q || nox_ q.2.1) = true := by decide +kernel
theorem lwb_14 : ((k_450.drop 420).take 30).all (fun q => okb_ 10 code q || nox_ q.2.1) = true := by decide +kernel
theorem lwb_15 : ((k_450.drop 450).take 30).all (fun q => okb_ 10 code q || nox_ q.2.1) = true := by decide +kernel
theorem lwb_16 : ((k_450.drop 480).take 30).all (fun q => okb_ 10 code q || nox_ q.2.1) = true := by decide +kernel
theorem lwb_17 : ((k_450.drop 510).take 30).all (fun q => okb_ 10 code q || nox_ q.2.1) = true := by decide +kernel
theorem lwb_18 : ((k_450.drop 540).take 30).all (fun q => okb_ 10 code q || nox_ q.2.1) = true := by decide +kernel
theorem lwb_19 : ((k_450.drop 570).take 30).all (fun q => okb_ 10 code q || nox_ q.2.1) = true := by decide +kernel
theorem lwb_20 : ((k_450.drop 600).take 30).all (fun q => okb_ 10 code q || nox_ q.2.1) = true := by decide +kernel
theorem lwb_21 : ((k_450.drop 630).take 30).all (fun q => okb_ 10 code q || nox_ q.2.1) = true := by decide +kernel
theorem lwb_22 : ((k_450.drop 660).take 30).all (fun q => okb_ 10 code q || nox_ q.2.1) = true := by decide +kernel
theorem lwb_e : (k_450.drop 690).all (fun q => okb_ 10 code q || nox_ q.2.1) = true := by decide +kernel
theorem lwb_st {f : en_ → Bool} {l : List en_} (a b : Nat) (h1 : ((l.drop a).take b).all f = true) (h2 : (l.drop (a + b)).all f = true) : (l.drop a).all f = true := by
  have e : l.drop a = (l.drop a).take b ++ l.drop (a + b) := by rw [← List.drop_drop, List.take_append_drop]
  rw [e, List.all_append, h1, h2]; rfl
theorem lwb_ok : k_450.all (fun q => okb_ 10 code q || nox_ q.2.1) = true :=
  show (k_450.drop 0).all (fun q => okb_ 10 code q || nox_ q.2.1) = true from lwb_st 0 30 lwb_0 (lwb_st 30 30 lwb_1 (lwb_st 60 30 lwb_2 (lwb_st 90 30 lwb_3 (lwb_st 120 30 lwb_4 (lwb_st 150 30 lwb_5 (lwb_st 180 30 lwb_6 (lwb_st 210 30 lwb_7 (lwb_st 240 30 lwb_8 (lwb_st 270 30 lwb_9 (lwb_st 300 30 lwb_10 (lwb_st 330 30 lwb_11 (lwb_st 360 30 lwb_12 (lwb_st 390 30 lwb_13 (lwb_st 420 30 lwb_14 (lwb_st 450 30 lwb_15 (lwb_st 480 30 lwb_16 (lwb_st 510 30 lwb_17 (lwb_st 540 30 lwb_18 (lwb_st 570 30 lwb_19 (lwb_st 600 30 lwb_20 (lwb_st 630 30 lwb_21 (lwb_st 660 30 lwb_22 lwb_e))))))))))))))))))))))
end M465_lc
