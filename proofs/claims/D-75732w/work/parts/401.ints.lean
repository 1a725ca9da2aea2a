/-! part 401: kinds of fields; getters behind setters; ints -/
set_option maxRecDepth 100000
theorem kn0_0 : (ykn 0)[0]? = some 3 := by decide
theorem kn0_1 : (ykn 0)[1]? = some 0 := by decide
theorem kn0_2 : (ykn 0)[2]? = some 0 := by decide
theorem kn0_3 : (ykn 0)[3]? = some 0 := by decide
theorem kn0_4 : (ykn 0)[4]? = some 3 := by decide
theorem kn0_5 : (ykn 0)[5]? = some 3 := by decide
theorem kn0_6 : (ykn 0)[6]? = some 3 := by decide
theorem kn1_0 : (ykn 1)[0]? = some 3 := by decide
theorem kn1_1 : (ykn 1)[1]? = some 3 := by decide
theorem kn1_2 : (ykn 1)[2]? = some 0 := by decide
theorem kn1_3 : (ykn 1)[3]? = some 0 := by decide
theorem kn1_4 : (ykn 1)[4]? = some 0 := by decide
theorem kn2_0 : (ykn 2)[0]? = some 0 := by decide
theorem kn2_1 : (ykn 2)[1]? = some 3 := by decide
theorem kn2_2 : (ykn 2)[2]? = some 0 := by decide
theorem kn4_0 : (ykn 4)[0]? = some 3 := by decide
theorem kn4_1 : (ykn 4)[1]? = some 0 := by decide
theorem kn4_2 : (ykn 4)[2]? = some 0 := by decide
theorem kn4_3 : (ykn 4)[3]? = some 0 := by decide
theorem kn5_0 : (ykn 5)[0]? = some 3 := by decide
theorem kn5_1 : (ykn 5)[1]? = some 0 := by decide
theorem kn5_2 : (ykn 5)[2]? = some 0 := by decide
theorem kn5_3 : (ykn 5)[3]? = some 0 := by decide
theorem kn6_0 : (ykn 6)[0]? = some 0 := by decide
theorem kn6_1 : (ykn 6)[1]? = some 0 := by decide
theorem kn6_2 : (ykn 6)[2]? = some 3 := by decide
theorem kn6_3 : (ykn 6)[3]? = some 3 := by decide
theorem kn7_0 : (ykn 7)[0]? = some 0 := by decide
theorem kn7_1 : (ykn 7)[1]? = some 0 := by decide
theorem kn7_2 : (ykn 7)[2]? = some 0 := by decide
theorem kn7_3 : (ykn 7)[3]? = some 3 := by decide
theorem kn9_0 : (ykn 9)[0]? = some 3 := by decide
theorem kn9_1 : (ykn 9)[1]? = some 3 := by decide
theorem kn9_2 : (ykn 9)[2]? = some 0 := by decide
theorem kn9_3 : (ykn 9)[3]? = some 0 := by decide
theorem kn9_4 : (ykn 9)[4]? = some 3 := by decide
theorem kn11_0 : (ykn 11)[0]? = some 3 := by decide
theorem kn12_0 : (ykn 12)[0]? = some 0 := by decide
theorem kn12_1 : (ykn 12)[1]? = some 0 := by decide
theorem kn12_2 : (ykn 12)[2]? = some 0 := by decide
theorem kn12_3 : (ykn 12)[3]? = some 3 := by decide
theorem kn13_0 : (ykn 13)[0]? = some 3 := by decide
theorem kn13_1 : (ykn 13)[1]? = some 3 := by decide
theorem kn13_2 : (ykn 13)[2]? = some 0 := by decide
theorem kn13_3 : (ykn 13)[3]? = some 3 := by decide
theorem kn14_0 : (ykn 14)[0]? = some 3 := by decide
theorem kn14_1 : (ykn 14)[1]? = some 3 := by decide
theorem kn14_2 : (ykn 14)[2]? = some 0 := by decide
theorem kn14_3 : (ykn 14)[3]? = some 3 := by decide
theorem kn15_0 : (ykn 15)[0]? = some 0 := by decide
theorem kn16_0 : (ykn 16)[0]? = some 3 := by decide
theorem kn16_1 : (ykn 16)[1]? = some 3 := by decide
theorem kn16_2 : (ykn 16)[2]? = some 3 := by decide
theorem kn16_3 : (ykn 16)[3]? = some 3 := by decide
theorem kn16_4 : (ykn 16)[4]? = some 0 := by decide
theorem kn16_5 : (ykn 16)[5]? = some 0 := by decide
theorem kn16_6 : (ykn 16)[6]? = some 3 := by decide
theorem kn16_7 : (ykn 16)[7]? = some 3 := by decide
theorem kn16_8 : (ykn 16)[8]? = some 3 := by decide
theorem kn17_0 : (ykn 17)[0]? = some 0 := by decide
theorem kn17_1 : (ykn 17)[1]? = some 0 := by decide
theorem kn17_2 : (ykn 17)[2]? = some 0 := by decide
theorem kn17_3 : (ykn 17)[3]? = some 3 := by decide
theorem kn17_4 : (ykn 17)[4]? = some 3 := by decide
theorem kn18_0 : (ykn 18)[0]? = some 3 := by decide
theorem kn18_1 : (ykn 18)[1]? = some 3 := by decide
theorem kn18_2 : (ykn 18)[2]? = some 3 := by decide
theorem kn18_3 : (ykn 18)[3]? = some 3 := by decide
theorem kn18_4 : (ykn 18)[4]? = some 3 := by decide
theorem kn18_5 : (ykn 18)[5]? = some 0 := by decide
theorem kn18_6 : (ykn 18)[6]? = some 0 := by decide
theorem kn18_7 : (ykn 18)[7]? = some 0 := by decide
theorem kn19_0 : (ykn 19)[0]? = some 3 := by decide
theorem kn19_1 : (ykn 19)[1]? = some 3 := by decide
theorem kn19_2 : (ykn 19)[2]? = some 3 := by decide
theorem kn19_3 : (ykn 19)[3]? = some 0 := by decide
theorem kn19_4 : (ykn 19)[4]? = some 0 := by decide
theorem kn19_5 : (ykn 19)[5]? = some 0 := by decide
theorem kn19_6 : (ykn 19)[6]? = some 3 := by decide
theorem kn19_7 : (ykn 19)[7]? = some 3 := by decide
theorem kn20_0 : (ykn 20)[0]? = some 3 := by decide
theorem kn20_1 : (ykn 20)[1]? = some 0 := by decide
theorem kn20_2 : (ykn 20)[2]? = some 3 := by decide
theorem kn20_3 : (ykn 20)[3]? = some 0 := by decide
theorem kn20_4 : (ykn 20)[4]? = some 3 := by decide
theorem kn20_5 : (ykn 20)[5]? = some 3 := by decide
theorem kn21_0 : (ykn 21)[0]? = some 1 := by decide
theorem kn22_0 : (ykn 22)[0]? = some 0 := by decide
theorem kn22_1 : (ykn 22)[1]? = some 0 := by decide
theorem kn22_2 : (ykn 22)[2]? = some 0 := by decide
theorem kn22_3 : (ykn 22)[3]? = some 0 := by decide
theorem kn22_4 : (ykn 22)[4]? = some 0 := by decide
theorem kn22_5 : (ykn 22)[5]? = some 0 := by decide
theorem kn22_6 : (ykn 22)[6]? = some 0 := by decide
theorem kn23_0 : (ykn 23)[0]? = some 3 := by decide
theorem kn23_1 : (ykn 23)[1]? = some 0 := by decide
theorem kn23_2 : (ykn 23)[2]? = some 0 := by decide
theorem kn24_0 : (ykn 24)[0]? = some 3 := by decide
theorem kn24_1 : (ykn 24)[1]? = some 3 := by decide
theorem kn24_2 : (ykn 24)[2]? = some 0 := by decide
theorem kn24_3 : (ykn 24)[3]? = some 0 := by decide
theorem kn25_0 : (ykn 25)[0]? = some 3 := by decide
theorem kn25_1 : (ykn 25)[1]? = some 3 := by decide
theorem kn25_2 : (ykn 25)[2]? = some 3 := by decide
theorem kn26_0 : (ykn 26)[0]? = some 3 := by decide
theorem kn27_0 : (ykn 27)[0]? = some 3 := by decide
theorem kn27_1 : (ykn 27)[1]? = some 3 := by decide
theorem kn27_2 : (ykn 27)[2]? = some 3 := by decide
theorem kn28_0 : (ykn 28)[0]? = some 1 := by decide
theorem kn28_1 : (ykn 28)[1]? = some 1 := by decide
theorem kn28_2 : (ykn 28)[2]? = some 1 := by decide
theorem kn28_3 : (ykn 28)[3]? = some 1 := by decide
theorem kn29_0 : (ykn 29)[0]? = some 3 := by decide
theorem kn29_1 : (ykn 29)[1]? = some 3 := by decide
theorem kn29_2 : (ykn 29)[2]? = some 3 := by decide
theorem kn29_3 : (ykn 29)[3]? = some 3 := by decide
theorem kn29_4 : (ykn 29)[4]? = some 3 := by decide
theorem kn29_5 : (ykn 29)[5]? = some 0 := by decide
theorem kn30_0 : (ykn 30)[0]? = some 3 := by decide
theorem kn30_1 : (ykn 30)[1]? = some 3 := by decide
theorem kn30_2 : (ykn 30)[2]? = some 3 := by decide
theorem kn30_3 : (ykn 30)[3]? = some 3 := by decide
theorem kn30_4 : (ykn 30)[4]? = some 3 := by decide
theorem kn30_5 : (ykn 30)[5]? = some 0 := by decide
theorem kn31_0 : (ykn 31)[0]? = some 3 := by decide
theorem kn31_1 : (ykn 31)[1]? = some 3 := by decide
theorem kn32_0 : (ykn 32)[0]? = some 3 := by decide
theorem kn33_0 : (ykn 33)[0]? = some 3 := by decide
theorem kn33_1 : (ykn 33)[1]? = some 0 := by decide
theorem kn33_2 : (ykn 33)[2]? = some 3 := by decide
theorem kn33_3 : (ykn 33)[3]? = some 0 := by decide
theorem kn36_0 : (ykn 36)[0]? = some 3 := by decide
theorem kn36_1 : (ykn 36)[1]? = some 3 := by decide
theorem kn36_2 : (ykn 36)[2]? = some 3 := by decide
theorem kn36_3 : (ykn 36)[3]? = some 3 := by decide
theorem kn36_4 : (ykn 36)[4]? = some 3 := by decide
theorem kn36_5 : (ykn 36)[5]? = some 0 := by decide
theorem kn37_0 : (ykn 37)[0]? = some 0 := by decide
theorem kn37_1 : (ykn 37)[1]? = some 0 := by decide
theorem kn37_2 : (ykn 37)[2]? = some 0 := by decide
theorem kn37_3 : (ykn 37)[3]? = some 0 := by decide
theorem kn38_0 : (ykn 38)[0]? = some 0 := by decide
theorem kn38_1 : (ykn 38)[1]? = some 3 := by decide
theorem kn38_2 : (ykn 38)[2]? = some 0 := by decide
theorem kn38_3 : (ykn 38)[3]? = some 0 := by decide
theorem kn38_4 : (ykn 38)[4]? = some 0 := by decide
theorem kn38_5 : (ykn 38)[5]? = some 0 := by decide
theorem kn39_0 : (ykn 39)[0]? = some 0 := by decide
theorem kn39_1 : (ykn 39)[1]? = some 3 := by decide
theorem kn39_2 : (ykn 39)[2]? = some 3 := by decide
theorem kn39_3 : (ykn 39)[3]? = some 3 := by decide
theorem kn39_4 : (ykn 39)[4]? = some 0 := by decide
theorem kn39_5 : (ykn 39)[5]? = some 3 := by decide
theorem kn39_6 : (ykn 39)[6]? = some 3 := by decide
theorem kn39_7 : (ykn 39)[7]? = some 3 := by decide
theorem kn39_8 : (ykn 39)[8]? = some 3 := by decide
theorem kn39_9 : (ykn 39)[9]? = some 0 := by decide
theorem kn39_10 : (ykn 39)[10]? = some 3 := by decide
theorem kn39_11 : (ykn 39)[11]? = some 3 := by decide
theorem kn39_12 : (ykn 39)[12]? = some 0 := by decide
theorem kn39_13 : (ykn 39)[13]? = some 0 := by decide
theorem kn39_14 : (ykn 39)[14]? = some 0 := by decide
theorem kn39_15 : (ykn 39)[15]? = some 0 := by decide
theorem kn39_16 : (ykn 39)[16]? = some 0 := by decide
theorem kn39_17 : (ykn 39)[17]? = some 0 := by decide
theorem kn39_18 : (ykn 39)[18]? = some 0 := by decide
theorem kn39_19 : (ykn 39)[19]? = some 0 := by decide
theorem kn39_20 : (ykn 39)[20]? = some 0 := by decide
theorem kn39_21 : (ykn 39)[21]? = some 0 := by decide
theorem kn39_22 : (ykn 39)[22]? = some 3 := by decide
theorem kn39_23 : (ykn 39)[23]? = some 3 := by decide
theorem kn39_24 : (ykn 39)[24]? = some 0 := by decide
theorem kn40_0 : (ykn 40)[0]? = some 0 := by decide
theorem kn41_0 : (ykn 41)[0]? = some 0 := by decide
theorem kn42_0 : (ykn 42)[0]? = some 0 := by decide
theorem kn43_0 : (ykn 43)[0]? = some 0 := by decide
theorem kn44_0 : (ykn 44)[0]? = some 0 := by decide
theorem kn45_0 : (ykn 45)[0]? = some 0 := by decide
theorem kn46_0 : (ykn 46)[0]? = some 0 := by decide
theorem kn47_0 : (ykn 47)[0]? = some 0 := by decide
theorem kn48_0 : (ykn 48)[0]? = some 0 := by decide
theorem kn49_0 : (ykn 49)[0]? = some 0 := by decide
theorem kn50_0 : (ykn 50)[0]? = some 0 := by decide
theorem kn51_0 : (ykn 51)[0]? = some 0 := by decide
theorem kn52_0 : (ykn 52)[0]? = some 0 := by decide
theorem kn1000_0 : (ykn 1000)[0]? = some 3 := by decide
theorem kn1001_0 : (ykn 1001)[0]? = some 3 := by decide
theorem kn1002_0 : (ykn 1002)[0]? = some 3 := by decide
theorem kn1011_0 : (ykn 1011)[0]? = some 0 := by decide
theorem kn1012_0 : (ykn 1012)[0]? = some 0 := by decide
theorem kn1012_1 : (ykn 1012)[1]? = some 0 := by decide
section YG
variable {h : xH} {ci k a : Nat}
theorem yi_si {v : Int32} (hW : yW h ci a) (hk : (ykn ci)[k]? = some 0) (c' k' b : Nat) : yi (ysv h ci k a (.int v)) c' k' b = if c' = ci ∧ k' = k ∧ b = a then v else yi h c' k' b := by
  unfold yi
  rw [yv_sv hW hk]
  split <;> rfl
theorem yi_sj {v : Int64} (hW : yW h ci a) (hk : (ykn ci)[k]? = some 1) (c' k' b : Nat) (hn : ¬ (c' = ci ∧ k' = k)) : yi (ysv h ci k a (.long v)) c' k' b = yi h c' k' b := by
  unfold yi
  rw [yv_sv hW hk, if_neg (fun q => hn ⟨q.1, q.2.1⟩)]
theorem yi_sr {v : Option Nat} (hW : yW h ci a) (hk : (ykn ci)[k]? = some 3) (c' k' b : Nat) (hn : ¬ (c' = ci ∧ k' = k)) : yi (ysv h ci k a (va_rf v)) c' k' b = yi h c' k' b := by
  unfold yi
  rw [yv_sv hW (by rw [ykd_rf]; exact hk), if_neg (fun q => hn ⟨q.1, q.2.1⟩)]
theorem yj_sj {v : Int64} (hW : yW h ci a) (hk : (ykn ci)[k]? = some 1) (c' k' b : Nat) : yj (ysv h ci k a (.long v)) c' k' b = if c' = ci ∧ k' = k ∧ b = a then v else yj h c' k' b := by
  unfold yj
  rw [yv_sv hW hk]
  split <;> rfl
theorem yj_si {v : Int32} (hW : yW h ci a) (hk : (ykn ci)[k]? = some 0) (c' k' b : Nat) (hn : ¬ (c' = ci ∧ k' = k)) : yj (ysv h ci k a (.int v)) c' k' b = yj h c' k' b := by
  unfold yj
  rw [yv_sv hW hk, if_neg (fun q => hn ⟨q.1, q.2.1⟩)]
theorem yj_sr {v : Option Nat} (hW : yW h ci a) (hk : (ykn ci)[k]? = some 3) (c' k' b : Nat) (hn : ¬ (c' = ci ∧ k' = k)) : yj (ysv h ci k a (va_rf v)) c' k' b = yj h c' k' b := by
  unfold yj
  rw [yv_sv hW (by rw [ykd_rf]; exact hk), if_neg (fun q => hn ⟨q.1, q.2.1⟩)]
theorem yr_sr {v : Option Nat} (hW : yW h ci a) (hk : (ykn ci)[k]? = some 3) (c' k' b : Nat) : yr (ysv h ci k a (va_rf v)) c' k' b = if c' = ci ∧ k' = k ∧ b = a then v else yr h c' k' b := by
  unfold yr
  rw [yv_sv hW (by rw [ykd_rf]; exact hk)]
  split
  · exact yvR_rf v
  · rfl
theorem yr_si {v : Int32} (hW : yW h ci a) (hk : (ykn ci)[k]? = some 0) (c' k' b : Nat) (hn : ¬ (c' = ci ∧ k' = k)) : yr (ysv h ci k a (.int v)) c' k' b = yr h c' k' b := by
  unfold yr
  rw [yv_sv hW hk, if_neg (fun q => hn ⟨q.1, q.2.1⟩)]
theorem yr_sj {v : Int64} (hW : yW h ci a) (hk : (ykn ci)[k]? = some 1) (c' k' b : Nat) (hn : ¬ (c' = ci ∧ k' = k)) : yr (ysv h ci k a (.long v)) c' k' b = yr h c' k' b := by
  unfold yr
  rw [yv_sv hW hk, if_neg (fun q => hn ⟨q.1, q.2.1⟩)]
theorem yi_sc (t p : Nat) (x : yCt) (c' k' b : Nat) : yi (ysc h t p x) c' k' b = yi h c' k' b := by unfold yi; rw [yv_sc]
theorem yj_sc (t p : Nat) (x : yCt) (c' k' b : Nat) : yj (ysc h t p x) c' k' b = yj h c' k' b := by unfold yj; rw [yv_sc]
theorem yr_sc (t p : Nat) (x : yCt) (c' k' b : Nat) : yr (ysc h t p x) c' k' b = yr h c' k' b := by unfold yr; rw [yv_sc]
theorem yli_sv (v : Value) (t b : Nat) : yli (ysv h ci k a v) t b = yli h t b := by unfold yli; rw [yc_sv]
theorem ylj_sv (v : Value) (t b : Nat) : ylj (ysv h ci k a v) t b = ylj h t b := by unfold ylj; rw [yc_sv]
theorem yld_sv (v : Value) (t b : Nat) : yld (ysv h ci k a v) t b = yld h t b := by unfold yld; rw [yc_sv]
theorem ylr_sv (v : Value) (t b : Nat) : ylr (ysv h ci k a v) t b = ylr h t b := by unfold ylr; rw [yc_sv]
theorem yli_sl {t p : Nat} {f : Nat → Int32} (hB : yB h t p) (ht : ytk t = 0) (u b : Nat) : yli (ysc h t p (.inl f)) u b = if u = t ∧ b = p then f else yli h u b := by
  unfold yli
  rw [yc_sc (x := (.inl f)) hB (by rw [ht]; rfl)]
  split <;> rfl
theorem yli_sJ {t p : Nat} {f : Nat → Int64} (hB : yB h t p) (ht : ytk t = 1) (u b : Nat) (hn : u ≠ t) : yli (ysc h t p (.inr (.inl f))) u b = yli h u b := by
  unfold yli
  rw [yc_sc (x := (.inr (.inl f))) hB (by rw [ht]; rfl), if_neg (fun q => hn q.1)]
theorem yli_sD {t p : Nat} {f : Nat → UInt64} (hB : yB h t p) (ht : ytk t = 3) (u b : Nat) (hn : u ≠ t) : yli (ysc h t p (.inr (.inr (.inr (.inl f))))) u b = yli h u b := by
  unfold yli
  rw [yc_sc (x := (.inr (.inr (.inr (.inl f))))) hB (by rw [ht]; rfl), if_neg (fun q => hn q.1)]
theorem yli_sR {t p : Nat} {f : Nat → Option Nat} (hB : yB h t p) (ht : ytk t = 4) (u b : Nat) (hn : u ≠ t) : yli (ysc h t p (.inr (.inr (.inr (.inr f))))) u b = yli h u b := by
  unfold yli
  rw [yc_sc (x := (.inr (.inr (.inr (.inr f))))) hB (by rw [ht]; rfl), if_neg (fun q => hn q.1)]
theorem ylj_sl {t p : Nat} {f : Nat → Int32} (hB : yB h t p) (ht : ytk t = 0) (u b : Nat) (hn : u ≠ t) : ylj (ysc h t p (.inl f)) u b = ylj h u b := by
  unfold ylj
  rw [yc_sc (x := (.inl f)) hB (by rw [ht]; rfl), if_neg (fun q => hn q.1)]
theorem ylj_sJ {t p : Nat} {f : Nat → Int64} (hB : yB h t p) (ht : ytk t = 1) (u b : Nat) : ylj (ysc h t p (.inr (.inl f))) u b = if u = t ∧ b = p then f else ylj h u b := by
  unfold ylj
  rw [yc_sc (x := (.inr (.inl f))) hB (by rw [ht]; rfl)]
  split <;> rfl
theorem yld_sl {t p : Nat} {f : Nat → Int32} (hB : yB h t p) (ht : ytk t = 0) (u b : Nat) (hn : u ≠ t) : yld (ysc h t p (.inl f)) u b = yld h u b := by
  unfold yld
  rw [yc_sc (x := (.inl f)) hB (by rw [ht]; rfl), if_neg (fun q => hn q.1)]
theorem ylr_sl {t p : Nat} {f : Nat → Int32} (hB : yB h t p) (ht : ytk t = 0) (u b : Nat) (hn : u ≠ t) : ylr (ysc h t p (.inl f)) u b = ylr h u b := by
  unfold ylr
  rw [yc_sc (x := (.inl f)) hB (by rw [ht]; rfl), if_neg (fun q => hn q.1)]
theorem ylr_sJ {t p : Nat} {f : Nat → Int64} (hB : yB h t p) (ht : ytk t = 1) (u b : Nat) (hn : u ≠ t) : ylr (ysc h t p (.inr (.inl f))) u b = ylr h u b := by
  unfold ylr
  rw [yc_sc (x := (.inr (.inl f))) hB (by rw [ht]; rfl), if_neg (fun q => hn q.1)]
theorem ylr_sR {t p : Nat} {f : Nat → Option Nat} (hB : yB h t p) (ht : ytk t = 4) (u b : Nat) : ylr (ysc h t p (.inr (.inr (.inr (.inr f))))) u b = if u = t ∧ b = p then f else ylr h u b := by
  unfold ylr
  rw [yc_sc (x := (.inr (.inr (.inr (.inr f))))) hB (by rw [ht]; rfl)]
  split <;> rfl
end YG
theorem ytk_0 : ytk 0 = 0 := by decide
theorem ytk_1 : ytk 1 = 0 := by decide
theorem ytk_2 : ytk 2 = 1 := by decide
theorem ytk_3 : ytk 3 = 3 := by decide
theorem ytk_5 : ytk 5 = 4 := by decide
/-! ints out of naturals -/
theorem i_ofNat (n : Nat) : (OfNat.ofNat n : Int32) = Int32.ofNat n := rfl
theorem i_nat {a : Nat} (h : a < 2147483648) : (Int32.ofNat a).toNatClampNeg = a := by
  have : (Int32.ofNat a).toInt = (a : Int) := Int32.toInt_ofNat_of_lt h
  show (Int32.ofNat a).toInt.toNat = a
  rw [this]
  rfl
theorem i_toInt {a : Nat} (h : a < 2147483648) : (Int32.ofNat a).toInt = (a : Int) := Int32.toInt_ofNat_of_lt h
theorem i_lt {a b : Nat} (ha : a < 2147483648) (hb : b < 2147483648) : (Int32.ofNat a < Int32.ofNat b) ↔ a < b := by
  rw [Int32.lt_iff_toInt_lt, i_toInt ha, i_toInt hb]
  omega
theorem i_le {a b : Nat} (ha : a < 2147483648) (hb : b < 2147483648) : (Int32.ofNat a ≤ Int32.ofNat b) ↔ a ≤ b := by
  rw [Int32.le_iff_toInt_le, i_toInt ha, i_toInt hb]
  omega
theorem i_eq {a b : Nat} (ha : a < 2147483648) (hb : b < 2147483648) : (Int32.ofNat a = Int32.ofNat b) ↔ a = b := by
  rw [← Int32.toInt_inj, i_toInt ha, i_toInt hb]
  omega
theorem i_nonneg {a : Nat} (ha : a < 2147483648) : ¬ (Int32.ofNat a < 0) := by
  have : (0 : Int32) = Int32.ofNat 0 := rfl
  rw [this, i_lt ha (by decide)]
  omega
theorem yin_of {h : xH} {p a : Nat} (h1 : a < yln h p) (h2 : a < 2147483648) : yin h p (Int32.ofNat a) := by
  unfold yin
  rw [i_nat h2]
  rintro (q | q)
  · exact i_nonneg h2 q
  · omega
theorem i_add (a b : Nat) : Int32.ofNat a + Int32.ofNat b = Int32.ofNat (a + b) := (Int32.ofNat_add a b).symm
theorem i_mul (a b : Nat) : Int32.ofNat a * Int32.ofNat b = Int32.ofNat (a * b) := (Int32.ofNat_mul a b).symm
theorem i_ladd (k b : Nat) : (OfNat.ofNat k : Int32) + Int32.ofNat b = Int32.ofNat (k + b) := i_add k b
theorem i_addl (k b : Nat) : Int32.ofNat b + (OfNat.ofNat k : Int32) = Int32.ofNat (b + k) := i_add b k
theorem i_lmul (k b : Nat) : (OfNat.ofNat k : Int32) * Int32.ofNat b = Int32.ofNat (k * b) := i_mul k b
theorem i_sub {a b : Nat} (h : b ≤ a) : Int32.ofNat a - Int32.ofNat b = Int32.ofNat (a - b) := by
  have h1 : a = (a - b) + b := by omega
  rw [h1, ← i_add, Nat.add_sub_cancel, Int32.add_sub_cancel]
theorem i_ofToInt {v : Int32} (h : 0 ≤ v.toInt) : v = Int32.ofNat v.toInt.toNat := by
  have hl : v.toInt < 2147483648 := Int32.toInt_lt v
  rw [← Int32.toInt_inj, i_toInt (by omega)]
  omega
