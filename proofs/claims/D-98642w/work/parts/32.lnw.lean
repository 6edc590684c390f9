/-! the words of jN among the tables (printed by mk_law.py) -/
set_option maxRecDepth 100000
theorem fa_n {α : Type} {P : α → Prop} : ∀ q ∈ ([] : List α), P q := fun _ h => by cases h
theorem fa_c {α : Type} {P : α → Prop} {a : α} {l : List α} (h : P a) (k : ∀ q ∈ l, P q) : ∀ q ∈ a :: l, P q := fun q hq => by
  rcases List.mem_cons.mp hq with rfl | hq
  · exact h
  · exact k q hq
def PF (q : String × Nat × String × String × String × String) : Prop := Cond.fieldLinkNest q.1 q.2.1 q.2.2.1 q.2.2.2.1 q.2.2.2.2.1 q.2.2.2.2.2 ∈ lw_tbl
def PM (q : String × Nat × MethodName × String) : Prop := Cond.methodLinkNest q.1 q.2.1 q.2.2.1 q.2.2.2 ∈ lw_tbl
def PC (q : String × String) : Prop := Cond.castable q.1 q.2 ∈ lw_tbl
def PA (q : String) : Prop := Cond.arrayOver (.object q) ∈ lw_tbl
def PD (q : MethodName) : Prop := Cond.declares q ∈ lw_tbl
theorem nF_ok : ∀ q ∈ nF, PF q := (fa_c q266 (fa_c q269 (fa_c q282 (fa_c q733 (fa_c q735 (fa_c q293 (fa_c q262 (fa_c q856 (fa_c q859 (fa_c q365 (fa_c q363 (fa_c q367 (fa_c q369 (fa_c q907 (fa_c q910 (fa_c q913 (fa_c q916 (fa_c q371 (fa_c q381 (fa_c q285 (fa_c q375 (fa_c q377 (fa_c q379 (fa_c q292 (fa_c q373 (fa_c q915 (fa_c q362 (fa_c q909 (fa_c q436 (fa_c q551 (fa_c q263 (fa_c q267 (fa_c q271 (fa_c q284 (fa_c q288 (fa_c q290 (fa_c q283 (fa_c q294 (fa_c q857 (fa_c q860 (fa_c q862 (fa_c q864 (fa_c q908 (fa_c q911 (fa_c q914 (fa_c q917 (fa_c q274 (fa_c q277 (fa_c q280 (fa_c q291 (fa_c q443 (fa_c q265 (fa_c q863 (fa_c q861 (fa_c q289 (fa_c q858 (fa_c q446 (fa_c q855 (fa_c q906 (fa_c q448 (fa_c q270 (fa_c q287 (fa_c q273 (fa_c q276 (fa_c q279 (fa_c q1145 (fa_c q912 fa_n)))))))))))))))))))))))))))))))))))))))))))))))))))))))))))))))))))
theorem nM_ok : ∀ q ∈ nM, PM q := (fa_c q192 (fa_c q227 (fa_c q325 (fa_c q336 (fa_c q343 (fa_c q350 (fa_c q357 (fa_c q346 (fa_c q353 (fa_c q990 (fa_c q1003 (fa_c q1392 (fa_c q977 (fa_c q328 (fa_c q535 (fa_c q546 (fa_c q1182 (fa_c q1247 (fa_c q413 (fa_c q1423 (fa_c q1131 (fa_c q339 fa_n))))))))))))))))))))))
theorem nC_ok : ∀ q ∈ nC, PC q := (fa_c q2335 (fa_c q2365 (fa_c q2341 (fa_c q2337 (fa_c q684 (fa_c q2344 (fa_c q2366 (fa_c q2342 (fa_c q2332 (fa_c q2360 (fa_c q2349 (fa_c q2345 (fa_c q2362 (fa_c q2351 (fa_c q2329 (fa_c q2356 (fa_c q2359 (fa_c q2348 (fa_c q2331 (fa_c q2327 (fa_c q2346 (fa_c q2363 (fa_c q2339 (fa_c q2328 (fa_c q2347 (fa_c q2336 (fa_c q2333 (fa_c q2330 (fa_c q2357 (fa_c q2325 (fa_c q2355 (fa_c q2361 (fa_c q2350 (fa_c q2364 (fa_c q2340 (fa_c q2343 (fa_c q2370 (fa_c q2373 (fa_c q2375 (fa_c q2374 (fa_c q2372 (fa_c q2376 (fa_c q2371 (fa_c q2378 (fa_c q2377 (fa_c q1525 (fa_c q2326 (fa_c q2352 (fa_c q1543 (fa_c q2353 (fa_c q2334 (fa_c q2358 (fa_c q2338 (fa_c q2354 (fa_c q1565 fa_n)))))))))))))))))))))))))))))))))))))))))))))))))))))))
theorem nA_ok : ∀ q ∈ nA, PA q := (fa_c q322 (fa_c q260 (fa_c q406 (fa_c q244 (fa_c q2406 fa_n)))))
theorem nD_ok : ∀ q ∈ nD, PD q := (fa_c q1192 (fa_c q1075 (fa_c q1117 (fa_c q685 (fa_c q686 (fa_c q1526 (fa_c q1527 (fa_c q2369 (fa_c q1528 (fa_c q1529 (fa_c q687 (fa_c q688 fa_n))))))))))))
