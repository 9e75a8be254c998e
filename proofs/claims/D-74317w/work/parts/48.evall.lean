/-! All the evidence together. -/
theorem ag0 : ∀ e, e ∈ zMl0 → zOkM e := fa al0 (fa al1 (fa al2 (fa al3 (fa al4 (fa al5 (fa al6 (fa al7 (fa al8 (fa al9 (fa al10 (fa al11 (fa al12 (fa al13 (fa al14 (fa al15 (fn))))))))))))))))
theorem ag1 : ∀ e, e ∈ zMl1 → zOkM e := fa al16 (fa al17 (fa al18 (fa al19 (fa al20 (fa al21 (fa al22 (fa al23 (fa al24 (fa al25 (fa al26 (fa al27 (fa al28 (fa al29 (fa al30 (fa al31 (fn))))))))))))))))
theorem ag2 : ∀ e, e ∈ zMl2 → zOkM e := fa al32 (fa al33 (fa al34 (fa al35 (fa al36 (fa al37 (fa al38 (fa al39 (fa al40 (fa al41 (fa al42 (fa al43 (fa al44 (fa al45 (fa al46 (fa al47 (fn))))))))))))))))
theorem ag3 : ∀ e, e ∈ zMl3 → zOkM e := fa al48 (fa al49 (fa al50 (fa al51 (fa al52 (fa al53 (fa al54 (fa al55 (fa al56 (fa al57 (fa al58 (fa al59 (fa al60 (fa al61 (fa al62 (fa al63 (fn))))))))))))))))
theorem ag4 : ∀ e, e ∈ zMl4 → zOkM e := fa al64 (fa al65 (fa al66 (fa al67 (fa al68 (fa al69 (fa al70 (fa al71 (fa al72 (fa al73 (fa al74 (fa al75 (fa al76 (fa al77 (fa al78 (fa al79 (fn))))))))))))))))
theorem ag5 : ∀ e, e ∈ zMl5 → zOkM e := fa al80 (fa al81 (fa al82 (fa al83 (fa al84 (fa al85 (fa al86 (fa al87 (fa al88 (fa al89 (fa al90 (fa al91 (fa al92 (fa al93 (fa al94 (fa al95 (fn))))))))))))))))
theorem ag6 : ∀ e, e ∈ zMl6 → zOkM e := fa al96 (fa al97 (fa al98 (fa al99 (fa al100 (fa al101 (fa al102 (fa al103 (fa al104 (fa al105 (fa al106 (fa al107 (fa al108 (fa al109 (fa al110 (fa al111 (fn))))))))))))))))
theorem ag7 : ∀ e, e ∈ zMl7 → zOkM e := fa al112 (fa al113 (fa al114 (fa al115 (fa al116 (fa al117 (fa al118 (fa al119 (fa al120 (fa al121 (fa al122 (fa al123 (fa al124 (fa al125 (fa al126 (fa al127 (fn))))))))))))))))
theorem ag8 : ∀ e, e ∈ zMl8 → zOkM e := fa al128 (fa al129 (fa al130 (fa al131 (fa al132 (fa al133 (fa al134 (fa al135 (fa al136 (fa al137 (fa al138 (fa al139 (fa al140 (fa al141 (fa al142 (fa al143 (fn))))))))))))))))
theorem ag9 : ∀ e, e ∈ zMl9 → zOkM e := fa al144 (fa al145 (fa al146 (fa al147 (fa al148 (fa al149 (fa al150 (fa al151 (fa al152 (fa al153 (fa al154 (fa al155 (fa al156 (fa al157 (fa al158 (fa al159 (fn))))))))))))))))
theorem ag10 : ∀ e, e ∈ zMl10 → zOkM e := fa al160 (fa al161 (fa al162 (fa al163 (fa al164 (fa al165 (fa al166 (fa al167 (fa al168 (fa al169 (fa al170 (fa al171 (fa al172 (fa al173 (fa al174 (fa al175 (fn))))))))))))))))
theorem ag11 : ∀ e, e ∈ zMl11 → zOkM e := fa al176 (fa al177 (fa al178 (fa al179 (fa al180 (fa al181 (fa al182 (fa al183 (fa al184 (fa al185 (fa al186 (fa al187 (fa al188 (fa al189 (fa al190 (fa al191 (fn))))))))))))))))
theorem ag12 : ∀ e, e ∈ zMl12 → zOkM e := fa al192 (fa al193 (fa al194 (fa al195 (fa al196 (fa al197 (fa al198 (fa al199 (fa al200 (fa al201 (fa al202 (fa al203 (fa al204 (fa al205 (fa al206 (fa al207 (fn))))))))))))))))
theorem ag13 : ∀ e, e ∈ zMl13 → zOkM e := fa al208 (fa al209 (fa al210 (fa al211 (fa al212 (fa al213 (fa al214 (fa al215 (fa al216 (fa al217 (fa al218 (fa al219 (fa al220 (fa al221 (fa al222 (fa al223 (fn))))))))))))))))
theorem ag14 : ∀ e, e ∈ zMl14 → zOkM e := fa al224 (fa al225 (fa al226 (fa al227 (fa al228 (fa al229 (fa al230 (fa al231 (fa al232 (fa al233 (fa al234 (fa al235 (fa al236 (fa al237 (fa al238 (fa al239 (fn))))))))))))))))
theorem ag15 : ∀ e, e ∈ zMl15 → zOkM e := fa al240 (fa al241 (fa al242 (fa al243 (fa al244 (fa al245 (fa al246 (fa al247 (fa al248 (fa al249 (fa al250 (fa al251 (fa al252 (fa al253 (fa al254 (fa al255 (fn))))))))))))))))
theorem ag16 : ∀ e, e ∈ zMl16 → zOkM e := fa al256 (fa al257 (fa al258 (fa al259 (fa al260 (fa al261 (fa al262 (fa al263 (fa al264 (fa al265 (fa al266 (fa al267 (fa al268 (fa al269 (fa al270 (fa al271 (fn))))))))))))))))
theorem ag17 : ∀ e, e ∈ zMl17 → zOkM e := fa al272 (fa al273 (fa al274 (fa al275 (fa al276 (fa al277 (fa al278 (fa al279 (fa al280 (fa al281 (fa al282 (fa al283 (fa al284 (fa al285 (fa al286 (fa al287 (fn))))))))))))))))
theorem ag18 : ∀ e, e ∈ zMl18 → zOkM e := fa al288 (fa al289 (fa al290 (fa al291 (fa al292 (fa al293 (fa al294 (fa al295 (fa al296 (fa al297 (fa al298 (fa al299 (fa al300 (fa al301 (fa al302 (fa al303 (fn))))))))))))))))
theorem ag19 : ∀ e, e ∈ zMl19 → zOkM e := fa al304 (fa al305 (fa al306 (fa al307 (fa al308 (fa al309 (fa al310 (fa al311 (fa al312 (fa al313 (fa al314 (fa al315 (fa al316 (fa al317 (fa al318 (fa al319 (fn))))))))))))))))
theorem ag20 : ∀ e, e ∈ zMl20 → zOkM e := fa al320 (fa al321 (fa al322 (fa al323 (fa al324 (fa al325 (fa al326 (fa al327 (fa al328 (fa al329 (fa al330 (fa al331 (fa al332 (fa al333 (fa al334 (fn)))))))))))))))
theorem ag21 : ∀ e, e ∈ zMl21 → zOkM e := fa al336 (fa al337 (fa al338 (fa al339 (fa al340 (fa al341 (fa al342 (fa al343 (fa al344 (fa al345 (fa al346 (fa al347 (fa al348 (fa al349 (fa al350 (fa al351 (fn))))))))))))))))
theorem ag22 : ∀ e, e ∈ zMl22 → zOkM e := fa al352 (fa al353 (fa al354 (fa al355 (fa al356 (fa al357 (fa al358 (fa al359 (fa al360 (fa al361 (fa al362 (fa al363 (fa al364 (fa al365 (fa al366 (fa al367 (fn))))))))))))))))
theorem ag23 : ∀ e, e ∈ zMl23 → zOkM e := fa al368 (fa al369 (fa al370 (fa al371 (fa al372 (fa al373 (fa al374 (fa al375 (fa al376 (fa al377 (fa al378 (fa al379 (fa al380 (fa al381 (fa al382 (fa al383 (fn))))))))))))))))
theorem ag24 : ∀ e, e ∈ zMl24 → zOkM e := fa al384 (fa al385 (fa al386 (fa al388 (fa al389 (fa al390 (fa al391 (fa al392 (fa al393 (fa al394 (fa al395 (fa al396 (fa al397 (fa al398 (fa al399 (fn)))))))))))))))
theorem ag25 : ∀ e, e ∈ zMl25 → zOkM e := fa al400 (fa al401 (fa al402 (fa al403 (fa al404 (fa al405 (fa al406 (fa al407 (fa al408 (fa al409 (fa al410 (fa al411 (fa al412 (fa al413 (fa al414 (fa al415 (fn))))))))))))))))
theorem ag26 : ∀ e, e ∈ zMl26 → zOkM e := fa al416 (fa al417 (fa al418 (fa al419 (fa al420 (fa al421 (fa al422 (fn)))))))
theorem zMls_ok : ∀ l, l ∈ zMls → ∀ e, e ∈ l → zOkM e := fa ag0 (fa ag1 (fa ag2 (fa ag3 (fa ag4 (fa ag5 (fa ag6 (fa ag7 (fa ag8 (fa ag9 (fa ag10 (fa ag11 (fa ag12 (fa ag13 (fa ag14 (fa ag15 (fa ag16 (fa ag17 (fa ag18 (fa ag19 (fa ag20 (fa ag21 (fa ag22 (fa ag23 (fa ag24 (fa ag25 (fa ag26 (fn)))))))))))))))))))))))))))
theorem zAll_ok : zAllEv zMl zSR := by
  intro m I h
  obtain ⟨l, hl, he⟩ := List.mem_flatten.mp h
  obtain ⟨h1, ⟨c, h2, h3⟩, h4⟩ := zMls_ok l hl (m, I) he
  exact ⟨h1, h1.2.2.2.2, zEvC_ok h2 h3, h4⟩
theorem zGood_law : zGood zMl zSR 335 zI335 := ⟨trivial, zEvC_ok rfl el335, Nat.le_of_ble_eq_true rfl⟩
