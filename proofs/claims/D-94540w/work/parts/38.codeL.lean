set_option maxRecDepth 100000
abbrev m_L_law : AMi := (⟨"FavourTownLaw", "law", "([I)Z"⟩, cL_law, 7, some .boolean, none)
noncomputable def k_L_law : Nat → Option AOp :=
 tn 1154 (tn 647 (tn 406 (tn 272 (tn 218 (tn 34 (tn 19 (tn 11 (tn 4 (tn 3 (tl 0 (o_new 0 [.null, .null, .null, .null, .null, .null] 3))
  (tl 3 (aP (f_dup 4))))
  (tn 7 (tl 4 (o_callI 26 0 7))
  (tn 8 (tl 7 (aP (f_astore 1 8)))
  (tl 8 (o_new 18 [.int 0, .null, .null, .int 0, .null, .null, .int 0, .int 0, .int 0, .int 0, .int 0, .int 0, .int 0, .null, .int 0, .int 0, .int 0, .int 0, .null, .null, .null, .null, .null, .null, .null, .int 0, .int 0, .null, .int 0] 11)))))
  (tn 15 (tn 12 (tl 11 (aP (f_dup 12)))
  (tl 12 (o_callI 149 0 15)))
  (tn 16 (tl 15 (aP (f_astore 2 16)))
  (tn 17 (tl 16 (aP (f_const (.int (nI 1)) 17)))
  (tl 17 (o_newa 2 (.inr (.inl (fun _ => 0))) 19))))))
  (tn 26 (tn 21 (tn 20 (tl 19 (aP (f_astore 3 20)))
  (tl 20 (aP (f_const (.int (nI 0)) 21))))
  (tn 23 (tl 21 (aP (f_istore 4 23)))
  (tn 25 (tl 23 (aP (f_iload 4 25)))
  (tl 25 (aP (f_aload 0 26))))))
  (tn 29 (tn 27 (tl 26 (aP (f_alen 27)))
  (tl 27 (aP (f_const (.int (nI 6)) 29))))
  (tn 30 (tl 29 (aP (f_bin (fun x y => x - y) 30)))
  (tn 33 (tl 30 (aP (f_icmp (fun x y => decide (y < x)) 2156 33)))
  (tl 33 (aP (f_aload 0 34))))))))
  (tn 206 (tn 200 (tn 37 (tn 36 (tl 34 (aP (f_iload 4 36)))
  (tl 36 (aP (f_iald 0 37))))
  (tn 39 (tl 37 (aP (f_const (.int (nI 63)) 39)))
  (tn 40 (tl 39 (aP (f_bin (fun x y => x &&& y) 40)))
  (tl 40 (aP (f_sw (fun x => if x.toInt < 0 ∨ 35 < x.toInt then 2150 else [200, 273, 298, 342, 386, 399, 467, 587, 655, 711, 767, 835, 903, 978, 1034, 1090, 1158, 1238, 1301, 1357, 1382, 1407, 1420, 1445, 1513, 1581, 1649, 1741, 1785, 1841, 1909, 1965, 2021, 2101, 2112, 2125].getD (x.toInt - 0).toNat 0)))))))
  (tn 202 (tn 201 (tl 200 (aP (f_aload 1 201)))
  (tl 201 (aP (f_aload 0 202))))
  (tn 204 (tl 202 (aP (f_iload 4 204)))
  (tn 205 (tl 204 (aP (f_const (.int (nI 1)) 205)))
  (tl 205 (aP (f_bin (fun x y => x + y) 206)))))))
  (tn 212 (tn 208 (tn 207 (tl 206 (aP (f_iald 0 207)))
  (tl 207 (aP (f_aload 0 208))))
  (tn 210 (tl 208 (aP (f_iload 4 210)))
  (tn 211 (tl 210 (aP (f_const (.int (nI 2)) 211)))
  (tl 211 (aP (f_bin (fun x y => x + y) 212))))))
  (tn 214 (tn 213 (tl 212 (aP (f_iald 0 213)))
  (tl 213 (aP (f_aload 0 214))))
  (tn 216 (tl 214 (aP (f_iload 4 216)))
  (tn 217 (tl 216 (aP (f_const (.int (nI 3)) 217)))
  (tl 217 (aP (f_bin (fun x y => x + y) 218)))))))))
  (tn 244 (tn 230 (tn 224 (tn 220 (tn 219 (tl 218 (aP (f_iald 0 219)))
  (tl 219 (aP (f_aload 0 220))))
  (tn 222 (tl 220 (aP (f_iload 4 222)))
  (tn 223 (tl 222 (aP (f_const (.int (nI 4)) 223)))
  (tl 223 (aP (f_bin (fun x y => x + y) 224))))))
  (tn 226 (tn 225 (tl 224 (aP (f_iald 0 225)))
  (tl 225 (aP (f_aload 0 226))))
  (tn 228 (tl 226 (aP (f_iload 4 228)))
  (tn 229 (tl 228 (aP (f_const (.int (nI 5)) 229)))
  (tl 229 (aP (f_bin (fun x y => x + y) 230)))))))
  (tn 238 (tn 234 (tn 231 (tl 230 (aP (f_iald 0 231)))
  (tl 231 (o_callV (lkN [(0, 27)]) 5 234)))
  (tn 235 (tl 234 (aP (f_aload 2 235)))
  (tn 236 (tl 235 (aP (f_aload 0 236)))
  (tl 236 (aP (f_iload 4 238))))))
  (tn 240 (tn 239 (tl 238 (aP (f_const (.int (nI 1)) 239)))
  (tl 239 (aP (f_bin (fun x y => x + y) 240))))
  (tn 241 (tl 240 (aP (f_iald 0 241)))
  (tn 242 (tl 241 (aP (f_aload 0 242)))
  (tl 242 (aP (f_iload 4 244))))))))
  (tn 256 (tn 250 (tn 246 (tn 245 (tl 244 (aP (f_const (.int (nI 2)) 245)))
  (tl 245 (aP (f_bin (fun x y => x + y) 246))))
  (tn 247 (tl 246 (aP (f_iald 0 247)))
  (tn 248 (tl 247 (aP (f_aload 0 248)))
  (tl 248 (aP (f_iload 4 250))))))
  (tn 252 (tn 251 (tl 250 (aP (f_const (.int (nI 3)) 251)))
  (tl 251 (aP (f_bin (fun x y => x + y) 252))))
  (tn 253 (tl 252 (aP (f_iald 0 253)))
  (tn 254 (tl 253 (aP (f_aload 0 254)))
  (tl 254 (aP (f_iload 4 256)))))))
  (tn 262 (tn 258 (tn 257 (tl 256 (aP (f_const (.int (nI 4)) 257)))
  (tl 257 (aP (f_bin (fun x y => x + y) 258))))
  (tn 259 (tl 258 (aP (f_iald 0 259)))
  (tn 260 (tl 259 (aP (f_aload 0 260)))
  (tl 260 (aP (f_iload 4 262))))))
  (tn 265 (tn 263 (tl 262 (aP (f_const (.int (nI 5)) 263)))
  (tn 264 (tl 263 (aP (f_bin (fun x y => x + y) 264)))
  (tl 264 (aP (f_iald 0 265)))))
  (tn 268 (tl 265 (o_callV (lkN [(18, 151)]) 5 268))
  (tn 271 (tl 268 (aP (f_icmp (fun x y => decide (x = y)) 2150 271)))
  (tl 271 (aP (f_const (.int (nI 0)) 272))))))))))
  (tn 337 (tn 300 (tn 285 (tn 278 (tn 274 (tn 273 (tl 272 (o_iret (fun x => x == 0 || x == 1)))
  (tl 273 (aP (f_aload 1 274))))
  (tn 275 (tl 274 (aP (f_aload 0 275)))
  (tn 277 (tl 275 (aP (f_iload 4 277)))
  (tl 277 (aP (f_const (.int (nI 1)) 278))))))
  (tn 280 (tn 279 (tl 278 (aP (f_bin (fun x y => x + y) 279)))
  (tl 279 (aP (f_iald 0 280))))
  (tn 283 (tl 280 (o_callV (lkN [(0, 28)]) 1 283))
  (tn 284 (tl 283 (aP (f_aload 2 284)))
  (tl 284 (aP (f_aload 0 285)))))))
  (tn 293 (tn 288 (tn 287 (tl 285 (aP (f_iload 4 287)))
  (tl 287 (aP (f_const (.int (nI 1)) 288))))
  (tn 289 (tl 288 (aP (f_bin (fun x y => x + y) 289)))
  (tn 290 (tl 289 (aP (f_iald 0 290)))
  (tl 290 (o_callV (lkN [(18, 152)]) 1 293)))))
  (tn 297 (tn 296 (tl 293 (aP (f_icmp (fun x y => decide (x = y)) 2150 296)))
  (tl 296 (aP (f_const (.int (nI 0)) 297))))
  (tn 298 (tl 297 (o_iret (fun x => x == 0 || x == 1)))
  (tn 299 (tl 298 (aP (f_aload 1 299)))
  (tl 299 (aP (f_aload 3 300))))))))
  (tn 321 (tn 311 (tn 305 (tn 303 (tl 300 (o_callS 0 2 303))
  (tl 303 (aP (f_istore 5 305))))
  (tn 306 (tl 305 (aP (f_aload 2 306)))
  (tn 309 (tl 306 (o_callV (lkN [(18, 154)]) 0 309))
  (tl 309 (aP (f_istore 6 311))))))
  (tn 315 (tn 312 (tl 311 (aP (f_aload 2 312)))
  (tl 312 (o_callV (lkN [(18, 150)]) 0 315)))
  (tn 317 (tl 315 (aP (f_iload 5 317)))
  (tn 320 (tl 317 (aP (f_icmp (fun x y => decide (x = y)) 322 320)))
  (tl 320 (aP (f_const (.int (nI 0)) 321)))))))
  (tn 329 (tn 324 (tn 322 (tl 321 (o_iret (fun x => x == 0 || x == 1)))
  (tl 322 (aP (f_iload 5 324))))
  (tn 327 (tl 324 (aP (f_if (fun x => decide (¬ x = 0)) 339 327)))
  (tn 328 (tl 327 (aP (f_aload 3 328)))
  (tl 328 (aP (f_const (.int (nI 0)) 329))))))
  (tn 332 (tn 330 (tl 329 (aP (f_lald 2 330)))
  (tl 330 (aP (f_iload 6 332))))
  (tn 333 (tl 332 (aP (f_i2l 333)))
  (tn 334 (tl 333 (aP (f_lcmp 334)))
  (tl 334 (aP (f_if (fun x => decide (x = 0)) 339 337)))))))))
  (tn 373 (tn 355 (tn 344 (tn 339 (tn 338 (tl 337 (aP (f_const (.int (nI 0)) 338)))
  (tl 338 (o_iret (fun x => x == 0 || x == 1))))
  (tn 342 (tl 339 (aP (f_goto 2150)))
  (tn 343 (tl 342 (aP (f_aload 1 343)))
  (tl 343 (aP (f_aload 3 344))))))
  (tn 349 (tn 347 (tl 344 (o_callS 1 2 347))
  (tl 347 (aP (f_istore 5 349))))
  (tn 350 (tl 349 (aP (f_aload 2 350)))
  (tn 353 (tl 350 (o_callV (lkN [(18, 185)]) 0 353))
  (tl 353 (aP (f_istore 6 355)))))))
  (tn 365 (tn 359 (tn 356 (tl 355 (aP (f_aload 2 356)))
  (tl 356 (o_callV (lkN [(18, 150)]) 0 359)))
  (tn 361 (tl 359 (aP (f_iload 5 361)))
  (tn 364 (tl 361 (aP (f_icmp (fun x y => decide (x = y)) 366 364)))
  (tl 364 (aP (f_const (.int (nI 0)) 365))))))
  (tn 368 (tn 366 (tl 365 (o_iret (fun x => x == 0 || x == 1)))
  (tl 366 (aP (f_iload 5 368))))
  (tn 371 (tl 368 (aP (f_if (fun x => decide (¬ x = 0)) 383 371)))
  (tn 372 (tl 371 (aP (f_aload 3 372)))
  (tl 372 (aP (f_const (.int (nI 0)) 373))))))))
  (tn 390 (tn 381 (tn 376 (tn 374 (tl 373 (aP (f_lald 2 374)))
  (tl 374 (aP (f_iload 6 376))))
  (tn 377 (tl 376 (aP (f_i2l 377)))
  (tn 378 (tl 377 (aP (f_lcmp 378)))
  (tl 378 (aP (f_if (fun x => decide (x = 0)) 383 381))))))
  (tn 383 (tn 382 (tl 381 (aP (f_const (.int (nI 0)) 382)))
  (tl 382 (o_iret (fun x => x == 0 || x == 1))))
  (tn 386 (tl 383 (aP (f_goto 2150)))
  (tn 387 (tl 386 (aP (f_aload 1 387)))
  (tl 387 (o_callV (lkN [(0, 29)]) 0 390))))))
  (tn 399 (tn 394 (tn 391 (tl 390 (aP (f_aload 2 391)))
  (tl 391 (o_callV (lkN [(18, 186)]) 0 394)))
  (tn 397 (tl 394 (aP (f_icmp (fun x y => decide (x = y)) 2150 397)))
  (tn 398 (tl 397 (aP (f_const (.int (nI 0)) 398)))
  (tl 398 (o_iret (fun x => x == 0 || x == 1))))))
  (tn 403 (tn 400 (tl 399 (aP (f_aload 1 400)))
  (tn 401 (tl 400 (aP (f_aload 0 401)))
  (tl 401 (aP (f_iload 4 403)))))
  (tn 404 (tl 403 (aP (f_const (.int (nI 1)) 404)))
  (tn 405 (tl 404 (aP (f_bin (fun x y => x + y) 405)))
  (tl 405 (aP (f_iald 0 406)))))))))))
  (tn 523 (tn 468 (tn 434 (tn 420 (tn 412 (tn 409 (tn 407 (tl 406 (aP (f_aload 0 407)))
  (tl 407 (aP (f_iload 4 409))))
  (tn 410 (tl 409 (aP (f_const (.int (nI 2)) 410)))
  (tn 411 (tl 410 (aP (f_bin (fun x y => x + y) 411)))
  (tl 411 (aP (f_iald 0 412))))))
  (tn 416 (tn 413 (tl 412 (aP (f_aload 3 413)))
  (tl 413 (o_callS 2 4 416)))
  (tn 418 (tl 416 (aP (f_istore 5 418)))
  (tn 419 (tl 418 (aP (f_aload 2 419)))
  (tl 419 (aP (f_aload 0 420)))))))
  (tn 426 (tn 423 (tn 422 (tl 420 (aP (f_iload 4 422)))
  (tl 422 (aP (f_const (.int (nI 1)) 423))))
  (tn 424 (tl 423 (aP (f_bin (fun x y => x + y) 424)))
  (tn 425 (tl 424 (aP (f_iald 0 425)))
  (tl 425 (aP (f_aload 0 426))))))
  (tn 429 (tn 428 (tl 426 (aP (f_iload 4 428)))
  (tl 428 (aP (f_const (.int (nI 2)) 429))))
  (tn 430 (tl 429 (aP (f_bin (fun x y => x + y) 430)))
  (tn 431 (tl 430 (aP (f_iald 0 431)))
  (tl 431 (o_callV (lkN [(18, 187)]) 2 434)))))))
  (tn 453 (tn 445 (tn 437 (tn 436 (tl 434 (aP (f_istore 6 436)))
  (tl 436 (aP (f_aload 2 437))))
  (tn 440 (tl 437 (o_callV (lkN [(18, 150)]) 0 440))
  (tn 442 (tl 440 (aP (f_iload 5 442)))
  (tl 442 (aP (f_icmp (fun x y => decide (x = y)) 447 445))))))
  (tn 447 (tn 446 (tl 445 (aP (f_const (.int (nI 0)) 446)))
  (tl 446 (o_iret (fun x => x == 0 || x == 1))))
  (tn 449 (tl 447 (aP (f_iload 5 449)))
  (tn 452 (tl 449 (aP (f_if (fun x => decide (¬ x = 0)) 464 452)))
  (tl 452 (aP (f_aload 3 453)))))))
  (tn 459 (tn 455 (tn 454 (tl 453 (aP (f_const (.int (nI 0)) 454)))
  (tl 454 (aP (f_lald 2 455))))
  (tn 457 (tl 455 (aP (f_iload 6 457)))
  (tn 458 (tl 457 (aP (f_i2l 458)))
  (tl 458 (aP (f_lcmp 459))))))
  (tn 463 (tn 462 (tl 459 (aP (f_if (fun x => decide (x = 0)) 464 462)))
  (tl 462 (aP (f_const (.int (nI 0)) 463))))
  (tn 464 (tl 463 (o_iret (fun x => x == 0 || x == 1)))
  (tn 467 (tl 464 (aP (f_goto 2150)))
  (tl 467 (aP (f_aload 1 468)))))))))
  (tn 492 (tn 480 (tn 474 (tn 471 (tn 469 (tl 468 (aP (f_aload 0 469)))
  (tl 469 (aP (f_iload 4 471))))
  (tn 472 (tl 471 (aP (f_const (.int (nI 1)) 472)))
  (tn 473 (tl 472 (aP (f_bin (fun x y => x + y) 473)))
  (tl 473 (aP (f_iald 0 474))))))
  (tn 477 (tn 475 (tl 474 (aP (f_aload 0 475)))
  (tl 475 (aP (f_iload 4 477))))
  (tn 478 (tl 477 (aP (f_const (.int (nI 2)) 478)))
  (tn 479 (tl 478 (aP (f_bin (fun x y => x + y) 479)))
  (tl 479 (aP (f_iald 0 480)))))))
  (tn 486 (tn 483 (tn 481 (tl 480 (aP (f_aload 0 481)))
  (tl 481 (aP (f_iload 4 483))))
  (tn 484 (tl 483 (aP (f_const (.int (nI 3)) 484)))
  (tn 485 (tl 484 (aP (f_bin (fun x y => x + y) 485)))
  (tl 485 (aP (f_iald 0 486))))))
  (tn 489 (tn 487 (tl 486 (aP (f_aload 0 487)))
  (tl 487 (aP (f_iload 4 489))))
  (tn 490 (tl 489 (aP (f_const (.int (nI 4)) 490)))
  (tn 491 (tl 490 (aP (f_bin (fun x y => x + y) 491)))
  (tl 491 (aP (f_iald 0 492))))))))
  (tn 507 (tn 498 (tn 495 (tn 493 (tl 492 (aP (f_aload 0 493)))
  (tl 493 (aP (f_iload 4 495))))
  (tn 496 (tl 495 (aP (f_const (.int (nI 5)) 496)))
  (tn 497 (tl 496 (aP (f_bin (fun x y => x + y) 497)))
  (tl 497 (aP (f_iald 0 498))))))
  (tn 502 (tn 501 (tl 498 (aP (f_if (fun x => decide (x = 0)) 505 501)))
  (tl 501 (aP (f_const (.int (nI 1)) 502))))
  (tn 505 (tl 502 (aP (f_goto 506)))
  (tn 506 (tl 505 (aP (f_const (.int (nI 0)) 506)))
  (tl 506 (aP (f_aload 3 507)))))))
  (tn 516 (tn 512 (tn 510 (tl 507 (o_callS 3 7 510))
  (tl 510 (aP (f_istore 5 512))))
  (tn 513 (tl 512 (aP (f_aload 2 513)))
  (tn 514 (tl 513 (aP (f_aload 0 514)))
  (tl 514 (aP (f_iload 4 516))))))
  (tn 519 (tn 517 (tl 516 (aP (f_const (.int (nI 1)) 517)))
  (tn 518 (tl 517 (aP (f_bin (fun x y => x + y) 518)))
  (tl 518 (aP (f_iald 0 519)))))
  (tn 520 (tl 519 (aP (f_aload 0 520)))
  (tn 522 (tl 520 (aP (f_iload 4 522)))
  (tl 522 (aP (f_const (.int (nI 2)) 523))))))))))
  (tn 587 (tn 550 (tn 535 (tn 529 (tn 525 (tn 524 (tl 523 (aP (f_bin (fun x y => x + y) 524)))
  (tl 524 (aP (f_iald 0 525))))
  (tn 526 (tl 525 (aP (f_aload 0 526)))
  (tn 528 (tl 526 (aP (f_iload 4 528)))
  (tl 528 (aP (f_const (.int (nI 3)) 529))))))
  (tn 531 (tn 530 (tl 529 (aP (f_bin (fun x y => x + y) 530)))
  (tl 530 (aP (f_iald 0 531))))
  (tn 532 (tl 531 (aP (f_aload 0 532)))
  (tn 534 (tl 532 (aP (f_iload 4 534)))
  (tl 534 (aP (f_const (.int (nI 4)) 535)))))))
  (tn 541 (tn 537 (tn 536 (tl 535 (aP (f_bin (fun x y => x + y) 536)))
  (tl 536 (aP (f_iald 0 537))))
  (tn 538 (tl 537 (aP (f_aload 0 538)))
  (tn 540 (tl 538 (aP (f_iload 4 540)))
  (tl 540 (aP (f_const (.int (nI 5)) 541))))))
  (tn 543 (tn 542 (tl 541 (aP (f_bin (fun x y => x + y) 542)))
  (tl 542 (aP (f_iald 0 543))))
  (tn 546 (tl 543 (aP (f_if (fun x => decide (x = 0)) 550 546)))
  (tn 547 (tl 546 (aP (f_const (.int (nI 1)) 547)))
  (tl 547 (aP (f_goto 551))))))))
  (tn 569 (tn 560 (tn 554 (tn 551 (tl 550 (aP (f_const (.int (nI 0)) 551)))
  (tl 551 (o_callV (lkN [(18, 189)]) 5 554)))
  (tn 556 (tl 554 (aP (f_istore 6 556)))
  (tn 557 (tl 556 (aP (f_aload 2 557)))
  (tl 557 (o_callV (lkN [(18, 150)]) 0 560)))))
  (tn 565 (tn 562 (tl 560 (aP (f_iload 5 562)))
  (tl 562 (aP (f_icmp (fun x y => decide (x = y)) 567 565))))
  (tn 566 (tl 565 (aP (f_const (.int (nI 0)) 566)))
  (tn 567 (tl 566 (o_iret (fun x => x == 0 || x == 1)))
  (tl 567 (aP (f_iload 5 569)))))))
  (tn 577 (tn 573 (tn 572 (tl 569 (aP (f_if (fun x => decide (¬ x = 0)) 584 572)))
  (tl 572 (aP (f_aload 3 573))))
  (tn 574 (tl 573 (aP (f_const (.int (nI 0)) 574)))
  (tn 575 (tl 574 (aP (f_lald 2 575)))
  (tl 575 (aP (f_iload 6 577))))))
  (tn 582 (tn 578 (tl 577 (aP (f_i2l 578)))
  (tn 579 (tl 578 (aP (f_lcmp 579)))
  (tl 579 (aP (f_if (fun x => decide (x = 0)) 584 582)))))
  (tn 583 (tl 582 (aP (f_const (.int (nI 0)) 583)))
  (tn 584 (tl 583 (o_iret (fun x => x == 0 || x == 1)))
  (tl 584 (aP (f_goto 2150)))))))))
  (tn 613 (tn 599 (tn 593 (tn 589 (tn 588 (tl 587 (aP (f_aload 1 588)))
  (tl 588 (aP (f_aload 0 589))))
  (tn 591 (tl 589 (aP (f_iload 4 591)))
  (tn 592 (tl 591 (aP (f_const (.int (nI 1)) 592)))
  (tl 592 (aP (f_bin (fun x y => x + y) 593))))))
  (tn 595 (tn 594 (tl 593 (aP (f_iald 0 594)))
  (tl 594 (aP (f_aload 0 595))))
  (tn 597 (tl 595 (aP (f_iload 4 597)))
  (tn 598 (tl 597 (aP (f_const (.int (nI 2)) 598)))
  (tl 598 (aP (f_bin (fun x y => x + y) 599)))))))
  (tn 607 (tn 601 (tn 600 (tl 599 (aP (f_iald 0 600)))
  (tl 600 (aP (f_aload 3 601))))
  (tn 604 (tl 601 (o_callS 4 4 604))
  (tn 606 (tl 604 (aP (f_istore 5 606)))
  (tl 606 (aP (f_aload 2 607))))))
  (tn 610 (tn 608 (tl 607 (aP (f_aload 0 608)))
  (tl 608 (aP (f_iload 4 610))))
  (tn 611 (tl 610 (aP (f_const (.int (nI 1)) 611)))
  (tn 612 (tl 611 (aP (f_bin (fun x y => x + y) 612)))
  (tl 612 (aP (f_iald 0 613))))))))
  (tn 630 (tn 619 (tn 616 (tn 614 (tl 613 (aP (f_aload 0 614)))
  (tl 614 (aP (f_iload 4 616))))
  (tn 617 (tl 616 (aP (f_const (.int (nI 2)) 617)))
  (tn 618 (tl 617 (aP (f_bin (fun x y => x + y) 618)))
  (tl 618 (aP (f_iald 0 619))))))
  (tn 624 (tn 622 (tl 619 (o_callV (lkN [(18, 190)]) 2 622))
  (tl 622 (aP (f_istore 6 624))))
  (tn 625 (tl 624 (aP (f_aload 2 625)))
  (tn 628 (tl 625 (o_callV (lkN [(18, 150)]) 0 628))
  (tl 628 (aP (f_iload 5 630)))))))
  (tn 640 (tn 634 (tn 633 (tl 630 (aP (f_icmp (fun x y => decide (x = y)) 635 633)))
  (tl 633 (aP (f_const (.int (nI 0)) 634))))
  (tn 635 (tl 634 (o_iret (fun x => x == 0 || x == 1)))
  (tn 637 (tl 635 (aP (f_iload 5 637)))
  (tl 637 (aP (f_if (fun x => decide (¬ x = 0)) 652 640))))))
  (tn 643 (tn 641 (tl 640 (aP (f_aload 3 641)))
  (tn 642 (tl 641 (aP (f_const (.int (nI 0)) 642)))
  (tl 642 (aP (f_lald 2 643)))))
  (tn 645 (tl 643 (aP (f_iload 6 645)))
  (tn 646 (tl 645 (aP (f_i2l 646)))
  (tl 646 (aP (f_lcmp 647))))))))))))
  (tn 899 (tn 775 (tn 712 (tn 678 (tn 662 (tn 656 (tn 651 (tn 650 (tl 647 (aP (f_if (fun x => decide (x = 0)) 652 650)))
  (tl 650 (aP (f_const (.int (nI 0)) 651))))
  (tn 652 (tl 651 (o_iret (fun x => x == 0 || x == 1)))
  (tn 655 (tl 652 (aP (f_goto 2150)))
  (tl 655 (aP (f_aload 1 656))))))
  (tn 659 (tn 657 (tl 656 (aP (f_aload 0 657)))
  (tl 657 (aP (f_iload 4 659))))
  (tn 660 (tl 659 (aP (f_const (.int (nI 1)) 660)))
  (tn 661 (tl 660 (aP (f_bin (fun x y => x + y) 661)))
  (tl 661 (aP (f_iald 0 662)))))))
  (tn 670 (tn 666 (tn 663 (tl 662 (aP (f_aload 3 663)))
  (tl 663 (o_callS 5 3 666)))
  (tn 668 (tl 666 (aP (f_istore 5 668)))
  (tn 669 (tl 668 (aP (f_aload 2 669)))
  (tl 669 (aP (f_aload 0 670))))))
  (tn 673 (tn 672 (tl 670 (aP (f_iload 4 672)))
  (tl 672 (aP (f_const (.int (nI 1)) 673))))
  (tn 674 (tl 673 (aP (f_bin (fun x y => x + y) 674)))
  (tn 675 (tl 674 (aP (f_iald 0 675)))
  (tl 675 (o_callV (lkN [(18, 192)]) 1 678)))))))
  (tn 697 (tn 689 (tn 681 (tn 680 (tl 678 (aP (f_istore 6 680)))
  (tl 680 (aP (f_aload 2 681))))
  (tn 684 (tl 681 (o_callV (lkN [(18, 150)]) 0 684))
  (tn 686 (tl 684 (aP (f_iload 5 686)))
  (tl 686 (aP (f_icmp (fun x y => decide (x = y)) 691 689))))))
  (tn 691 (tn 690 (tl 689 (aP (f_const (.int (nI 0)) 690)))
  (tl 690 (o_iret (fun x => x == 0 || x == 1))))
  (tn 693 (tl 691 (aP (f_iload 5 693)))
  (tn 696 (tl 693 (aP (f_if (fun x => decide (¬ x = 0)) 708 696)))
  (tl 696 (aP (f_aload 3 697)))))))
  (tn 703 (tn 699 (tn 698 (tl 697 (aP (f_const (.int (nI 0)) 698)))
  (tl 698 (aP (f_lald 2 699))))
  (tn 701 (tl 699 (aP (f_iload 6 701)))
  (tn 702 (tl 701 (aP (f_i2l 702)))
  (tl 702 (aP (f_lcmp 703))))))
  (tn 707 (tn 706 (tl 703 (aP (f_if (fun x => decide (x = 0)) 708 706)))
  (tl 706 (aP (f_const (.int (nI 0)) 707))))
  (tn 708 (tl 707 (o_iret (fun x => x == 0 || x == 1)))
  (tn 711 (tl 708 (aP (f_goto 2150)))
  (tl 711 (aP (f_aload 1 712)))))))))
  (tn 745 (tn 726 (tn 718 (tn 715 (tn 713 (tl 712 (aP (f_aload 0 713)))
  (tl 713 (aP (f_iload 4 715))))
  (tn 716 (tl 715 (aP (f_const (.int (nI 1)) 716)))
  (tn 717 (tl 716 (aP (f_bin (fun x y => x + y) 717)))
  (tl 717 (aP (f_iald 0 718))))))
  (tn 722 (tn 719 (tl 718 (aP (f_aload 3 719)))
  (tl 719 (o_callS 6 3 722)))
  (tn 724 (tl 722 (aP (f_istore 5 724)))
  (tn 725 (tl 724 (aP (f_aload 2 725)))
  (tl 725 (aP (f_aload 0 726)))))))
  (tn 734 (tn 729 (tn 728 (tl 726 (aP (f_iload 4 728)))
  (tl 728 (aP (f_const (.int (nI 1)) 729))))
  (tn 730 (tl 729 (aP (f_bin (fun x y => x + y) 730)))
  (tn 731 (tl 730 (aP (f_iald 0 731)))
  (tl 731 (o_callV (lkN [(18, 193)]) 1 734)))))
  (tn 737 (tn 736 (tl 734 (aP (f_istore 6 736)))
  (tl 736 (aP (f_aload 2 737))))
  (tn 740 (tl 737 (o_callV (lkN [(18, 150)]) 0 740))
  (tn 742 (tl 740 (aP (f_iload 5 742)))
  (tl 742 (aP (f_icmp (fun x y => decide (x = y)) 747 745))))))))
  (tn 759 (tn 753 (tn 747 (tn 746 (tl 745 (aP (f_const (.int (nI 0)) 746)))
  (tl 746 (o_iret (fun x => x == 0 || x == 1))))
  (tn 749 (tl 747 (aP (f_iload 5 749)))
  (tn 752 (tl 749 (aP (f_if (fun x => decide (¬ x = 0)) 764 752)))
  (tl 752 (aP (f_aload 3 753))))))
  (tn 755 (tn 754 (tl 753 (aP (f_const (.int (nI 0)) 754)))
  (tl 754 (aP (f_lald 2 755))))
  (tn 757 (tl 755 (aP (f_iload 6 757)))
  (tn 758 (tl 757 (aP (f_i2l 758)))
  (tl 758 (aP (f_lcmp 759)))))))
  (tn 768 (tn 763 (tn 762 (tl 759 (aP (f_if (fun x => decide (x = 0)) 764 762)))
  (tl 762 (aP (f_const (.int (nI 0)) 763))))
  (tn 764 (tl 763 (o_iret (fun x => x == 0 || x == 1)))
  (tn 767 (tl 764 (aP (f_goto 2150)))
  (tl 767 (aP (f_aload 1 768))))))
  (tn 772 (tn 769 (tl 768 (aP (f_aload 0 769)))
  (tn 771 (tl 769 (aP (f_iload 4 771)))
  (tl 771 (aP (f_const (.int (nI 1)) 772)))))
  (tn 773 (tl 772 (aP (f_bin (fun x y => x + y) 773)))
  (tn 774 (tl 773 (aP (f_iald 0 774)))
  (tl 774 (aP (f_aload 0 775))))))))))
  (tn 837 (tn 804 (tn 790 (tn 781 (tn 778 (tn 777 (tl 775 (aP (f_iload 4 777)))
  (tl 777 (aP (f_const (.int (nI 2)) 778))))
  (tn 779 (tl 778 (aP (f_bin (fun x y => x + y) 779)))
  (tn 780 (tl 779 (aP (f_iald 0 780)))
  (tl 780 (aP (f_aload 3 781))))))
  (tn 786 (tn 784 (tl 781 (o_callS 7 4 784))
  (tl 784 (aP (f_istore 5 786))))
  (tn 787 (tl 786 (aP (f_aload 2 787)))
  (tn 788 (tl 787 (aP (f_aload 0 788)))
  (tl 788 (aP (f_iload 4 790)))))))
  (tn 796 (tn 792 (tn 791 (tl 790 (aP (f_const (.int (nI 1)) 791)))
  (tl 791 (aP (f_bin (fun x y => x + y) 792))))
  (tn 793 (tl 792 (aP (f_iald 0 793)))
  (tn 794 (tl 793 (aP (f_aload 0 794)))
  (tl 794 (aP (f_iload 4 796))))))
  (tn 798 (tn 797 (tl 796 (aP (f_const (.int (nI 2)) 797)))
  (tl 797 (aP (f_bin (fun x y => x + y) 798))))
  (tn 799 (tl 798 (aP (f_iald 0 799)))
  (tn 802 (tl 799 (o_callV (lkN [(18, 194)]) 2 802))
  (tl 802 (aP (f_istore 6 804))))))))
  (tn 822 (tn 814 (tn 808 (tn 805 (tl 804 (aP (f_aload 2 805)))
  (tl 805 (o_callV (lkN [(18, 150)]) 0 808)))
  (tn 810 (tl 808 (aP (f_iload 5 810)))
  (tn 813 (tl 810 (aP (f_icmp (fun x y => decide (x = y)) 815 813)))
  (tl 813 (aP (f_const (.int (nI 0)) 814))))))
  (tn 817 (tn 815 (tl 814 (o_iret (fun x => x == 0 || x == 1)))
  (tl 815 (aP (f_iload 5 817))))
  (tn 820 (tl 817 (aP (f_if (fun x => decide (¬ x = 0)) 832 820)))
  (tn 821 (tl 820 (aP (f_aload 3 821)))
  (tl 821 (aP (f_const (.int (nI 0)) 822)))))))
  (tn 830 (tn 825 (tn 823 (tl 822 (aP (f_lald 2 823)))
  (tl 823 (aP (f_iload 6 825))))
  (tn 826 (tl 825 (aP (f_i2l 826)))
  (tn 827 (tl 826 (aP (f_lcmp 827)))
  (tl 827 (aP (f_if (fun x => decide (x = 0)) 832 830))))))
  (tn 832 (tn 831 (tl 830 (aP (f_const (.int (nI 0)) 831)))
  (tl 831 (o_iret (fun x => x == 0 || x == 1))))
  (tn 835 (tl 832 (aP (f_goto 2150)))
  (tn 836 (tl 835 (aP (f_aload 1 836)))
  (tl 836 (aP (f_aload 0 837)))))))))
  (tn 864 (tn 849 (tn 843 (tn 840 (tn 839 (tl 837 (aP (f_iload 4 839)))
  (tl 839 (aP (f_const (.int (nI 1)) 840))))
  (tn 841 (tl 840 (aP (f_bin (fun x y => x + y) 841)))
  (tn 842 (tl 841 (aP (f_iald 0 842)))
  (tl 842 (aP (f_aload 0 843))))))
  (tn 846 (tn 845 (tl 843 (aP (f_iload 4 845)))
  (tl 845 (aP (f_const (.int (nI 2)) 846))))
  (tn 847 (tl 846 (aP (f_bin (fun x y => x + y) 847)))
  (tn 848 (tl 847 (aP (f_iald 0 848)))
  (tl 848 (aP (f_aload 3 849)))))))
  (tn 858 (tn 854 (tn 852 (tl 849 (o_callS 8 4 852))
  (tl 852 (aP (f_istore 5 854))))
  (tn 855 (tl 854 (aP (f_aload 2 855)))
  (tn 856 (tl 855 (aP (f_aload 0 856)))
  (tl 856 (aP (f_iload 4 858))))))
  (tn 860 (tn 859 (tl 858 (aP (f_const (.int (nI 1)) 859)))
  (tl 859 (aP (f_bin (fun x y => x + y) 860))))
  (tn 861 (tl 860 (aP (f_iald 0 861)))
  (tn 862 (tl 861 (aP (f_aload 0 862)))
  (tl 862 (aP (f_iload 4 864))))))))
  (tn 882 (tn 872 (tn 866 (tn 865 (tl 864 (aP (f_const (.int (nI 2)) 865)))
  (tl 865 (aP (f_bin (fun x y => x + y) 866))))
  (tn 867 (tl 866 (aP (f_iald 0 867)))
  (tn 870 (tl 867 (o_callV (lkN [(18, 195)]) 2 870))
  (tl 870 (aP (f_istore 6 872))))))
  (tn 876 (tn 873 (tl 872 (aP (f_aload 2 873)))
  (tl 873 (o_callV (lkN [(18, 150)]) 0 876)))
  (tn 878 (tl 876 (aP (f_iload 5 878)))
  (tn 881 (tl 878 (aP (f_icmp (fun x y => decide (x = y)) 883 881)))
  (tl 881 (aP (f_const (.int (nI 0)) 882)))))))
  (tn 890 (tn 885 (tn 883 (tl 882 (o_iret (fun x => x == 0 || x == 1)))
  (tl 883 (aP (f_iload 5 885))))
  (tn 888 (tl 885 (aP (f_if (fun x => decide (¬ x = 0)) 900 888)))
  (tn 889 (tl 888 (aP (f_aload 3 889)))
  (tl 889 (aP (f_const (.int (nI 0)) 890))))))
  (tn 894 (tn 891 (tl 890 (aP (f_lald 2 891)))
  (tn 893 (tl 891 (aP (f_iload 6 893)))
  (tl 893 (aP (f_i2l 894)))))
  (tn 895 (tl 894 (aP (f_lcmp 895)))
  (tn 898 (tl 895 (aP (f_if (fun x => decide (x = 0)) 900 898)))
  (tl 898 (aP (f_const (.int (nI 0)) 899)))))))))))
  (tn 1026 (tn 959 (tn 927 (tn 913 (tn 907 (tn 903 (tn 900 (tl 899 (o_iret (fun x => x == 0 || x == 1)))
  (tl 900 (aP (f_goto 2150))))
  (tn 904 (tl 903 (aP (f_aload 1 904)))
  (tn 905 (tl 904 (aP (f_aload 0 905)))
  (tl 905 (aP (f_iload 4 907))))))
  (tn 909 (tn 908 (tl 907 (aP (f_const (.int (nI 1)) 908)))
  (tl 908 (aP (f_bin (fun x y => x + y) 909))))
  (tn 910 (tl 909 (aP (f_iald 0 910)))
  (tn 911 (tl 910 (aP (f_aload 0 911)))
  (tl 911 (aP (f_iload 4 913)))))))
  (tn 920 (tn 915 (tn 914 (tl 913 (aP (f_const (.int (nI 2)) 914)))
  (tl 914 (aP (f_bin (fun x y => x + y) 915))))
  (tn 916 (tl 915 (aP (f_iald 0 916)))
  (tn 917 (tl 916 (aP (f_aload 3 917)))
  (tl 917 (o_callS 9 4 920)))))
  (tn 923 (tn 922 (tl 920 (aP (f_istore 5 922)))
  (tl 922 (aP (f_aload 2 923))))
  (tn 924 (tl 923 (aP (f_aload 0 924)))
  (tn 926 (tl 924 (aP (f_iload 4 926)))
  (tl 926 (aP (f_const (.int (nI 1)) 927))))))))
  (tn 941 (tn 933 (tn 929 (tn 928 (tl 927 (aP (f_bin (fun x y => x + y) 928)))
  (tl 928 (aP (f_iald 0 929))))
  (tn 930 (tl 929 (aP (f_aload 0 930)))
  (tn 932 (tl 930 (aP (f_iload 4 932)))
  (tl 932 (aP (f_const (.int (nI 2)) 933))))))
  (tn 935 (tn 934 (tl 933 (aP (f_bin (fun x y => x + y) 934)))
  (tl 934 (aP (f_iald 0 935))))
  (tn 938 (tl 935 (o_callV (lkN [(18, 196)]) 2 938))
  (tn 940 (tl 938 (aP (f_istore 6 940)))
  (tl 940 (aP (f_aload 2 941)))))))
  (tn 951 (tn 946 (tn 944 (tl 941 (o_callV (lkN [(18, 150)]) 0 944))
  (tl 944 (aP (f_iload 5 946))))
  (tn 949 (tl 946 (aP (f_icmp (fun x y => decide (x = y)) 951 949)))
  (tn 950 (tl 949 (aP (f_const (.int (nI 0)) 950)))
  (tl 950 (o_iret (fun x => x == 0 || x == 1))))))
  (tn 956 (tn 953 (tl 951 (aP (f_iload 5 953)))
  (tl 953 (aP (f_if (fun x => decide (¬ x = 0)) 975 956))))
  (tn 957 (tl 956 (aP (f_aload 3 957)))
  (tn 958 (tl 957 (aP (f_const (.int (nI 0)) 958)))
  (tl 958 (aP (f_lald 2 959)))))))))
  (tn 992 (tn 978 (tn 969 (tn 964 (tn 961 (tl 959 (aP (f_iload 6 961)))
  (tl 961 (aP (f_if (fun x => decide (x = 0)) 968 964))))
  (tn 965 (tl 964 (aP (f_const (.long 1) 965)))
  (tn 968 (tl 965 (aP (f_goto 969)))
  (tl 968 (aP (f_const (.long 0) 969))))))
  (tn 973 (tn 970 (tl 969 (aP (f_lcmp 970)))
  (tl 970 (aP (f_if (fun x => decide (x = 0)) 975 973))))
  (tn 974 (tl 973 (aP (f_const (.int (nI 0)) 974)))
  (tn 975 (tl 974 (o_iret (fun x => x == 0 || x == 1)))
  (tl 975 (aP (f_goto 2150)))))))
  (tn 984 (tn 980 (tn 979 (tl 978 (aP (f_aload 1 979)))
  (tl 979 (aP (f_aload 0 980))))
  (tn 982 (tl 980 (aP (f_iload 4 982)))
  (tn 983 (tl 982 (aP (f_const (.int (nI 1)) 983)))
  (tl 983 (aP (f_bin (fun x y => x + y) 984))))))
  (tn 986 (tn 985 (tl 984 (aP (f_iald 0 985)))
  (tl 985 (aP (f_aload 3 986))))
  (tn 989 (tl 986 (o_callS 10 3 989))
  (tn 991 (tl 989 (aP (f_istore 5 991)))
  (tl 991 (aP (f_aload 2 992))))))))
  (tn 1009 (tn 998 (tn 995 (tn 993 (tl 992 (aP (f_aload 0 993)))
  (tl 993 (aP (f_iload 4 995))))
  (tn 996 (tl 995 (aP (f_const (.int (nI 1)) 996)))
  (tn 997 (tl 996 (aP (f_bin (fun x y => x + y) 997)))
  (tl 997 (aP (f_iald 0 998))))))
  (tn 1003 (tn 1001 (tl 998 (o_callV (lkN [(18, 197)]) 1 1001))
  (tl 1001 (aP (f_istore 6 1003))))
  (tn 1004 (tl 1003 (aP (f_aload 2 1004)))
  (tn 1007 (tl 1004 (o_callV (lkN [(18, 150)]) 0 1007))
  (tl 1007 (aP (f_iload 5 1009)))))))
  (tn 1019 (tn 1013 (tn 1012 (tl 1009 (aP (f_icmp (fun x y => decide (x = y)) 1014 1012)))
  (tl 1012 (aP (f_const (.int (nI 0)) 1013))))
  (tn 1014 (tl 1013 (o_iret (fun x => x == 0 || x == 1)))
  (tn 1016 (tl 1014 (aP (f_iload 5 1016)))
  (tl 1016 (aP (f_if (fun x => decide (¬ x = 0)) 1031 1019))))))
  (tn 1022 (tn 1020 (tl 1019 (aP (f_aload 3 1020)))
  (tn 1021 (tl 1020 (aP (f_const (.int (nI 0)) 1021)))
  (tl 1021 (aP (f_lald 2 1022)))))
  (tn 1024 (tl 1022 (aP (f_iload 6 1024)))
  (tn 1025 (tl 1024 (aP (f_i2l 1025)))
  (tl 1025 (aP (f_lcmp 1026))))))))))
  (tn 1092 (tn 1057 (tn 1041 (tn 1035 (tn 1030 (tn 1029 (tl 1026 (aP (f_if (fun x => decide (x = 0)) 1031 1029)))
  (tl 1029 (aP (f_const (.int (nI 0)) 1030))))
  (tn 1031 (tl 1030 (o_iret (fun x => x == 0 || x == 1)))
  (tn 1034 (tl 1031 (aP (f_goto 2150)))
  (tl 1034 (aP (f_aload 1 1035))))))
  (tn 1038 (tn 1036 (tl 1035 (aP (f_aload 0 1036)))
  (tl 1036 (aP (f_iload 4 1038))))
  (tn 1039 (tl 1038 (aP (f_const (.int (nI 1)) 1039)))
  (tn 1040 (tl 1039 (aP (f_bin (fun x y => x + y) 1040)))
  (tl 1040 (aP (f_iald 0 1041)))))))
  (tn 1049 (tn 1045 (tn 1042 (tl 1041 (aP (f_aload 3 1042)))
  (tl 1042 (o_callS 11 3 1045)))
  (tn 1047 (tl 1045 (aP (f_istore 5 1047)))
  (tn 1048 (tl 1047 (aP (f_aload 2 1048)))
  (tl 1048 (aP (f_aload 0 1049))))))
  (tn 1052 (tn 1051 (tl 1049 (aP (f_iload 4 1051)))
  (tl 1051 (aP (f_const (.int (nI 1)) 1052))))
  (tn 1053 (tl 1052 (aP (f_bin (fun x y => x + y) 1053)))
  (tn 1054 (tl 1053 (aP (f_iald 0 1054)))
  (tl 1054 (o_callV (lkN [(18, 198)]) 1 1057)))))))
  (tn 1076 (tn 1068 (tn 1060 (tn 1059 (tl 1057 (aP (f_istore 6 1059)))
  (tl 1059 (aP (f_aload 2 1060))))
  (tn 1063 (tl 1060 (o_callV (lkN [(18, 150)]) 0 1063))
  (tn 1065 (tl 1063 (aP (f_iload 5 1065)))
  (tl 1065 (aP (f_icmp (fun x y => decide (x = y)) 1070 1068))))))
  (tn 1070 (tn 1069 (tl 1068 (aP (f_const (.int (nI 0)) 1069)))
  (tl 1069 (o_iret (fun x => x == 0 || x == 1))))
  (tn 1072 (tl 1070 (aP (f_iload 5 1072)))
  (tn 1075 (tl 1072 (aP (f_if (fun x => decide (¬ x = 0)) 1087 1075)))
  (tl 1075 (aP (f_aload 3 1076)))))))
  (tn 1082 (tn 1078 (tn 1077 (tl 1076 (aP (f_const (.int (nI 0)) 1077)))
  (tl 1077 (aP (f_lald 2 1078))))
  (tn 1080 (tl 1078 (aP (f_iload 6 1080)))
  (tn 1081 (tl 1080 (aP (f_i2l 1081)))
  (tl 1081 (aP (f_lcmp 1082))))))
  (tn 1087 (tn 1085 (tl 1082 (aP (f_if (fun x => decide (x = 0)) 1087 1085)))
  (tn 1086 (tl 1085 (aP (f_const (.int (nI 0)) 1086)))
  (tl 1086 (o_iret (fun x => x == 0 || x == 1)))))
  (tn 1090 (tl 1087 (aP (f_goto 2150)))
  (tn 1091 (tl 1090 (aP (f_aload 1 1091)))
  (tl 1091 (aP (f_aload 0 1092)))))))))
  (tn 1119 (tn 1104 (tn 1098 (tn 1095 (tn 1094 (tl 1092 (aP (f_iload 4 1094)))
  (tl 1094 (aP (f_const (.int (nI 1)) 1095))))
  (tn 1096 (tl 1095 (aP (f_bin (fun x y => x + y) 1096)))
  (tn 1097 (tl 1096 (aP (f_iald 0 1097)))
  (tl 1097 (aP (f_aload 0 1098))))))
  (tn 1101 (tn 1100 (tl 1098 (aP (f_iload 4 1100)))
  (tl 1100 (aP (f_const (.int (nI 2)) 1101))))
  (tn 1102 (tl 1101 (aP (f_bin (fun x y => x + y) 1102)))
  (tn 1103 (tl 1102 (aP (f_iald 0 1103)))
  (tl 1103 (aP (f_aload 3 1104)))))))
  (tn 1113 (tn 1109 (tn 1107 (tl 1104 (o_callS 12 4 1107))
  (tl 1107 (aP (f_istore 5 1109))))
  (tn 1110 (tl 1109 (aP (f_aload 2 1110)))
  (tn 1111 (tl 1110 (aP (f_aload 0 1111)))
  (tl 1111 (aP (f_iload 4 1113))))))
  (tn 1115 (tn 1114 (tl 1113 (aP (f_const (.int (nI 1)) 1114)))
  (tl 1114 (aP (f_bin (fun x y => x + y) 1115))))
  (tn 1116 (tl 1115 (aP (f_iald 0 1116)))
  (tn 1117 (tl 1116 (aP (f_aload 0 1117)))
  (tl 1117 (aP (f_iload 4 1119))))))))
  (tn 1137 (tn 1127 (tn 1121 (tn 1120 (tl 1119 (aP (f_const (.int (nI 2)) 1120)))
  (tl 1120 (aP (f_bin (fun x y => x + y) 1121))))
  (tn 1122 (tl 1121 (aP (f_iald 0 1122)))
  (tn 1125 (tl 1122 (o_callV (lkN [(18, 199)]) 2 1125))
  (tl 1125 (aP (f_istore 6 1127))))))
  (tn 1131 (tn 1128 (tl 1127 (aP (f_aload 2 1128)))
  (tl 1128 (o_callV (lkN [(18, 150)]) 0 1131)))
  (tn 1133 (tl 1131 (aP (f_iload 5 1133)))
  (tn 1136 (tl 1133 (aP (f_icmp (fun x y => decide (x = y)) 1138 1136)))
  (tl 1136 (aP (f_const (.int (nI 0)) 1137)))))))
  (tn 1145 (tn 1140 (tn 1138 (tl 1137 (o_iret (fun x => x == 0 || x == 1)))
  (tl 1138 (aP (f_iload 5 1140))))
  (tn 1143 (tl 1140 (aP (f_if (fun x => decide (¬ x = 0)) 1155 1143)))
  (tn 1144 (tl 1143 (aP (f_aload 3 1144)))
  (tl 1144 (aP (f_const (.int (nI 0)) 1145))))))
  (tn 1149 (tn 1146 (tl 1145 (aP (f_lald 2 1146)))
  (tn 1148 (tl 1146 (aP (f_iload 6 1148)))
  (tl 1148 (aP (f_i2l 1149)))))
  (tn 1150 (tl 1149 (aP (f_lcmp 1150)))
  (tn 1153 (tl 1150 (aP (f_if (fun x => decide (x = 0)) 1155 1153)))
  (tl 1153 (aP (f_const (.int (nI 0)) 1154)))))))))))))
  (tn 1651 (tn 1405 (tn 1276 (tn 1208 (tn 1181 (tn 1168 (tn 1162 (tn 1158 (tn 1155 (tl 1154 (o_iret (fun x => x == 0 || x == 1)))
  (tl 1155 (aP (f_goto 2150))))
  (tn 1159 (tl 1158 (aP (f_aload 1 1159)))
  (tn 1160 (tl 1159 (aP (f_aload 0 1160)))
  (tl 1160 (aP (f_iload 4 1162))))))
  (tn 1164 (tn 1163 (tl 1162 (aP (f_const (.int (nI 1)) 1163)))
  (tl 1163 (aP (f_bin (fun x y => x + y) 1164))))
  (tn 1165 (tl 1164 (aP (f_iald 0 1165)))
  (tn 1166 (tl 1165 (aP (f_aload 0 1166)))
  (tl 1166 (aP (f_iload 4 1168)))))))
  (tn 1174 (tn 1170 (tn 1169 (tl 1168 (aP (f_const (.int (nI 2)) 1169)))
  (tl 1169 (aP (f_bin (fun x y => x + y) 1170))))
  (tn 1171 (tl 1170 (aP (f_iald 0 1171)))
  (tn 1172 (tl 1171 (aP (f_aload 0 1172)))
  (tl 1172 (aP (f_iload 4 1174))))))
  (tn 1176 (tn 1175 (tl 1174 (aP (f_const (.int (nI 3)) 1175)))
  (tl 1175 (aP (f_bin (fun x y => x + y) 1176))))
  (tn 1177 (tl 1176 (aP (f_iald 0 1177)))
  (tn 1178 (tl 1177 (aP (f_aload 3 1178)))
  (tl 1178 (o_callS 13 5 1181)))))))
  (tn 1194 (tn 1188 (tn 1184 (tn 1183 (tl 1181 (aP (f_istore 5 1183)))
  (tl 1183 (aP (f_aload 2 1184))))
  (tn 1185 (tl 1184 (aP (f_aload 0 1185)))
  (tn 1187 (tl 1185 (aP (f_iload 4 1187)))
  (tl 1187 (aP (f_const (.int (nI 1)) 1188))))))
  (tn 1190 (tn 1189 (tl 1188 (aP (f_bin (fun x y => x + y) 1189)))
  (tl 1189 (aP (f_iald 0 1190))))
  (tn 1191 (tl 1190 (aP (f_aload 0 1191)))
  (tn 1193 (tl 1191 (aP (f_iload 4 1193)))
  (tl 1193 (aP (f_const (.int (nI 2)) 1194)))))))
  (tn 1200 (tn 1196 (tn 1195 (tl 1194 (aP (f_bin (fun x y => x + y) 1195)))
  (tl 1195 (aP (f_iald 0 1196))))
  (tn 1197 (tl 1196 (aP (f_aload 0 1197)))
  (tn 1199 (tl 1197 (aP (f_iload 4 1199)))
  (tl 1199 (aP (f_const (.int (nI 3)) 1200))))))
  (tn 1202 (tn 1201 (tl 1200 (aP (f_bin (fun x y => x + y) 1201)))
  (tl 1201 (aP (f_iald 0 1202))))
  (tn 1205 (tl 1202 (o_callV (lkN [(18, 201)]) 3 1205))
  (tn 1207 (tl 1205 (aP (f_istore 6 1207)))
  (tl 1207 (aP (f_aload 2 1208)))))))))
  (tn 1242 (tn 1226 (tn 1218 (tn 1213 (tn 1211 (tl 1208 (o_callV (lkN [(18, 150)]) 0 1211))
  (tl 1211 (aP (f_iload 5 1213))))
  (tn 1216 (tl 1213 (aP (f_icmp (fun x y => decide (x = y)) 1218 1216)))
  (tn 1217 (tl 1216 (aP (f_const (.int (nI 0)) 1217)))
  (tl 1217 (o_iret (fun x => x == 0 || x == 1))))))
  (tn 1223 (tn 1220 (tl 1218 (aP (f_iload 5 1220)))
  (tl 1220 (aP (f_if (fun x => decide (¬ x = 0)) 1235 1223))))
  (tn 1224 (tl 1223 (aP (f_aload 3 1224)))
  (tn 1225 (tl 1224 (aP (f_const (.int (nI 0)) 1225)))
  (tl 1225 (aP (f_lald 2 1226)))))))
  (tn 1234 (tn 1229 (tn 1228 (tl 1226 (aP (f_iload 6 1228)))
  (tl 1228 (aP (f_i2l 1229))))
  (tn 1230 (tl 1229 (aP (f_lcmp 1230)))
  (tn 1233 (tl 1230 (aP (f_if (fun x => decide (x = 0)) 1235 1233)))
  (tl 1233 (aP (f_const (.int (nI 0)) 1234))))))
  (tn 1238 (tn 1235 (tl 1234 (o_iret (fun x => x == 0 || x == 1)))
  (tl 1235 (aP (f_goto 2150))))
  (tn 1239 (tl 1238 (aP (f_aload 1 1239)))
  (tn 1240 (tl 1239 (aP (f_aload 0 1240)))
  (tl 1240 (aP (f_iload 4 1242))))))))
  (tn 1256 (tn 1249 (tn 1244 (tn 1243 (tl 1242 (aP (f_const (.int (nI 1)) 1243)))
  (tl 1243 (aP (f_bin (fun x y => x + y) 1244))))
  (tn 1245 (tl 1244 (aP (f_iald 0 1245)))
  (tn 1246 (tl 1245 (aP (f_aload 3 1246)))
  (tl 1246 (o_callS 14 3 1249)))))
  (tn 1252 (tn 1251 (tl 1249 (aP (f_istore 5 1251)))
  (tl 1251 (aP (f_aload 2 1252))))
  (tn 1253 (tl 1252 (aP (f_aload 0 1253)))
  (tn 1255 (tl 1253 (aP (f_iload 4 1255)))
  (tl 1255 (aP (f_const (.int (nI 1)) 1256)))))))
  (tn 1264 (tn 1258 (tn 1257 (tl 1256 (aP (f_bin (fun x y => x + y) 1257)))
  (tl 1257 (aP (f_iald 0 1258))))
  (tn 1261 (tl 1258 (o_callV (lkN [(18, 204)]) 1 1261))
  (tn 1263 (tl 1261 (aP (f_istore 6 1263)))
  (tl 1263 (aP (f_aload 2 1264))))))
  (tn 1272 (tn 1267 (tl 1264 (o_callV (lkN [(18, 150)]) 0 1267))
  (tn 1269 (tl 1267 (aP (f_iload 5 1269)))
  (tl 1269 (aP (f_icmp (fun x y => decide (x = y)) 1274 1272)))))
  (tn 1273 (tl 1272 (aP (f_const (.int (nI 0)) 1273)))
  (tn 1274 (tl 1273 (o_iret (fun x => x == 0 || x == 1)))
  (tl 1274 (aP (f_iload 5 1276))))))))))
  (tn 1343 (tn 1308 (tn 1293 (tn 1284 (tn 1280 (tn 1279 (tl 1276 (aP (f_if (fun x => decide (¬ x = 0)) 1298 1279)))
  (tl 1279 (aP (f_aload 3 1280))))
  (tn 1281 (tl 1280 (aP (f_const (.int (nI 0)) 1281)))
  (tn 1282 (tl 1281 (aP (f_lald 2 1282)))
  (tl 1282 (aP (f_iload 6 1284))))))
  (tn 1288 (tn 1287 (tl 1284 (aP (f_if (fun x => decide (x = 0)) 1291 1287)))
  (tl 1287 (aP (f_const (.long 1) 1288))))
  (tn 1291 (tl 1288 (aP (f_goto 1292)))
  (tn 1292 (tl 1291 (aP (f_const (.long 0) 1292)))
  (tl 1292 (aP (f_lcmp 1293)))))))
  (tn 1302 (tn 1297 (tn 1296 (tl 1293 (aP (f_if (fun x => decide (x = 0)) 1298 1296)))
  (tl 1296 (aP (f_const (.int (nI 0)) 1297))))
  (tn 1298 (tl 1297 (o_iret (fun x => x == 0 || x == 1)))
  (tn 1301 (tl 1298 (aP (f_goto 2150)))
  (tl 1301 (aP (f_aload 1 1302))))))
  (tn 1305 (tn 1303 (tl 1302 (aP (f_aload 0 1303)))
  (tl 1303 (aP (f_iload 4 1305))))
  (tn 1306 (tl 1305 (aP (f_const (.int (nI 1)) 1306)))
  (tn 1307 (tl 1306 (aP (f_bin (fun x y => x + y) 1307)))
  (tl 1307 (aP (f_iald 0 1308))))))))
  (tn 1324 (tn 1316 (tn 1312 (tn 1309 (tl 1308 (aP (f_aload 3 1309)))
  (tl 1309 (o_callS 15 3 1312)))
  (tn 1314 (tl 1312 (aP (f_istore 5 1314)))
  (tn 1315 (tl 1314 (aP (f_aload 2 1315)))
  (tl 1315 (aP (f_aload 0 1316))))))
  (tn 1319 (tn 1318 (tl 1316 (aP (f_iload 4 1318)))
  (tl 1318 (aP (f_const (.int (nI 1)) 1319))))
  (tn 1320 (tl 1319 (aP (f_bin (fun x y => x + y) 1320)))
  (tn 1321 (tl 1320 (aP (f_iald 0 1321)))
  (tl 1321 (o_callV (lkN [(18, 208)]) 1 1324))))))
  (tn 1335 (tn 1327 (tn 1326 (tl 1324 (aP (f_istore 6 1326)))
  (tl 1326 (aP (f_aload 2 1327))))
  (tn 1330 (tl 1327 (o_callV (lkN [(18, 150)]) 0 1330))
  (tn 1332 (tl 1330 (aP (f_iload 5 1332)))
  (tl 1332 (aP (f_icmp (fun x y => decide (x = y)) 1337 1335))))))
  (tn 1337 (tn 1336 (tl 1335 (aP (f_const (.int (nI 0)) 1336)))
  (tl 1336 (o_iret (fun x => x == 0 || x == 1))))
  (tn 1339 (tl 1337 (aP (f_iload 5 1339)))
  (tn 1342 (tl 1339 (aP (f_if (fun x => decide (¬ x = 0)) 1354 1342)))
  (tl 1342 (aP (f_aload 3 1343)))))))))
  (tn 1372 (tn 1358 (tn 1349 (tn 1345 (tn 1344 (tl 1343 (aP (f_const (.int (nI 0)) 1344)))
  (tl 1344 (aP (f_lald 2 1345))))
  (tn 1347 (tl 1345 (aP (f_iload 6 1347)))
  (tn 1348 (tl 1347 (aP (f_i2l 1348)))
  (tl 1348 (aP (f_lcmp 1349))))))
  (tn 1353 (tn 1352 (tl 1349 (aP (f_if (fun x => decide (x = 0)) 1354 1352)))
  (tl 1352 (aP (f_const (.int (nI 0)) 1353))))
  (tn 1354 (tl 1353 (o_iret (fun x => x == 0 || x == 1)))
  (tn 1357 (tl 1354 (aP (f_goto 2150)))
  (tl 1357 (aP (f_aload 1 1358)))))))
  (tn 1364 (tn 1361 (tn 1359 (tl 1358 (aP (f_aload 0 1359)))
  (tl 1359 (aP (f_iload 4 1361))))
  (tn 1362 (tl 1361 (aP (f_const (.int (nI 1)) 1362)))
  (tn 1363 (tl 1362 (aP (f_bin (fun x y => x + y) 1363)))
  (tl 1363 (aP (f_iald 0 1364))))))
  (tn 1368 (tn 1367 (tl 1364 (o_callV (lkN [(0, 30)]) 1 1367))
  (tl 1367 (aP (f_aload 2 1368))))
  (tn 1369 (tl 1368 (aP (f_aload 0 1369)))
  (tn 1371 (tl 1369 (aP (f_iload 4 1371)))
  (tl 1371 (aP (f_const (.int (nI 1)) 1372))))))))
  (tn 1387 (tn 1381 (tn 1374 (tn 1373 (tl 1372 (aP (f_bin (fun x y => x + y) 1373)))
  (tl 1373 (aP (f_iald 0 1374))))
  (tn 1377 (tl 1374 (o_callV (lkN [(18, 210)]) 1 1377))
  (tn 1380 (tl 1377 (aP (f_icmp (fun x y => decide (x = y)) 2150 1380)))
  (tl 1380 (aP (f_const (.int (nI 0)) 1381))))))
  (tn 1383 (tn 1382 (tl 1381 (o_iret (fun x => x == 0 || x == 1)))
  (tl 1382 (aP (f_aload 1 1383))))
  (tn 1384 (tl 1383 (aP (f_aload 0 1384)))
  (tn 1386 (tl 1384 (aP (f_iload 4 1386)))
  (tl 1386 (aP (f_const (.int (nI 1)) 1387)))))))
  (tn 1394 (tn 1389 (tn 1388 (tl 1387 (aP (f_bin (fun x y => x + y) 1388)))
  (tl 1388 (aP (f_iald 0 1389))))
  (tn 1392 (tl 1389 (o_callV (lkN [(0, 31)]) 1 1392))
  (tn 1393 (tl 1392 (aP (f_aload 2 1393)))
  (tl 1393 (aP (f_aload 0 1394))))))
  (tn 1398 (tn 1396 (tl 1394 (aP (f_iload 4 1396)))
  (tn 1397 (tl 1396 (aP (f_const (.int (nI 1)) 1397)))
  (tl 1397 (aP (f_bin (fun x y => x + y) 1398)))))
  (tn 1399 (tl 1398 (aP (f_iald 0 1399)))
  (tn 1402 (tl 1399 (o_callV (lkN [(18, 213)]) 1 1402))
  (tl 1402 (aP (f_icmp (fun x y => decide (x = y)) 2150 1405)))))))))))
  (tn 1525 (tn 1464 (tn 1435 (tn 1421 (tn 1412 (tn 1407 (tn 1406 (tl 1405 (aP (f_const (.int (nI 0)) 1406)))
  (tl 1406 (o_iret (fun x => x == 0 || x == 1))))
  (tn 1408 (tl 1407 (aP (f_aload 1 1408)))
  (tn 1411 (tl 1408 (o_callV (lkN [(0, 32)]) 0 1411))
  (tl 1411 (aP (f_aload 2 1412))))))
  (tn 1418 (tn 1415 (tl 1412 (o_callV (lkN [(18, 214)]) 0 1415))
  (tl 1415 (aP (f_icmp (fun x y => decide (x = y)) 2150 1418))))
  (tn 1419 (tl 1418 (aP (f_const (.int (nI 0)) 1419)))
  (tn 1420 (tl 1419 (o_iret (fun x => x == 0 || x == 1)))
  (tl 1420 (aP (f_aload 1 1421)))))))
  (tn 1427 (tn 1424 (tn 1422 (tl 1421 (aP (f_aload 0 1422)))
  (tl 1422 (aP (f_iload 4 1424))))
  (tn 1425 (tl 1424 (aP (f_const (.int (nI 1)) 1425)))
  (tn 1426 (tl 1425 (aP (f_bin (fun x y => x + y) 1426)))
  (tl 1426 (aP (f_iald 0 1427))))))
  (tn 1431 (tn 1430 (tl 1427 (o_callV (lkN [(0, 33)]) 1 1430))
  (tl 1430 (aP (f_aload 2 1431))))
  (tn 1432 (tl 1431 (aP (f_aload 0 1432)))
  (tn 1434 (tl 1432 (aP (f_iload 4 1434)))
  (tl 1434 (aP (f_const (.int (nI 1)) 1435))))))))
  (tn 1450 (tn 1444 (tn 1437 (tn 1436 (tl 1435 (aP (f_bin (fun x y => x + y) 1436)))
  (tl 1436 (aP (f_iald 0 1437))))
  (tn 1440 (tl 1437 (o_callV (lkN [(18, 216)]) 1 1440))
  (tn 1443 (tl 1440 (aP (f_icmp (fun x y => decide (x = y)) 2150 1443)))
  (tl 1443 (aP (f_const (.int (nI 0)) 1444))))))
  (tn 1446 (tn 1445 (tl 1444 (o_iret (fun x => x == 0 || x == 1)))
  (tl 1445 (aP (f_aload 1 1446))))
  (tn 1447 (tl 1446 (aP (f_aload 0 1447)))
  (tn 1449 (tl 1447 (aP (f_iload 4 1449)))
  (tl 1449 (aP (f_const (.int (nI 1)) 1450)))))))
  (tn 1456 (tn 1452 (tn 1451 (tl 1450 (aP (f_bin (fun x y => x + y) 1451)))
  (tl 1451 (aP (f_iald 0 1452))))
  (tn 1453 (tl 1452 (aP (f_aload 0 1453)))
  (tn 1455 (tl 1453 (aP (f_iload 4 1455)))
  (tl 1455 (aP (f_const (.int (nI 2)) 1456))))))
  (tn 1458 (tn 1457 (tl 1456 (aP (f_bin (fun x y => x + y) 1457)))
  (tl 1457 (aP (f_iald 0 1458))))
  (tn 1459 (tl 1458 (aP (f_aload 3 1459)))
  (tn 1462 (tl 1459 (o_callS 16 4 1462))
  (tl 1462 (aP (f_istore 5 1464)))))))))
  (tn 1495 (tn 1476 (tn 1470 (tn 1466 (tn 1465 (tl 1464 (aP (f_aload 2 1465)))
  (tl 1465 (aP (f_aload 0 1466))))
  (tn 1468 (tl 1466 (aP (f_iload 4 1468)))
  (tn 1469 (tl 1468 (aP (f_const (.int (nI 1)) 1469)))
  (tl 1469 (aP (f_bin (fun x y => x + y) 1470))))))
  (tn 1472 (tn 1471 (tl 1470 (aP (f_iald 0 1471)))
  (tl 1471 (aP (f_aload 0 1472))))
  (tn 1474 (tl 1472 (aP (f_iload 4 1474)))
  (tn 1475 (tl 1474 (aP (f_const (.int (nI 2)) 1475)))
  (tl 1475 (aP (f_bin (fun x y => x + y) 1476)))))))
  (tn 1486 (tn 1480 (tn 1477 (tl 1476 (aP (f_iald 0 1477)))
  (tl 1477 (o_callV (lkN [(18, 217)]) 2 1480)))
  (tn 1482 (tl 1480 (aP (f_istore 6 1482)))
  (tn 1483 (tl 1482 (aP (f_aload 2 1483)))
  (tl 1483 (o_callV (lkN [(18, 150)]) 0 1486)))))
  (tn 1491 (tn 1488 (tl 1486 (aP (f_iload 5 1488)))
  (tl 1488 (aP (f_icmp (fun x y => decide (x = y)) 1493 1491))))
  (tn 1492 (tl 1491 (aP (f_const (.int (nI 0)) 1492)))
  (tn 1493 (tl 1492 (o_iret (fun x => x == 0 || x == 1)))
  (tl 1493 (aP (f_iload 5 1495))))))))
  (tn 1510 (tn 1503 (tn 1499 (tn 1498 (tl 1495 (aP (f_if (fun x => decide (¬ x = 0)) 1510 1498)))
  (tl 1498 (aP (f_aload 3 1499))))
  (tn 1500 (tl 1499 (aP (f_const (.int (nI 0)) 1500)))
  (tn 1501 (tl 1500 (aP (f_lald 2 1501)))
  (tl 1501 (aP (f_iload 6 1503))))))
  (tn 1505 (tn 1504 (tl 1503 (aP (f_i2l 1504)))
  (tl 1504 (aP (f_lcmp 1505))))
  (tn 1508 (tl 1505 (aP (f_if (fun x => decide (x = 0)) 1510 1508)))
  (tn 1509 (tl 1508 (aP (f_const (.int (nI 0)) 1509)))
  (tl 1509 (o_iret (fun x => x == 0 || x == 1)))))))
  (tn 1518 (tn 1514 (tn 1513 (tl 1510 (aP (f_goto 2150)))
  (tl 1513 (aP (f_aload 1 1514))))
  (tn 1515 (tl 1514 (aP (f_aload 0 1515)))
  (tn 1517 (tl 1515 (aP (f_iload 4 1517)))
  (tl 1517 (aP (f_const (.int (nI 1)) 1518))))))
  (tn 1521 (tn 1519 (tl 1518 (aP (f_bin (fun x y => x + y) 1519)))
  (tn 1520 (tl 1519 (aP (f_iald 0 1520)))
  (tl 1520 (aP (f_aload 0 1521)))))
  (tn 1523 (tl 1521 (aP (f_iload 4 1523)))
  (tn 1524 (tl 1523 (aP (f_const (.int (nI 2)) 1524)))
  (tl 1524 (aP (f_bin (fun x y => x + y) 1525))))))))))
  (tn 1588 (tn 1556 (tn 1539 (tn 1533 (tn 1527 (tn 1526 (tl 1525 (aP (f_iald 0 1526)))
  (tl 1526 (aP (f_aload 3 1527))))
  (tn 1530 (tl 1527 (o_callS 17 4 1530))
  (tn 1532 (tl 1530 (aP (f_istore 5 1532)))
  (tl 1532 (aP (f_aload 2 1533))))))
  (tn 1536 (tn 1534 (tl 1533 (aP (f_aload 0 1534)))
  (tl 1534 (aP (f_iload 4 1536))))
  (tn 1537 (tl 1536 (aP (f_const (.int (nI 1)) 1537)))
  (tn 1538 (tl 1537 (aP (f_bin (fun x y => x + y) 1538)))
  (tl 1538 (aP (f_iald 0 1539)))))))
  (tn 1545 (tn 1542 (tn 1540 (tl 1539 (aP (f_aload 0 1540)))
  (tl 1540 (aP (f_iload 4 1542))))
  (tn 1543 (tl 1542 (aP (f_const (.int (nI 2)) 1543)))
  (tn 1544 (tl 1543 (aP (f_bin (fun x y => x + y) 1544)))
  (tl 1544 (aP (f_iald 0 1545))))))
  (tn 1550 (tn 1548 (tl 1545 (o_callV (lkN [(18, 220)]) 2 1548))
  (tl 1548 (aP (f_istore 6 1550))))
  (tn 1551 (tl 1550 (aP (f_aload 2 1551)))
  (tn 1554 (tl 1551 (o_callV (lkN [(18, 150)]) 0 1554))
  (tl 1554 (aP (f_iload 5 1556))))))))
  (tn 1572 (tn 1566 (tn 1560 (tn 1559 (tl 1556 (aP (f_icmp (fun x y => decide (x = y)) 1561 1559)))
  (tl 1559 (aP (f_const (.int (nI 0)) 1560))))
  (tn 1561 (tl 1560 (o_iret (fun x => x == 0 || x == 1)))
  (tn 1563 (tl 1561 (aP (f_iload 5 1563)))
  (tl 1563 (aP (f_if (fun x => decide (¬ x = 0)) 1578 1566))))))
  (tn 1568 (tn 1567 (tl 1566 (aP (f_aload 3 1567)))
  (tl 1567 (aP (f_const (.int (nI 0)) 1568))))
  (tn 1569 (tl 1568 (aP (f_lald 2 1569)))
  (tn 1571 (tl 1569 (aP (f_iload 6 1571)))
  (tl 1571 (aP (f_i2l 1572)))))))
  (tn 1581 (tn 1576 (tn 1573 (tl 1572 (aP (f_lcmp 1573)))
  (tl 1573 (aP (f_if (fun x => decide (x = 0)) 1578 1576))))
  (tn 1577 (tl 1576 (aP (f_const (.int (nI 0)) 1577)))
  (tn 1578 (tl 1577 (o_iret (fun x => x == 0 || x == 1)))
  (tl 1578 (aP (f_goto 2150))))))
  (tn 1585 (tn 1582 (tl 1581 (aP (f_aload 1 1582)))
  (tn 1583 (tl 1582 (aP (f_aload 0 1583)))
  (tl 1583 (aP (f_iload 4 1585)))))
  (tn 1586 (tl 1585 (aP (f_const (.int (nI 1)) 1586)))
  (tn 1587 (tl 1586 (aP (f_bin (fun x y => x + y) 1587)))
  (tl 1587 (aP (f_iald 0 1588)))))))))
  (tn 1616 (tn 1602 (tn 1594 (tn 1591 (tn 1589 (tl 1588 (aP (f_aload 0 1589)))
  (tl 1589 (aP (f_iload 4 1591))))
  (tn 1592 (tl 1591 (aP (f_const (.int (nI 2)) 1592)))
  (tn 1593 (tl 1592 (aP (f_bin (fun x y => x + y) 1593)))
  (tl 1593 (aP (f_iald 0 1594))))))
  (tn 1598 (tn 1595 (tl 1594 (aP (f_aload 3 1595)))
  (tl 1595 (o_callS 18 4 1598)))
  (tn 1600 (tl 1598 (aP (f_istore 5 1600)))
  (tn 1601 (tl 1600 (aP (f_aload 2 1601)))
  (tl 1601 (aP (f_aload 0 1602)))))))
  (tn 1608 (tn 1605 (tn 1604 (tl 1602 (aP (f_iload 4 1604)))
  (tl 1604 (aP (f_const (.int (nI 1)) 1605))))
  (tn 1606 (tl 1605 (aP (f_bin (fun x y => x + y) 1606)))
  (tn 1607 (tl 1606 (aP (f_iald 0 1607)))
  (tl 1607 (aP (f_aload 0 1608))))))
  (tn 1611 (tn 1610 (tl 1608 (aP (f_iload 4 1610)))
  (tl 1610 (aP (f_const (.int (nI 2)) 1611))))
  (tn 1612 (tl 1611 (aP (f_bin (fun x y => x + y) 1612)))
  (tn 1613 (tl 1612 (aP (f_iald 0 1613)))
  (tl 1613 (o_callV (lkN [(18, 224)]) 2 1616)))))))
  (tn 1635 (tn 1627 (tn 1619 (tn 1618 (tl 1616 (aP (f_istore 6 1618)))
  (tl 1618 (aP (f_aload 2 1619))))
  (tn 1622 (tl 1619 (o_callV (lkN [(18, 150)]) 0 1622))
  (tn 1624 (tl 1622 (aP (f_iload 5 1624)))
  (tl 1624 (aP (f_icmp (fun x y => decide (x = y)) 1629 1627))))))
  (tn 1629 (tn 1628 (tl 1627 (aP (f_const (.int (nI 0)) 1628)))
  (tl 1628 (o_iret (fun x => x == 0 || x == 1))))
  (tn 1631 (tl 1629 (aP (f_iload 5 1631)))
  (tn 1634 (tl 1631 (aP (f_if (fun x => decide (¬ x = 0)) 1646 1634)))
  (tl 1634 (aP (f_aload 3 1635)))))))
  (tn 1641 (tn 1637 (tn 1636 (tl 1635 (aP (f_const (.int (nI 0)) 1636)))
  (tl 1636 (aP (f_lald 2 1637))))
  (tn 1639 (tl 1637 (aP (f_iload 6 1639)))
  (tn 1640 (tl 1639 (aP (f_i2l 1640)))
  (tl 1640 (aP (f_lcmp 1641))))))
  (tn 1646 (tn 1644 (tl 1641 (aP (f_if (fun x => decide (x = 0)) 1646 1644)))
  (tn 1645 (tl 1644 (aP (f_const (.int (nI 0)) 1645)))
  (tl 1645 (o_iret (fun x => x == 0 || x == 1)))))
  (tn 1649 (tl 1646 (aP (f_goto 2150)))
  (tn 1650 (tl 1649 (aP (f_aload 1 1650)))
  (tl 1650 (aP (f_aload 0 1651))))))))))))
  (tn 1900 (tn 1773 (tn 1702 (tn 1675 (tn 1663 (tn 1657 (tn 1654 (tn 1653 (tl 1651 (aP (f_iload 4 1653)))
  (tl 1653 (aP (f_const (.int (nI 1)) 1654))))
  (tn 1655 (tl 1654 (aP (f_bin (fun x y => x + y) 1655)))
  (tn 1656 (tl 1655 (aP (f_iald 0 1656)))
  (tl 1656 (aP (f_aload 0 1657))))))
  (tn 1660 (tn 1659 (tl 1657 (aP (f_iload 4 1659)))
  (tl 1659 (aP (f_const (.int (nI 2)) 1660))))
  (tn 1661 (tl 1660 (aP (f_bin (fun x y => x + y) 1661)))
  (tn 1662 (tl 1661 (aP (f_iald 0 1662)))
  (tl 1662 (aP (f_aload 0 1663)))))))
  (tn 1669 (tn 1666 (tn 1665 (tl 1663 (aP (f_iload 4 1665)))
  (tl 1665 (aP (f_const (.int (nI 3)) 1666))))
  (tn 1667 (tl 1666 (aP (f_bin (fun x y => x + y) 1667)))
  (tn 1668 (tl 1667 (aP (f_iald 0 1668)))
  (tl 1668 (aP (f_aload 0 1669))))))
  (tn 1672 (tn 1671 (tl 1669 (aP (f_iload 4 1671)))
  (tl 1671 (aP (f_const (.int (nI 4)) 1672))))
  (tn 1673 (tl 1672 (aP (f_bin (fun x y => x + y) 1673)))
  (tn 1674 (tl 1673 (aP (f_iald 0 1674)))
  (tl 1674 (aP (f_aload 3 1675))))))))
  (tn 1690 (tn 1684 (tn 1680 (tn 1678 (tl 1675 (o_callS 19 6 1678))
  (tl 1678 (aP (f_istore 5 1680))))
  (tn 1681 (tl 1680 (aP (f_aload 2 1681)))
  (tn 1682 (tl 1681 (aP (f_aload 0 1682)))
  (tl 1682 (aP (f_iload 4 1684))))))
  (tn 1686 (tn 1685 (tl 1684 (aP (f_const (.int (nI 1)) 1685)))
  (tl 1685 (aP (f_bin (fun x y => x + y) 1686))))
  (tn 1687 (tl 1686 (aP (f_iald 0 1687)))
  (tn 1688 (tl 1687 (aP (f_aload 0 1688)))
  (tl 1688 (aP (f_iload 4 1690)))))))
  (tn 1696 (tn 1692 (tn 1691 (tl 1690 (aP (f_const (.int (nI 2)) 1691)))
  (tl 1691 (aP (f_bin (fun x y => x + y) 1692))))
  (tn 1693 (tl 1692 (aP (f_iald 0 1693)))
  (tn 1694 (tl 1693 (aP (f_aload 0 1694)))
  (tl 1694 (aP (f_iload 4 1696))))))
  (tn 1698 (tn 1697 (tl 1696 (aP (f_const (.int (nI 3)) 1697)))
  (tl 1697 (aP (f_bin (fun x y => x + y) 1698))))
  (tn 1699 (tl 1698 (aP (f_iald 0 1699)))
  (tn 1700 (tl 1699 (aP (f_aload 0 1700)))
  (tl 1700 (aP (f_iload 4 1702)))))))))
  (tn 1736 (tn 1720 (tn 1710 (tn 1704 (tn 1703 (tl 1702 (aP (f_const (.int (nI 4)) 1703)))
  (tl 1703 (aP (f_bin (fun x y => x + y) 1704))))
  (tn 1705 (tl 1704 (aP (f_iald 0 1705)))
  (tn 1708 (tl 1705 (o_callV (lkN [(18, 225)]) 4 1708))
  (tl 1708 (aP (f_istore 6 1710))))))
  (tn 1714 (tn 1711 (tl 1710 (aP (f_aload 2 1711)))
  (tl 1711 (o_callV (lkN [(18, 150)]) 0 1714)))
  (tn 1716 (tl 1714 (aP (f_iload 5 1716)))
  (tn 1719 (tl 1716 (aP (f_icmp (fun x y => decide (x = y)) 1721 1719)))
  (tl 1719 (aP (f_const (.int (nI 0)) 1720)))))))
  (tn 1728 (tn 1723 (tn 1721 (tl 1720 (o_iret (fun x => x == 0 || x == 1)))
  (tl 1721 (aP (f_iload 5 1723))))
  (tn 1726 (tl 1723 (aP (f_if (fun x => decide (¬ x = 0)) 1738 1726)))
  (tn 1727 (tl 1726 (aP (f_aload 3 1727)))
  (tl 1727 (aP (f_const (.int (nI 0)) 1728))))))
  (tn 1731 (tn 1729 (tl 1728 (aP (f_lald 2 1729)))
  (tl 1729 (aP (f_iload 6 1731))))
  (tn 1732 (tl 1731 (aP (f_i2l 1732)))
  (tn 1733 (tl 1732 (aP (f_lcmp 1733)))
  (tl 1733 (aP (f_if (fun x => decide (x = 0)) 1738 1736))))))))
  (tn 1754 (tn 1743 (tn 1738 (tn 1737 (tl 1736 (aP (f_const (.int (nI 0)) 1737)))
  (tl 1737 (o_iret (fun x => x == 0 || x == 1))))
  (tn 1741 (tl 1738 (aP (f_goto 2150)))
  (tn 1742 (tl 1741 (aP (f_aload 1 1742)))
  (tl 1742 (aP (f_aload 3 1743))))))
  (tn 1748 (tn 1746 (tl 1743 (o_callS 20 2 1746))
  (tl 1746 (aP (f_istore 5 1748))))
  (tn 1749 (tl 1748 (aP (f_aload 2 1749)))
  (tn 1752 (tl 1749 (o_callV (lkN [(18, 226)]) 0 1752))
  (tl 1752 (aP (f_istore 6 1754)))))))
  (tn 1764 (tn 1758 (tn 1755 (tl 1754 (aP (f_aload 2 1755)))
  (tl 1755 (o_callV (lkN [(18, 150)]) 0 1758)))
  (tn 1760 (tl 1758 (aP (f_iload 5 1760)))
  (tn 1763 (tl 1760 (aP (f_icmp (fun x y => decide (x = y)) 1765 1763)))
  (tl 1763 (aP (f_const (.int (nI 0)) 1764))))))
  (tn 1770 (tn 1765 (tl 1764 (o_iret (fun x => x == 0 || x == 1)))
  (tn 1767 (tl 1765 (aP (f_iload 5 1767)))
  (tl 1767 (aP (f_if (fun x => decide (¬ x = 0)) 1782 1770)))))
  (tn 1771 (tl 1770 (aP (f_aload 3 1771)))
  (tn 1772 (tl 1771 (aP (f_const (.int (nI 0)) 1772)))
  (tl 1772 (aP (f_lald 2 1773))))))))))
  (tn 1838 (tn 1803 (tn 1789 (tn 1781 (tn 1776 (tn 1775 (tl 1773 (aP (f_iload 6 1775)))
  (tl 1775 (aP (f_i2l 1776))))
  (tn 1777 (tl 1776 (aP (f_lcmp 1777)))
  (tn 1780 (tl 1777 (aP (f_if (fun x => decide (x = 0)) 1782 1780)))
  (tl 1780 (aP (f_const (.int (nI 0)) 1781))))))
  (tn 1785 (tn 1782 (tl 1781 (o_iret (fun x => x == 0 || x == 1)))
  (tl 1782 (aP (f_goto 2150))))
  (tn 1786 (tl 1785 (aP (f_aload 1 1786)))
  (tn 1787 (tl 1786 (aP (f_aload 0 1787)))
  (tl 1787 (aP (f_iload 4 1789)))))))
  (tn 1796 (tn 1791 (tn 1790 (tl 1789 (aP (f_const (.int (nI 1)) 1790)))
  (tl 1790 (aP (f_bin (fun x y => x + y) 1791))))
  (tn 1792 (tl 1791 (aP (f_iald 0 1792)))
  (tn 1793 (tl 1792 (aP (f_aload 3 1793)))
  (tl 1793 (o_callS 21 3 1796)))))
  (tn 1799 (tn 1798 (tl 1796 (aP (f_istore 5 1798)))
  (tl 1798 (aP (f_aload 2 1799))))
  (tn 1800 (tl 1799 (aP (f_aload 0 1800)))
  (tn 1802 (tl 1800 (aP (f_iload 4 1802)))
  (tl 1802 (aP (f_const (.int (nI 1)) 1803))))))))
  (tn 1821 (tn 1811 (tn 1805 (tn 1804 (tl 1803 (aP (f_bin (fun x y => x + y) 1804)))
  (tl 1804 (aP (f_iald 0 1805))))
  (tn 1808 (tl 1805 (o_callV (lkN [(18, 227)]) 1 1808))
  (tn 1810 (tl 1808 (aP (f_istore 6 1810)))
  (tl 1810 (aP (f_aload 2 1811))))))
  (tn 1816 (tn 1814 (tl 1811 (o_callV (lkN [(18, 150)]) 0 1814))
  (tl 1814 (aP (f_iload 5 1816))))
  (tn 1819 (tl 1816 (aP (f_icmp (fun x y => decide (x = y)) 1821 1819)))
  (tn 1820 (tl 1819 (aP (f_const (.int (nI 0)) 1820)))
  (tl 1820 (o_iret (fun x => x == 0 || x == 1)))))))
  (tn 1829 (tn 1826 (tn 1823 (tl 1821 (aP (f_iload 5 1823)))
  (tl 1823 (aP (f_if (fun x => decide (¬ x = 0)) 1838 1826))))
  (tn 1827 (tl 1826 (aP (f_aload 3 1827)))
  (tn 1828 (tl 1827 (aP (f_const (.int (nI 0)) 1828)))
  (tl 1828 (aP (f_lald 2 1829))))))
  (tn 1833 (tn 1831 (tl 1829 (aP (f_iload 6 1831)))
  (tn 1832 (tl 1831 (aP (f_i2l 1832)))
  (tl 1832 (aP (f_lcmp 1833)))))
  (tn 1836 (tl 1833 (aP (f_if (fun x => decide (x = 0)) 1838 1836)))
  (tn 1837 (tl 1836 (aP (f_const (.int (nI 0)) 1837)))
  (tl 1837 (o_iret (fun x => x == 0 || x == 1)))))))))
  (tn 1866 (tn 1852 (tn 1846 (tn 1842 (tn 1841 (tl 1838 (aP (f_goto 2150)))
  (tl 1841 (aP (f_aload 1 1842))))
  (tn 1843 (tl 1842 (aP (f_aload 0 1843)))
  (tn 1845 (tl 1843 (aP (f_iload 4 1845)))
  (tl 1845 (aP (f_const (.int (nI 1)) 1846))))))
  (tn 1848 (tn 1847 (tl 1846 (aP (f_bin (fun x y => x + y) 1847)))
  (tl 1847 (aP (f_iald 0 1848))))
  (tn 1849 (tl 1848 (aP (f_aload 0 1849)))
  (tn 1851 (tl 1849 (aP (f_iload 4 1851)))
  (tl 1851 (aP (f_const (.int (nI 2)) 1852)))))))
  (tn 1860 (tn 1854 (tn 1853 (tl 1852 (aP (f_bin (fun x y => x + y) 1853)))
  (tl 1853 (aP (f_iald 0 1854))))
  (tn 1855 (tl 1854 (aP (f_aload 3 1855)))
  (tn 1858 (tl 1855 (o_callS 22 4 1858))
  (tl 1858 (aP (f_istore 5 1860))))))
  (tn 1862 (tn 1861 (tl 1860 (aP (f_aload 2 1861)))
  (tl 1861 (aP (f_aload 0 1862))))
  (tn 1864 (tl 1862 (aP (f_iload 4 1864)))
  (tn 1865 (tl 1864 (aP (f_const (.int (nI 1)) 1865)))
  (tl 1865 (aP (f_bin (fun x y => x + y) 1866))))))))
  (tn 1882 (tn 1872 (tn 1868 (tn 1867 (tl 1866 (aP (f_iald 0 1867)))
  (tl 1867 (aP (f_aload 0 1868))))
  (tn 1870 (tl 1868 (aP (f_iload 4 1870)))
  (tn 1871 (tl 1870 (aP (f_const (.int (nI 2)) 1871)))
  (tl 1871 (aP (f_bin (fun x y => x + y) 1872))))))
  (tn 1876 (tn 1873 (tl 1872 (aP (f_iald 0 1873)))
  (tl 1873 (o_callV (lkN [(18, 231)]) 2 1876)))
  (tn 1878 (tl 1876 (aP (f_istore 6 1878)))
  (tn 1879 (tl 1878 (aP (f_aload 2 1879)))
  (tl 1879 (o_callV (lkN [(18, 150)]) 0 1882))))))
  (tn 1891 (tn 1887 (tn 1884 (tl 1882 (aP (f_iload 5 1884)))
  (tl 1884 (aP (f_icmp (fun x y => decide (x = y)) 1889 1887))))
  (tn 1888 (tl 1887 (aP (f_const (.int (nI 0)) 1888)))
  (tn 1889 (tl 1888 (o_iret (fun x => x == 0 || x == 1)))
  (tl 1889 (aP (f_iload 5 1891))))))
  (tn 1896 (tn 1894 (tl 1891 (aP (f_if (fun x => decide (¬ x = 0)) 1906 1894)))
  (tn 1895 (tl 1894 (aP (f_aload 3 1895)))
  (tl 1895 (aP (f_const (.int (nI 0)) 1896)))))
  (tn 1897 (tl 1896 (aP (f_lald 2 1897)))
  (tn 1899 (tl 1897 (aP (f_iload 6 1899)))
  (tl 1899 (aP (f_i2l 1900)))))))))))
  (tn 2028 (tn 1965 (tn 1929 (tn 1915 (tn 1909 (tn 1904 (tn 1901 (tl 1900 (aP (f_lcmp 1901)))
  (tl 1901 (aP (f_if (fun x => decide (x = 0)) 1906 1904))))
  (tn 1905 (tl 1904 (aP (f_const (.int (nI 0)) 1905)))
  (tn 1906 (tl 1905 (o_iret (fun x => x == 0 || x == 1)))
  (tl 1906 (aP (f_goto 2150))))))
  (tn 1911 (tn 1910 (tl 1909 (aP (f_aload 1 1910)))
  (tl 1910 (aP (f_aload 0 1911))))
  (tn 1913 (tl 1911 (aP (f_iload 4 1913)))
  (tn 1914 (tl 1913 (aP (f_const (.int (nI 1)) 1914)))
  (tl 1914 (aP (f_bin (fun x y => x + y) 1915)))))))
  (tn 1923 (tn 1917 (tn 1916 (tl 1915 (aP (f_iald 0 1916)))
  (tl 1916 (aP (f_aload 3 1917))))
  (tn 1920 (tl 1917 (o_callS 23 3 1920))
  (tn 1922 (tl 1920 (aP (f_istore 5 1922)))
  (tl 1922 (aP (f_aload 2 1923))))))
  (tn 1926 (tn 1924 (tl 1923 (aP (f_aload 0 1924)))
  (tl 1924 (aP (f_iload 4 1926))))
  (tn 1927 (tl 1926 (aP (f_const (.int (nI 1)) 1927)))
  (tn 1928 (tl 1927 (aP (f_bin (fun x y => x + y) 1928)))
  (tl 1928 (aP (f_iald 0 1929))))))))
  (tn 1950 (tn 1940 (tn 1934 (tn 1932 (tl 1929 (o_callV (lkN [(18, 233)]) 1 1932))
  (tl 1932 (aP (f_istore 6 1934))))
  (tn 1935 (tl 1934 (aP (f_aload 2 1935)))
  (tn 1938 (tl 1935 (o_callV (lkN [(18, 150)]) 0 1938))
  (tl 1938 (aP (f_iload 5 1940))))))
  (tn 1944 (tn 1943 (tl 1940 (aP (f_icmp (fun x y => decide (x = y)) 1945 1943)))
  (tl 1943 (aP (f_const (.int (nI 0)) 1944))))
  (tn 1945 (tl 1944 (o_iret (fun x => x == 0 || x == 1)))
  (tn 1947 (tl 1945 (aP (f_iload 5 1947)))
  (tl 1947 (aP (f_if (fun x => decide (¬ x = 0)) 1962 1950)))))))
  (tn 1956 (tn 1952 (tn 1951 (tl 1950 (aP (f_aload 3 1951)))
  (tl 1951 (aP (f_const (.int (nI 0)) 1952))))
  (tn 1953 (tl 1952 (aP (f_lald 2 1953)))
  (tn 1955 (tl 1953 (aP (f_iload 6 1955)))
  (tl 1955 (aP (f_i2l 1956))))))
  (tn 1960 (tn 1957 (tl 1956 (aP (f_lcmp 1957)))
  (tl 1957 (aP (f_if (fun x => decide (x = 0)) 1962 1960))))
  (tn 1961 (tl 1960 (aP (f_const (.int (nI 0)) 1961)))
  (tn 1962 (tl 1961 (o_iret (fun x => x == 0 || x == 1)))
  (tl 1962 (aP (f_goto 2150)))))))))
  (tn 1996 (tn 1979 (tn 1971 (tn 1967 (tn 1966 (tl 1965 (aP (f_aload 1 1966)))
  (tl 1966 (aP (f_aload 0 1967))))
  (tn 1969 (tl 1967 (aP (f_iload 4 1969)))
  (tn 1970 (tl 1969 (aP (f_const (.int (nI 1)) 1970)))
  (tl 1970 (aP (f_bin (fun x y => x + y) 1971))))))
  (tn 1973 (tn 1972 (tl 1971 (aP (f_iald 0 1972)))
  (tl 1972 (aP (f_aload 3 1973))))
  (tn 1976 (tl 1973 (o_callS 24 3 1976))
  (tn 1978 (tl 1976 (aP (f_istore 5 1978)))
  (tl 1978 (aP (f_aload 2 1979)))))))
  (tn 1985 (tn 1982 (tn 1980 (tl 1979 (aP (f_aload 0 1980)))
  (tl 1980 (aP (f_iload 4 1982))))
  (tn 1983 (tl 1982 (aP (f_const (.int (nI 1)) 1983)))
  (tn 1984 (tl 1983 (aP (f_bin (fun x y => x + y) 1984)))
  (tl 1984 (aP (f_iald 0 1985))))))
  (tn 1990 (tn 1988 (tl 1985 (o_callV (lkN [(18, 234)]) 1 1988))
  (tl 1988 (aP (f_istore 6 1990))))
  (tn 1991 (tl 1990 (aP (f_aload 2 1991)))
  (tn 1994 (tl 1991 (o_callV (lkN [(18, 150)]) 0 1994))
  (tl 1994 (aP (f_iload 5 1996))))))))
  (tn 2012 (tn 2006 (tn 2000 (tn 1999 (tl 1996 (aP (f_icmp (fun x y => decide (x = y)) 2001 1999)))
  (tl 1999 (aP (f_const (.int (nI 0)) 2000))))
  (tn 2001 (tl 2000 (o_iret (fun x => x == 0 || x == 1)))
  (tn 2003 (tl 2001 (aP (f_iload 5 2003)))
  (tl 2003 (aP (f_if (fun x => decide (¬ x = 0)) 2018 2006))))))
  (tn 2008 (tn 2007 (tl 2006 (aP (f_aload 3 2007)))
  (tl 2007 (aP (f_const (.int (nI 0)) 2008))))
  (tn 2009 (tl 2008 (aP (f_lald 2 2009)))
  (tn 2011 (tl 2009 (aP (f_iload 6 2011)))
  (tl 2011 (aP (f_i2l 2012)))))))
  (tn 2021 (tn 2016 (tn 2013 (tl 2012 (aP (f_lcmp 2013)))
  (tl 2013 (aP (f_if (fun x => decide (x = 0)) 2018 2016))))
  (tn 2017 (tl 2016 (aP (f_const (.int (nI 0)) 2017)))
  (tn 2018 (tl 2017 (o_iret (fun x => x == 0 || x == 1)))
  (tl 2018 (aP (f_goto 2150))))))
  (tn 2025 (tn 2022 (tl 2021 (aP (f_aload 1 2022)))
  (tn 2023 (tl 2022 (aP (f_aload 0 2023)))
  (tl 2023 (aP (f_iload 4 2025)))))
  (tn 2026 (tl 2025 (aP (f_const (.int (nI 1)) 2026)))
  (tn 2027 (tl 2026 (aP (f_bin (fun x y => x + y) 2027)))
  (tl 2027 (aP (f_iald 0 2028))))))))))
  (tn 2088 (tn 2054 (tn 2040 (tn 2034 (tn 2031 (tn 2029 (tl 2028 (aP (f_aload 0 2029)))
  (tl 2029 (aP (f_iload 4 2031))))
  (tn 2032 (tl 2031 (aP (f_const (.int (nI 2)) 2032)))
  (tn 2033 (tl 2032 (aP (f_bin (fun x y => x + y) 2033)))
  (tl 2033 (aP (f_iald 0 2034))))))
  (tn 2037 (tn 2035 (tl 2034 (aP (f_aload 0 2035)))
  (tl 2035 (aP (f_iload 4 2037))))
  (tn 2038 (tl 2037 (aP (f_const (.int (nI 3)) 2038)))
  (tn 2039 (tl 2038 (aP (f_bin (fun x y => x + y) 2039)))
  (tl 2039 (aP (f_iald 0 2040)))))))
  (tn 2048 (tn 2044 (tn 2041 (tl 2040 (aP (f_aload 3 2041)))
  (tl 2041 (o_callS 25 5 2044)))
  (tn 2046 (tl 2044 (aP (f_istore 5 2046)))
  (tn 2047 (tl 2046 (aP (f_aload 2 2047)))
  (tl 2047 (aP (f_aload 0 2048))))))
  (tn 2051 (tn 2050 (tl 2048 (aP (f_iload 4 2050)))
  (tl 2050 (aP (f_const (.int (nI 1)) 2051))))
  (tn 2052 (tl 2051 (aP (f_bin (fun x y => x + y) 2052)))
  (tn 2053 (tl 2052 (aP (f_iald 0 2053)))
  (tl 2053 (aP (f_aload 0 2054))))))))
  (tn 2068 (tn 2060 (tn 2057 (tn 2056 (tl 2054 (aP (f_iload 4 2056)))
  (tl 2056 (aP (f_const (.int (nI 2)) 2057))))
  (tn 2058 (tl 2057 (aP (f_bin (fun x y => x + y) 2058)))
  (tn 2059 (tl 2058 (aP (f_iald 0 2059)))
  (tl 2059 (aP (f_aload 0 2060))))))
  (tn 2063 (tn 2062 (tl 2060 (aP (f_iload 4 2062)))
  (tl 2062 (aP (f_const (.int (nI 3)) 2063))))
  (tn 2064 (tl 2063 (aP (f_bin (fun x y => x + y) 2064)))
  (tn 2065 (tl 2064 (aP (f_iald 0 2065)))
  (tl 2065 (o_callV (lkN [(18, 235)]) 3 2068))))))
  (tn 2079 (tn 2071 (tn 2070 (tl 2068 (aP (f_istore 6 2070)))
  (tl 2070 (aP (f_aload 2 2071))))
  (tn 2074 (tl 2071 (o_callV (lkN [(18, 150)]) 0 2074))
  (tn 2076 (tl 2074 (aP (f_iload 5 2076)))
  (tl 2076 (aP (f_icmp (fun x y => decide (x = y)) 2081 2079))))))
  (tn 2083 (tn 2080 (tl 2079 (aP (f_const (.int (nI 0)) 2080)))
  (tn 2081 (tl 2080 (o_iret (fun x => x == 0 || x == 1)))
  (tl 2081 (aP (f_iload 5 2083)))))
  (tn 2086 (tl 2083 (aP (f_if (fun x => decide (¬ x = 0)) 2098 2086)))
  (tn 2087 (tl 2086 (aP (f_aload 3 2087)))
  (tl 2087 (aP (f_const (.int (nI 0)) 2088)))))))))
  (tn 2125 (tn 2105 (tn 2096 (tn 2091 (tn 2089 (tl 2088 (aP (f_lald 2 2089)))
  (tl 2089 (aP (f_iload 6 2091))))
  (tn 2092 (tl 2091 (aP (f_i2l 2092)))
  (tn 2093 (tl 2092 (aP (f_lcmp 2093)))
  (tl 2093 (aP (f_if (fun x => decide (x = 0)) 2098 2096))))))
  (tn 2098 (tn 2097 (tl 2096 (aP (f_const (.int (nI 0)) 2097)))
  (tl 2097 (o_iret (fun x => x == 0 || x == 1))))
  (tn 2101 (tl 2098 (aP (f_goto 2150)))
  (tn 2102 (tl 2101 (aP (f_aload 1 2102)))
  (tl 2102 (o_callV (lkN [(0, 34)]) 0 2105))))))
  (tn 2116 (tn 2109 (tn 2106 (tl 2105 (aP (f_aload 2 2106)))
  (tl 2106 (o_callV (lkN [(18, 237)]) 0 2109)))
  (tn 2112 (tl 2109 (aP (f_goto 2150)))
  (tn 2113 (tl 2112 (aP (f_aload 1 2113)))
  (tl 2113 (o_callV (lkN [(0, 35)]) 0 2116)))))
  (tn 2120 (tn 2117 (tl 2116 (aP (f_aload 2 2117)))
  (tl 2117 (o_callV (lkN [(18, 238)]) 0 2120)))
  (tn 2123 (tl 2120 (aP (f_icmp (fun x y => decide (x = y)) 2150 2123)))
  (tn 2124 (tl 2123 (aP (f_const (.int (nI 0)) 2124)))
  (tl 2124 (o_iret (fun x => x == 0 || x == 1))))))))
  (tn 2139 (tn 2131 (tn 2127 (tn 2126 (tl 2125 (aP (f_aload 1 2126)))
  (tl 2126 (aP (f_aload 0 2127))))
  (tn 2129 (tl 2127 (aP (f_iload 4 2129)))
  (tn 2130 (tl 2129 (aP (f_const (.int (nI 1)) 2130)))
  (tl 2130 (aP (f_bin (fun x y => x + y) 2131))))))
  (tn 2135 (tn 2132 (tl 2131 (aP (f_iald 0 2132)))
  (tl 2132 (o_callV (lkN [(0, 36)]) 1 2135)))
  (tn 2136 (tl 2135 (aP (f_aload 2 2136)))
  (tn 2137 (tl 2136 (aP (f_aload 0 2137)))
  (tl 2137 (aP (f_iload 4 2139)))))))
  (tn 2148 (tn 2141 (tn 2140 (tl 2139 (aP (f_const (.int (nI 1)) 2140)))
  (tl 2140 (aP (f_bin (fun x y => x + y) 2141))))
  (tn 2142 (tl 2141 (aP (f_iald 0 2142)))
  (tn 2145 (tl 2142 (o_callV (lkN [(18, 239)]) 1 2145))
  (tl 2145 (aP (f_icmp (fun x y => decide (x = y)) 2150 2148))))))
  (tn 2153 (tn 2149 (tl 2148 (aP (f_const (.int (nI 0)) 2149)))
  (tn 2150 (tl 2149 (o_iret (fun x => x == 0 || x == 1)))
  (tl 2150 (aP (f_iinc 4 (nI 6) 2153)))))
  (tn 2156 (tl 2153 (aP (f_goto 23)))
  (tn 2157 (tl 2156 (aP (f_const (.int (nI 1)) 2157)))
  (tl 2157 (o_iret (fun x => x == 0 || x == 1)))))))))))))
theorem kok_L_law {γ : AG} (hm : γ.2.2.2.2.1 = mTab) (hk : γ.2.2.2.2.2 = kTab) : KOK γ m_L_law k_L_law :=
 kn_ok
 (kn_ok
 (kn_ok
 (kn_ok
 (kn_ok
 (kn_ok
 (kn_ok
 (kn_ok
 (kn_ok
 (kn_ok
 (kl_ok (ok_hp (ok_new (by decide +kernel) rfl q129 q130 q83 dL_law_0 rfl) le_new))
 (kl_ok (ok_aP (ok_dup dL_law_3 rfl))))
 (kn_ok
 (kl_ok (ok_callI (run_I (by rw [hm]; rfl) q131 q132 q83 q133 rfl ⟨nh_0, dl_0⟩ (by decide) dL_law_4) rfl))
 (kn_ok
 (kl_ok (ok_aP (ok_astore_n dL_law_7 rfl rfl)))
 (kl_ok (ok_hp (ok_new (by decide +kernel) rfl q1833 q1834 q92 dL_law_8 rfl) le_new)))))
 (kn_ok
 (kn_ok
 (kl_ok (ok_aP (ok_dup dL_law_11 rfl)))
 (kl_ok (ok_callI (run_I (by rw [hm]; rfl) q1835 q1836 q92 q1837 rfl ⟨nh_1, dl_0⟩ (by decide) dL_law_12) rfl)))
 (kn_ok
 (kl_ok (ok_aP (ok_astore_n dL_law_15 rfl rfl)))
 (kn_ok
 (kl_ok (ok_aP (ok_iconst dL_law_16 rfl rfl)))
 (kl_ok (ok_hp (na_long dL_law_17 rfl) le_newa))))))
 (kn_ok
 (kn_ok
 (kn_ok
 (kl_ok (ok_aP (ok_astore_n dL_law_19 rfl rfl)))
 (kl_ok (ok_aP (ok_iconst dL_law_20 rfl rfl))))
 (kn_ok
 (kl_ok (ok_aP (ok_istore dL_law_21 rfl)))
 (kn_ok
 (kl_ok (ok_aP (ok_iload dL_law_23 rfl)))
 (kl_ok (ok_aP (ok_aload_n dL_law_25 rfl rfl))))))
 (kn_ok
 (kn_ok
 (kl_ok (ok_aP (ok_alen dL_law_26 rfl)))
 (kl_ok (ok_aP (ok_bipush dL_law_27 (by decide +kernel) rfl))))
 (kn_ok
 (kl_ok (ok_aP (ok_isub dL_law_29 rfl)))
 (kn_ok
 (kl_ok (ok_aP (ok_icmp_gt dL_law_30 rfl rfl)))
 (kl_ok (ok_aP (ok_aload_n dL_law_33 rfl rfl))))))))
 (kn_ok
 (kn_ok
 (kn_ok
 (kn_ok
 (kl_ok (ok_aP (ok_iload dL_law_34 rfl)))
 (kl_ok (ok_aP (ok_iald dL_law_36 rfl))))
 (kn_ok
 (kl_ok (ok_aP (ok_bipush dL_law_37 (by decide +kernel) rfl)))
 (kn_ok
 (kl_ok (ok_aP (ok_iand dL_law_39 rfl)))
 (kl_ok (ok_aP (ok_table (tg := [200, 273, 298, 342, 386, 399, 467, 587, 655, 711, 767, 835, 903, 978, 1034, 1090, 1158, 1238, 1301, 1357, 1382, 1407, 1420, 1445, 1513, 1581, 1649, 1741, 1785, 1841, 1909, 1965, 2021, 2101, 2112, 2125]) (td := 2150) dL_law_40 rfl rfl rfl rfl))))))
 (kn_ok
 (kn_ok
 (kl_ok (ok_aP (ok_aload_n dL_law_200 rfl rfl)))
 (kl_ok (ok_aP (ok_aload_n dL_law_201 rfl rfl))))
 (kn_ok
 (kl_ok (ok_aP (ok_iload dL_law_202 rfl)))
 (kn_ok
 (kl_ok (ok_aP (ok_iconst dL_law_204 rfl rfl)))
 (kl_ok (ok_aP (ok_iadd dL_law_205 rfl)))))))
 (kn_ok
 (kn_ok
 (kn_ok
 (kl_ok (ok_aP (ok_iald dL_law_206 rfl)))
 (kl_ok (ok_aP (ok_aload_n dL_law_207 rfl rfl))))
 (kn_ok
 (kl_ok (ok_aP (ok_iload dL_law_208 rfl)))
 (kn_ok
 (kl_ok (ok_aP (ok_iconst dL_law_210 rfl rfl)))
 (kl_ok (ok_aP (ok_iadd dL_law_211 rfl))))))
 (kn_ok
 (kn_ok
 (kl_ok (ok_aP (ok_iald dL_law_212 rfl)))
 (kl_ok (ok_aP (ok_aload_n dL_law_213 rfl rfl))))
 (kn_ok
 (kl_ok (ok_aP (ok_iload dL_law_214 rfl)))
 (kn_ok
 (kl_ok (ok_aP (ok_iconst dL_law_216 rfl rfl)))
 (kl_ok (ok_aP (ok_iadd dL_law_217 rfl)))))))))
 (kn_ok
 (kn_ok
 (kn_ok
 (kn_ok
 (kn_ok
 (kl_ok (ok_aP (ok_iald dL_law_218 rfl)))
 (kl_ok (ok_aP (ok_aload_n dL_law_219 rfl rfl))))
 (kn_ok
 (kl_ok (ok_aP (ok_iload dL_law_220 rfl)))
 (kn_ok
 (kl_ok (ok_aP (ok_iconst dL_law_222 rfl rfl)))
 (kl_ok (ok_aP (ok_iadd dL_law_223 rfl))))))
 (kn_ok
 (kn_ok
 (kl_ok (ok_aP (ok_iald dL_law_224 rfl)))
 (kl_ok (ok_aP (ok_aload_n dL_law_225 rfl rfl))))
 (kn_ok
 (kl_ok (ok_aP (ok_iload dL_law_226 rfl)))
 (kn_ok
 (kl_ok (ok_aP (ok_iconst dL_law_228 rfl rfl)))
 (kl_ok (ok_aP (ok_iadd dL_law_229 rfl)))))))
 (kn_ok
 (kn_ok
 (kn_ok
 (kl_ok (ok_aP (ok_iald dL_law_230 rfl)))
 (kl_ok (ok_callV (List.forall_mem_cons.mpr ⟨run_V (C0 := "FavourTown") rfl rfl (by rw [hm]; rfl) q372 q373 q374 q83 q375 ⟨nh_0, dl_1⟩ (by decide) dL_law_231, (fun _ h => absurd h List.not_mem_nil)⟩) rfl)))
 (kn_ok
 (kl_ok (ok_aP (ok_aload_n dL_law_234 rfl rfl)))
 (kn_ok
 (kl_ok (ok_aP (ok_aload_n dL_law_235 rfl rfl)))
 (kl_ok (ok_aP (ok_iload dL_law_236 rfl))))))
 (kn_ok
 (kn_ok
 (kl_ok (ok_aP (ok_iconst dL_law_238 rfl rfl)))
 (kl_ok (ok_aP (ok_iadd dL_law_239 rfl))))
 (kn_ok
 (kl_ok (ok_aP (ok_iald dL_law_240 rfl)))
 (kn_ok
 (kl_ok (ok_aP (ok_aload_n dL_law_241 rfl rfl)))
 (kl_ok (ok_aP (ok_iload dL_law_242 rfl))))))))
 (kn_ok
 (kn_ok
 (kn_ok
 (kn_ok
 (kl_ok (ok_aP (ok_iconst dL_law_244 rfl rfl)))
 (kl_ok (ok_aP (ok_iadd dL_law_245 rfl))))
 (kn_ok
 (kl_ok (ok_aP (ok_iald dL_law_246 rfl)))
 (kn_ok
 (kl_ok (ok_aP (ok_aload_n dL_law_247 rfl rfl)))
 (kl_ok (ok_aP (ok_iload dL_law_248 rfl))))))
 (kn_ok
 (kn_ok
 (kl_ok (ok_aP (ok_iconst dL_law_250 rfl rfl)))
 (kl_ok (ok_aP (ok_iadd dL_law_251 rfl))))
 (kn_ok
 (kl_ok (ok_aP (ok_iald dL_law_252 rfl)))
 (kn_ok
 (kl_ok (ok_aP (ok_aload_n dL_law_253 rfl rfl)))
 (kl_ok (ok_aP (ok_iload dL_law_254 rfl)))))))
 (kn_ok
 (kn_ok
 (kn_ok
 (kl_ok (ok_aP (ok_iconst dL_law_256 rfl rfl)))
 (kl_ok (ok_aP (ok_iadd dL_law_257 rfl))))
 (kn_ok
 (kl_ok (ok_aP (ok_iald dL_law_258 rfl)))
 (kn_ok
 (kl_ok (ok_aP (ok_aload_n dL_law_259 rfl rfl)))
 (kl_ok (ok_aP (ok_iload dL_law_260 rfl))))))
 (kn_ok
 (kn_ok
 (kl_ok (ok_aP (ok_iconst dL_law_262 rfl rfl)))
 (kn_ok
 (kl_ok (ok_aP (ok_iadd dL_law_263 rfl)))
 (kl_ok (ok_aP (ok_iald dL_law_264 rfl)))))
 (kn_ok
 (kl_ok (ok_callV (List.forall_mem_cons.mpr ⟨run_V (C0 := "FavourTownModel") rfl rfl (by rw [hm]; rfl) q1931 q1932 q1933 q92 q1934 ⟨nh_1, dl_1⟩ (by decide) dL_law_265, (fun _ h => absurd h List.not_mem_nil)⟩) rfl))
 (kn_ok
 (kl_ok (ok_aP (ok_icmp_eq dL_law_268 rfl rfl)))
 (kl_ok (ok_aP (ok_iconst dL_law_271 rfl rfl))))))))))
 (kn_ok
 (kn_ok
 (kn_ok
 (kn_ok
 (kn_ok
 (kn_ok
 (kl_ok (ok_zret rfl z_boolean dL_law_272))
 (kl_ok (ok_aP (ok_aload_n dL_law_273 rfl rfl))))
 (kn_ok
 (kl_ok (ok_aP (ok_aload_n dL_law_274 rfl rfl)))
 (kn_ok
 (kl_ok (ok_aP (ok_iload dL_law_275 rfl)))
 (kl_ok (ok_aP (ok_iconst dL_law_277 rfl rfl))))))
 (kn_ok
 (kn_ok
 (kl_ok (ok_aP (ok_iadd dL_law_278 rfl)))
 (kl_ok (ok_aP (ok_iald dL_law_279 rfl))))
 (kn_ok
 (kl_ok (ok_callV (List.forall_mem_cons.mpr ⟨run_V (C0 := "FavourTown") rfl rfl (by rw [hm]; rfl) q380 q381 q382 q83 q383 ⟨nh_0, dl_2⟩ (by decide) dL_law_280, (fun _ h => absurd h List.not_mem_nil)⟩) rfl))
 (kn_ok
 (kl_ok (ok_aP (ok_aload_n dL_law_283 rfl rfl)))
 (kl_ok (ok_aP (ok_aload_n dL_law_284 rfl rfl)))))))
 (kn_ok
 (kn_ok
 (kn_ok
 (kl_ok (ok_aP (ok_iload dL_law_285 rfl)))
 (kl_ok (ok_aP (ok_iconst dL_law_287 rfl rfl))))
 (kn_ok
 (kl_ok (ok_aP (ok_iadd dL_law_288 rfl)))
 (kn_ok
 (kl_ok (ok_aP (ok_iald dL_law_289 rfl)))
 (kl_ok (ok_callV (List.forall_mem_cons.mpr ⟨run_V (C0 := "FavourTownModel") rfl rfl (by rw [hm]; rfl) q1935 q1936 q1937 q92 q1938 ⟨nh_1, dl_2⟩ (by decide) dL_law_290, (fun _ h => absurd h List.not_mem_nil)⟩) rfl)))))
 (kn_ok
 (kn_ok
 (kl_ok (ok_aP (ok_icmp_eq dL_law_293 rfl rfl)))
 (kl_ok (ok_aP (ok_iconst dL_law_296 rfl rfl))))
 (kn_ok
 (kl_ok (ok_zret rfl z_boolean dL_law_297))
 (kn_ok
 (kl_ok (ok_aP (ok_aload_n dL_law_298 rfl rfl)))
 (kl_ok (ok_aP (ok_aload_n dL_law_299 rfl rfl))))))))
 (kn_ok
 (kn_ok
 (kn_ok
 (kn_ok
 (kl_ok (ok_callS (run_SX (by rw [hm]; rfl) q765 q766 q82 q767 ⟨nh_2, dl_3⟩ (by decide) dL_law_300) rfl))
 (kl_ok (ok_aP (ok_istore dL_law_303 rfl))))
 (kn_ok
 (kl_ok (ok_aP (ok_aload_n dL_law_305 rfl rfl)))
 (kn_ok
 (kl_ok (ok_callV (List.forall_mem_cons.mpr ⟨run_V (C0 := "FavourTownModel") rfl rfl (by rw [hm]; rfl) q1942 q1943 q1944 q92 q1945 ⟨nh_1, dl_4⟩ (by decide) dL_law_306, (fun _ h => absurd h List.not_mem_nil)⟩) rfl))
 (kl_ok (ok_aP (ok_istore dL_law_309 rfl))))))
 (kn_ok
 (kn_ok
 (kl_ok (ok_aP (ok_aload_n dL_law_311 rfl rfl)))
 (kl_ok (ok_callV (List.forall_mem_cons.mpr ⟨run_V (C0 := "FavourTownModel") rfl rfl (by rw [hm]; rfl) q1927 q1928 q1929 q92 q1930 ⟨nh_1, dl_4⟩ (by decide) dL_law_312, (fun _ h => absurd h List.not_mem_nil)⟩) rfl)))
 (kn_ok
 (kl_ok (ok_aP (ok_iload dL_law_315 rfl)))
 (kn_ok
 (kl_ok (ok_aP (ok_icmp_eq dL_law_317 rfl rfl)))
 (kl_ok (ok_aP (ok_iconst dL_law_320 rfl rfl)))))))
 (kn_ok
 (kn_ok
 (kn_ok
 (kl_ok (ok_zret rfl z_boolean dL_law_321))
 (kl_ok (ok_aP (ok_iload dL_law_322 rfl))))
 (kn_ok
 (kl_ok (ok_aP (ok_if_ne dL_law_324 rfl rfl)))
 (kn_ok
 (kl_ok (ok_aP (ok_aload_n dL_law_327 rfl rfl)))
 (kl_ok (ok_aP (ok_iconst dL_law_328 rfl rfl))))))
 (kn_ok
 (kn_ok
 (kl_ok (ok_aP (ok_lald dL_law_329 rfl)))
 (kl_ok (ok_aP (ok_iload dL_law_330 rfl))))
 (kn_ok
 (kl_ok (ok_aP (ok_i2l dL_law_332 rfl)))
 (kn_ok
 (kl_ok (ok_aP (ok_lcmp dL_law_333 rfl)))
 (kl_ok (ok_aP (ok_if_eq dL_law_334 rfl rfl)))))))))
 (kn_ok
 (kn_ok
 (kn_ok
 (kn_ok
 (kn_ok
 (kl_ok (ok_aP (ok_iconst dL_law_337 rfl rfl)))
 (kl_ok (ok_zret rfl z_boolean dL_law_338)))
 (kn_ok
 (kl_ok (ok_aP (ok_goto dL_law_339 rfl)))
 (kn_ok
 (kl_ok (ok_aP (ok_aload_n dL_law_342 rfl rfl)))
 (kl_ok (ok_aP (ok_aload_n dL_law_343 rfl rfl))))))
 (kn_ok
 (kn_ok
 (kl_ok (ok_callS (run_SX (by rw [hm]; rfl) q1344 q1345 q82 q1346 ⟨nh_2, dl_3⟩ (by decide) dL_law_344) rfl))
 (kl_ok (ok_aP (ok_istore dL_law_347 rfl))))
 (kn_ok
 (kl_ok (ok_aP (ok_aload_n dL_law_349 rfl rfl)))
 (kn_ok
 (kl_ok (ok_callV (List.forall_mem_cons.mpr ⟨run_V (C0 := "FavourTownModel") rfl rfl (by rw [hm]; rfl) q2103 q2104 q2105 q92 q2106 ⟨nh_1, dl_4⟩ (by decide) dL_law_350, (fun _ h => absurd h List.not_mem_nil)⟩) rfl))
 (kl_ok (ok_aP (ok_istore dL_law_353 rfl)))))))
 (kn_ok
 (kn_ok
 (kn_ok
 (kl_ok (ok_aP (ok_aload_n dL_law_355 rfl rfl)))
 (kl_ok (ok_callV (List.forall_mem_cons.mpr ⟨run_V (C0 := "FavourTownModel") rfl rfl (by rw [hm]; rfl) q1927 q1928 q1929 q92 q1930 ⟨nh_1, dl_4⟩ (by decide) dL_law_356, (fun _ h => absurd h List.not_mem_nil)⟩) rfl)))
 (kn_ok
 (kl_ok (ok_aP (ok_iload dL_law_359 rfl)))
 (kn_ok
 (kl_ok (ok_aP (ok_icmp_eq dL_law_361 rfl rfl)))
 (kl_ok (ok_aP (ok_iconst dL_law_364 rfl rfl))))))
 (kn_ok
 (kn_ok
 (kl_ok (ok_zret rfl z_boolean dL_law_365))
 (kl_ok (ok_aP (ok_iload dL_law_366 rfl))))
 (kn_ok
 (kl_ok (ok_aP (ok_if_ne dL_law_368 rfl rfl)))
 (kn_ok
 (kl_ok (ok_aP (ok_aload_n dL_law_371 rfl rfl)))
 (kl_ok (ok_aP (ok_iconst dL_law_372 rfl rfl))))))))
 (kn_ok
 (kn_ok
 (kn_ok
 (kn_ok
 (kl_ok (ok_aP (ok_lald dL_law_373 rfl)))
 (kl_ok (ok_aP (ok_iload dL_law_374 rfl))))
 (kn_ok
 (kl_ok (ok_aP (ok_i2l dL_law_376 rfl)))
 (kn_ok
 (kl_ok (ok_aP (ok_lcmp dL_law_377 rfl)))
 (kl_ok (ok_aP (ok_if_eq dL_law_378 rfl rfl))))))
 (kn_ok
 (kn_ok
 (kl_ok (ok_aP (ok_iconst dL_law_381 rfl rfl)))
 (kl_ok (ok_zret rfl z_boolean dL_law_382)))
 (kn_ok
 (kl_ok (ok_aP (ok_goto dL_law_383 rfl)))
 (kn_ok
 (kl_ok (ok_aP (ok_aload_n dL_law_386 rfl rfl)))
 (kl_ok (ok_callV (List.forall_mem_cons.mpr ⟨run_V (C0 := "FavourTown") rfl rfl (by rw [hm]; rfl) q388 q389 q390 q83 q391 ⟨nh_0, dl_4⟩ (by decide) dL_law_387, (fun _ h => absurd h List.not_mem_nil)⟩) rfl))))))
 (kn_ok
 (kn_ok
 (kn_ok
 (kl_ok (ok_aP (ok_aload_n dL_law_390 rfl rfl)))
 (kl_ok (ok_callV (List.forall_mem_cons.mpr ⟨run_V (C0 := "FavourTownModel") rfl rfl (by rw [hm]; rfl) q2107 q2108 q2109 q92 q2110 ⟨nh_1, dl_4⟩ (by decide) dL_law_391, (fun _ h => absurd h List.not_mem_nil)⟩) rfl)))
 (kn_ok
 (kl_ok (ok_aP (ok_icmp_eq dL_law_394 rfl rfl)))
 (kn_ok
 (kl_ok (ok_aP (ok_iconst dL_law_397 rfl rfl)))
 (kl_ok (ok_zret rfl z_boolean dL_law_398)))))
 (kn_ok
 (kn_ok
 (kl_ok (ok_aP (ok_aload_n dL_law_399 rfl rfl)))
 (kn_ok
 (kl_ok (ok_aP (ok_aload_n dL_law_400 rfl rfl)))
 (kl_ok (ok_aP (ok_iload dL_law_401 rfl)))))
 (kn_ok
 (kl_ok (ok_aP (ok_iconst dL_law_403 rfl rfl)))
 (kn_ok
 (kl_ok (ok_aP (ok_iadd dL_law_404 rfl)))
 (kl_ok (ok_aP (ok_iald dL_law_405 rfl)))))))))))
 (kn_ok
 (kn_ok
 (kn_ok
 (kn_ok
 (kn_ok
 (kn_ok
 (kn_ok
 (kl_ok (ok_aP (ok_aload_n dL_law_406 rfl rfl)))
 (kl_ok (ok_aP (ok_iload dL_law_407 rfl))))
 (kn_ok
 (kl_ok (ok_aP (ok_iconst dL_law_409 rfl rfl)))
 (kn_ok
 (kl_ok (ok_aP (ok_iadd dL_law_410 rfl)))
 (kl_ok (ok_aP (ok_iald dL_law_411 rfl))))))
 (kn_ok
 (kn_ok
 (kl_ok (ok_aP (ok_aload_n dL_law_412 rfl rfl)))
 (kl_ok (ok_callS (run_SX (by rw [hm]; rfl) q1521 q1522 q82 q1523 ⟨nh_2, dl_5⟩ (by decide) dL_law_413) rfl)))
 (kn_ok
 (kl_ok (ok_aP (ok_istore dL_law_416 rfl)))
 (kn_ok
 (kl_ok (ok_aP (ok_aload_n dL_law_418 rfl rfl)))
 (kl_ok (ok_aP (ok_aload_n dL_law_419 rfl rfl)))))))
 (kn_ok
 (kn_ok
 (kn_ok
 (kl_ok (ok_aP (ok_iload dL_law_420 rfl)))
 (kl_ok (ok_aP (ok_iconst dL_law_422 rfl rfl))))
 (kn_ok
 (kl_ok (ok_aP (ok_iadd dL_law_423 rfl)))
 (kn_ok
 (kl_ok (ok_aP (ok_iald dL_law_424 rfl)))
 (kl_ok (ok_aP (ok_aload_n dL_law_425 rfl rfl))))))
 (kn_ok
 (kn_ok
 (kl_ok (ok_aP (ok_iload dL_law_426 rfl)))
 (kl_ok (ok_aP (ok_iconst dL_law_428 rfl rfl))))
 (kn_ok
 (kl_ok (ok_aP (ok_iadd dL_law_429 rfl)))
 (kn_ok
 (kl_ok (ok_aP (ok_iald dL_law_430 rfl)))
 (kl_ok (ok_callV (List.forall_mem_cons.mpr ⟨run_V (C0 := "FavourTownModel") rfl rfl (by rw [hm]; rfl) q2111 q2112 q2113 q92 q2114 ⟨nh_1, dl_6⟩ (by decide) dL_law_431, (fun _ h => absurd h List.not_mem_nil)⟩) rfl)))))))
 (kn_ok
 (kn_ok
 (kn_ok
 (kn_ok
 (kl_ok (ok_aP (ok_istore dL_law_434 rfl)))
 (kl_ok (ok_aP (ok_aload_n dL_law_436 rfl rfl))))
 (kn_ok
 (kl_ok (ok_callV (List.forall_mem_cons.mpr ⟨run_V (C0 := "FavourTownModel") rfl rfl (by rw [hm]; rfl) q1927 q1928 q1929 q92 q1930 ⟨nh_1, dl_4⟩ (by decide) dL_law_437, (fun _ h => absurd h List.not_mem_nil)⟩) rfl))
 (kn_ok
 (kl_ok (ok_aP (ok_iload dL_law_440 rfl)))
 (kl_ok (ok_aP (ok_icmp_eq dL_law_442 rfl rfl))))))
 (kn_ok
 (kn_ok
 (kl_ok (ok_aP (ok_iconst dL_law_445 rfl rfl)))
 (kl_ok (ok_zret rfl z_boolean dL_law_446)))
 (kn_ok
 (kl_ok (ok_aP (ok_iload dL_law_447 rfl)))
 (kn_ok
 (kl_ok (ok_aP (ok_if_ne dL_law_449 rfl rfl)))
 (kl_ok (ok_aP (ok_aload_n dL_law_452 rfl rfl)))))))
 (kn_ok
 (kn_ok
 (kn_ok
 (kl_ok (ok_aP (ok_iconst dL_law_453 rfl rfl)))
 (kl_ok (ok_aP (ok_lald dL_law_454 rfl))))
 (kn_ok
 (kl_ok (ok_aP (ok_iload dL_law_455 rfl)))
 (kn_ok
 (kl_ok (ok_aP (ok_i2l dL_law_457 rfl)))
 (kl_ok (ok_aP (ok_lcmp dL_law_458 rfl))))))
 (kn_ok
 (kn_ok
 (kl_ok (ok_aP (ok_if_eq dL_law_459 rfl rfl)))
 (kl_ok (ok_aP (ok_iconst dL_law_462 rfl rfl))))
 (kn_ok
 (kl_ok (ok_zret rfl z_boolean dL_law_463))
 (kn_ok
 (kl_ok (ok_aP (ok_goto dL_law_464 rfl)))
 (kl_ok (ok_aP (ok_aload_n dL_law_467 rfl rfl)))))))))
 (kn_ok
 (kn_ok
 (kn_ok
 (kn_ok
 (kn_ok
 (kl_ok (ok_aP (ok_aload_n dL_law_468 rfl rfl)))
 (kl_ok (ok_aP (ok_iload dL_law_469 rfl))))
 (kn_ok
 (kl_ok (ok_aP (ok_iconst dL_law_471 rfl rfl)))
 (kn_ok
 (kl_ok (ok_aP (ok_iadd dL_law_472 rfl)))
 (kl_ok (ok_aP (ok_iald dL_law_473 rfl))))))
 (kn_ok
 (kn_ok
 (kl_ok (ok_aP (ok_aload_n dL_law_474 rfl rfl)))
 (kl_ok (ok_aP (ok_iload dL_law_475 rfl))))
 (kn_ok
 (kl_ok (ok_aP (ok_iconst dL_law_477 rfl rfl)))
 (kn_ok
 (kl_ok (ok_aP (ok_iadd dL_law_478 rfl)))
 (kl_ok (ok_aP (ok_iald dL_law_479 rfl)))))))
 (kn_ok
 (kn_ok
 (kn_ok
 (kl_ok (ok_aP (ok_aload_n dL_law_480 rfl rfl)))
 (kl_ok (ok_aP (ok_iload dL_law_481 rfl))))
 (kn_ok
 (kl_ok (ok_aP (ok_iconst dL_law_483 rfl rfl)))
 (kn_ok
 (kl_ok (ok_aP (ok_iadd dL_law_484 rfl)))
 (kl_ok (ok_aP (ok_iald dL_law_485 rfl))))))
 (kn_ok
 (kn_ok
 (kl_ok (ok_aP (ok_aload_n dL_law_486 rfl rfl)))
 (kl_ok (ok_aP (ok_iload dL_law_487 rfl))))
 (kn_ok
 (kl_ok (ok_aP (ok_iconst dL_law_489 rfl rfl)))
 (kn_ok
 (kl_ok (ok_aP (ok_iadd dL_law_490 rfl)))
 (kl_ok (ok_aP (ok_iald dL_law_491 rfl))))))))
 (kn_ok
 (kn_ok
 (kn_ok
 (kn_ok
 (kl_ok (ok_aP (ok_aload_n dL_law_492 rfl rfl)))
 (kl_ok (ok_aP (ok_iload dL_law_493 rfl))))
 (kn_ok
 (kl_ok (ok_aP (ok_iconst dL_law_495 rfl rfl)))
 (kn_ok
 (kl_ok (ok_aP (ok_iadd dL_law_496 rfl)))
 (kl_ok (ok_aP (ok_iald dL_law_497 rfl))))))
 (kn_ok
 (kn_ok
 (kl_ok (ok_aP (ok_if_eq dL_law_498 rfl rfl)))
 (kl_ok (ok_aP (ok_iconst dL_law_501 rfl rfl))))
 (kn_ok
 (kl_ok (ok_aP (ok_goto dL_law_502 rfl)))
 (kn_ok
 (kl_ok (ok_aP (ok_iconst dL_law_505 rfl rfl)))
 (kl_ok (ok_aP (ok_aload_n dL_law_506 rfl rfl)))))))
 (kn_ok
 (kn_ok
 (kn_ok
 (kl_ok (ok_callS (run_SX (by rw [hm]; rfl) q1570 q1571 q82 q1572 ⟨nh_2, dl_7⟩ (by decide) dL_law_507) rfl))
 (kl_ok (ok_aP (ok_istore dL_law_510 rfl))))
 (kn_ok
 (kl_ok (ok_aP (ok_aload_n dL_law_512 rfl rfl)))
 (kn_ok
 (kl_ok (ok_aP (ok_aload_n dL_law_513 rfl rfl)))
 (kl_ok (ok_aP (ok_iload dL_law_514 rfl))))))
 (kn_ok
 (kn_ok
 (kl_ok (ok_aP (ok_iconst dL_law_516 rfl rfl)))
 (kn_ok
 (kl_ok (ok_aP (ok_iadd dL_law_517 rfl)))
 (kl_ok (ok_aP (ok_iald dL_law_518 rfl)))))
 (kn_ok
 (kl_ok (ok_aP (ok_aload_n dL_law_519 rfl rfl)))
 (kn_ok
 (kl_ok (ok_aP (ok_iload dL_law_520 rfl)))
 (kl_ok (ok_aP (ok_iconst dL_law_522 rfl rfl))))))))))
 (kn_ok
 (kn_ok
 (kn_ok
 (kn_ok
 (kn_ok
 (kn_ok
 (kl_ok (ok_aP (ok_iadd dL_law_523 rfl)))
 (kl_ok (ok_aP (ok_iald dL_law_524 rfl))))
 (kn_ok
 (kl_ok (ok_aP (ok_aload_n dL_law_525 rfl rfl)))
 (kn_ok
 (kl_ok (ok_aP (ok_iload dL_law_526 rfl)))
 (kl_ok (ok_aP (ok_iconst dL_law_528 rfl rfl))))))
 (kn_ok
 (kn_ok
 (kl_ok (ok_aP (ok_iadd dL_law_529 rfl)))
 (kl_ok (ok_aP (ok_iald dL_law_530 rfl))))
 (kn_ok
 (kl_ok (ok_aP (ok_aload_n dL_law_531 rfl rfl)))
 (kn_ok
 (kl_ok (ok_aP (ok_iload dL_law_532 rfl)))
 (kl_ok (ok_aP (ok_iconst dL_law_534 rfl rfl)))))))
 (kn_ok
 (kn_ok
 (kn_ok
 (kl_ok (ok_aP (ok_iadd dL_law_535 rfl)))
 (kl_ok (ok_aP (ok_iald dL_law_536 rfl))))
 (kn_ok
 (kl_ok (ok_aP (ok_aload_n dL_law_537 rfl rfl)))
 (kn_ok
 (kl_ok (ok_aP (ok_iload dL_law_538 rfl)))
 (kl_ok (ok_aP (ok_iconst dL_law_540 rfl rfl))))))
 (kn_ok
 (kn_ok
 (kl_ok (ok_aP (ok_iadd dL_law_541 rfl)))
 (kl_ok (ok_aP (ok_iald dL_law_542 rfl))))
 (kn_ok
 (kl_ok (ok_aP (ok_if_eq dL_law_543 rfl rfl)))
 (kn_ok
 (kl_ok (ok_aP (ok_iconst dL_law_546 rfl rfl)))
 (kl_ok (ok_aP (ok_goto dL_law_547 rfl))))))))
 (kn_ok
 (kn_ok
 (kn_ok
 (kn_ok
 (kl_ok (ok_aP (ok_iconst dL_law_550 rfl rfl)))
 (kl_ok (ok_callV (List.forall_mem_cons.mpr ⟨run_V (C0 := "FavourTownModel") rfl rfl (by rw [hm]; rfl) q2119 q2120 q2121 q92 q2122 ⟨nh_1, dl_8⟩ (by decide) dL_law_551, (fun _ h => absurd h List.not_mem_nil)⟩) rfl)))
 (kn_ok
 (kl_ok (ok_aP (ok_istore dL_law_554 rfl)))
 (kn_ok
 (kl_ok (ok_aP (ok_aload_n dL_law_556 rfl rfl)))
 (kl_ok (ok_callV (List.forall_mem_cons.mpr ⟨run_V (C0 := "FavourTownModel") rfl rfl (by rw [hm]; rfl) q1927 q1928 q1929 q92 q1930 ⟨nh_1, dl_4⟩ (by decide) dL_law_557, (fun _ h => absurd h List.not_mem_nil)⟩) rfl)))))
 (kn_ok
 (kn_ok
 (kl_ok (ok_aP (ok_iload dL_law_560 rfl)))
 (kl_ok (ok_aP (ok_icmp_eq dL_law_562 rfl rfl))))
 (kn_ok
 (kl_ok (ok_aP (ok_iconst dL_law_565 rfl rfl)))
 (kn_ok
 (kl_ok (ok_zret rfl z_boolean dL_law_566))
 (kl_ok (ok_aP (ok_iload dL_law_567 rfl)))))))
 (kn_ok
 (kn_ok
 (kn_ok
 (kl_ok (ok_aP (ok_if_ne dL_law_569 rfl rfl)))
 (kl_ok (ok_aP (ok_aload_n dL_law_572 rfl rfl))))
 (kn_ok
 (kl_ok (ok_aP (ok_iconst dL_law_573 rfl rfl)))
 (kn_ok
 (kl_ok (ok_aP (ok_lald dL_law_574 rfl)))
 (kl_ok (ok_aP (ok_iload dL_law_575 rfl))))))
 (kn_ok
 (kn_ok
 (kl_ok (ok_aP (ok_i2l dL_law_577 rfl)))
 (kn_ok
 (kl_ok (ok_aP (ok_lcmp dL_law_578 rfl)))
 (kl_ok (ok_aP (ok_if_eq dL_law_579 rfl rfl)))))
 (kn_ok
 (kl_ok (ok_aP (ok_iconst dL_law_582 rfl rfl)))
 (kn_ok
 (kl_ok (ok_zret rfl z_boolean dL_law_583))
 (kl_ok (ok_aP (ok_goto dL_law_584 rfl)))))))))
 (kn_ok
 (kn_ok
 (kn_ok
 (kn_ok
 (kn_ok
 (kl_ok (ok_aP (ok_aload_n dL_law_587 rfl rfl)))
 (kl_ok (ok_aP (ok_aload_n dL_law_588 rfl rfl))))
 (kn_ok
 (kl_ok (ok_aP (ok_iload dL_law_589 rfl)))
 (kn_ok
 (kl_ok (ok_aP (ok_iconst dL_law_591 rfl rfl)))
 (kl_ok (ok_aP (ok_iadd dL_law_592 rfl))))))
 (kn_ok
 (kn_ok
 (kl_ok (ok_aP (ok_iald dL_law_593 rfl)))
 (kl_ok (ok_aP (ok_aload_n dL_law_594 rfl rfl))))
 (kn_ok
 (kl_ok (ok_aP (ok_iload dL_law_595 rfl)))
 (kn_ok
 (kl_ok (ok_aP (ok_iconst dL_law_597 rfl rfl)))
 (kl_ok (ok_aP (ok_iadd dL_law_598 rfl)))))))
 (kn_ok
 (kn_ok
 (kn_ok
 (kl_ok (ok_aP (ok_iald dL_law_599 rfl)))
 (kl_ok (ok_aP (ok_aload_n dL_law_600 rfl rfl))))
 (kn_ok
 (kl_ok (ok_callS (run_SX (by rw [hm]; rfl) q1584 q1585 q82 q1586 ⟨nh_2, dl_5⟩ (by decide) dL_law_601) rfl))
 (kn_ok
 (kl_ok (ok_aP (ok_istore dL_law_604 rfl)))
 (kl_ok (ok_aP (ok_aload_n dL_law_606 rfl rfl))))))
 (kn_ok
 (kn_ok
 (kl_ok (ok_aP (ok_aload_n dL_law_607 rfl rfl)))
 (kl_ok (ok_aP (ok_iload dL_law_608 rfl))))
 (kn_ok
 (kl_ok (ok_aP (ok_iconst dL_law_610 rfl rfl)))
 (kn_ok
 (kl_ok (ok_aP (ok_iadd dL_law_611 rfl)))
 (kl_ok (ok_aP (ok_iald dL_law_612 rfl))))))))
 (kn_ok
 (kn_ok
 (kn_ok
 (kn_ok
 (kl_ok (ok_aP (ok_aload_n dL_law_613 rfl rfl)))
 (kl_ok (ok_aP (ok_iload dL_law_614 rfl))))
 (kn_ok
 (kl_ok (ok_aP (ok_iconst dL_law_616 rfl rfl)))
 (kn_ok
 (kl_ok (ok_aP (ok_iadd dL_law_617 rfl)))
 (kl_ok (ok_aP (ok_iald dL_law_618 rfl))))))
 (kn_ok
 (kn_ok
 (kl_ok (ok_callV (List.forall_mem_cons.mpr ⟨run_V (C0 := "FavourTownModel") rfl rfl (by rw [hm]; rfl) q2123 q2124 q2125 q92 q2126 ⟨nh_1, dl_6⟩ (by decide) dL_law_619, (fun _ h => absurd h List.not_mem_nil)⟩) rfl))
 (kl_ok (ok_aP (ok_istore dL_law_622 rfl))))
 (kn_ok
 (kl_ok (ok_aP (ok_aload_n dL_law_624 rfl rfl)))
 (kn_ok
 (kl_ok (ok_callV (List.forall_mem_cons.mpr ⟨run_V (C0 := "FavourTownModel") rfl rfl (by rw [hm]; rfl) q1927 q1928 q1929 q92 q1930 ⟨nh_1, dl_4⟩ (by decide) dL_law_625, (fun _ h => absurd h List.not_mem_nil)⟩) rfl))
 (kl_ok (ok_aP (ok_iload dL_law_628 rfl)))))))
 (kn_ok
 (kn_ok
 (kn_ok
 (kl_ok (ok_aP (ok_icmp_eq dL_law_630 rfl rfl)))
 (kl_ok (ok_aP (ok_iconst dL_law_633 rfl rfl))))
 (kn_ok
 (kl_ok (ok_zret rfl z_boolean dL_law_634))
 (kn_ok
 (kl_ok (ok_aP (ok_iload dL_law_635 rfl)))
 (kl_ok (ok_aP (ok_if_ne dL_law_637 rfl rfl))))))
 (kn_ok
 (kn_ok
 (kl_ok (ok_aP (ok_aload_n dL_law_640 rfl rfl)))
 (kn_ok
 (kl_ok (ok_aP (ok_iconst dL_law_641 rfl rfl)))
 (kl_ok (ok_aP (ok_lald dL_law_642 rfl)))))
 (kn_ok
 (kl_ok (ok_aP (ok_iload dL_law_643 rfl)))
 (kn_ok
 (kl_ok (ok_aP (ok_i2l dL_law_645 rfl)))
 (kl_ok (ok_aP (ok_lcmp dL_law_646 rfl))))))))))))
 (kn_ok
 (kn_ok
 (kn_ok
 (kn_ok
 (kn_ok
 (kn_ok
 (kn_ok
 (kn_ok
 (kl_ok (ok_aP (ok_if_eq dL_law_647 rfl rfl)))
 (kl_ok (ok_aP (ok_iconst dL_law_650 rfl rfl))))
 (kn_ok
 (kl_ok (ok_zret rfl z_boolean dL_law_651))
 (kn_ok
 (kl_ok (ok_aP (ok_goto dL_law_652 rfl)))
 (kl_ok (ok_aP (ok_aload_n dL_law_655 rfl rfl))))))
 (kn_ok
 (kn_ok
 (kl_ok (ok_aP (ok_aload_n dL_law_656 rfl rfl)))
 (kl_ok (ok_aP (ok_iload dL_law_657 rfl))))
 (kn_ok
 (kl_ok (ok_aP (ok_iconst dL_law_659 rfl rfl)))
 (kn_ok
 (kl_ok (ok_aP (ok_iadd dL_law_660 rfl)))
 (kl_ok (ok_aP (ok_iald dL_law_661 rfl)))))))
 (kn_ok
 (kn_ok
 (kn_ok
 (kl_ok (ok_aP (ok_aload_n dL_law_662 rfl rfl)))
 (kl_ok (ok_callS (run_SX (by rw [hm]; rfl) q1595 q1596 q82 q1597 ⟨nh_2, dl_9⟩ (by decide) dL_law_663) rfl)))
 (kn_ok
 (kl_ok (ok_aP (ok_istore dL_law_666 rfl)))
 (kn_ok
 (kl_ok (ok_aP (ok_aload_n dL_law_668 rfl rfl)))
 (kl_ok (ok_aP (ok_aload_n dL_law_669 rfl rfl))))))
 (kn_ok
 (kn_ok
 (kl_ok (ok_aP (ok_iload dL_law_670 rfl)))
 (kl_ok (ok_aP (ok_iconst dL_law_672 rfl rfl))))
 (kn_ok
 (kl_ok (ok_aP (ok_iadd dL_law_673 rfl)))
 (kn_ok
 (kl_ok (ok_aP (ok_iald dL_law_674 rfl)))
 (kl_ok (ok_callV (List.forall_mem_cons.mpr ⟨run_V (C0 := "FavourTownModel") rfl rfl (by rw [hm]; rfl) q2131 q2132 q2133 q92 q2134 ⟨nh_1, dl_10⟩ (by decide) dL_law_675, (fun _ h => absurd h List.not_mem_nil)⟩) rfl)))))))
 (kn_ok
 (kn_ok
 (kn_ok
 (kn_ok
 (kl_ok (ok_aP (ok_istore dL_law_678 rfl)))
 (kl_ok (ok_aP (ok_aload_n dL_law_680 rfl rfl))))
 (kn_ok
 (kl_ok (ok_callV (List.forall_mem_cons.mpr ⟨run_V (C0 := "FavourTownModel") rfl rfl (by rw [hm]; rfl) q1927 q1928 q1929 q92 q1930 ⟨nh_1, dl_4⟩ (by decide) dL_law_681, (fun _ h => absurd h List.not_mem_nil)⟩) rfl))
 (kn_ok
 (kl_ok (ok_aP (ok_iload dL_law_684 rfl)))
 (kl_ok (ok_aP (ok_icmp_eq dL_law_686 rfl rfl))))))
 (kn_ok
 (kn_ok
 (kl_ok (ok_aP (ok_iconst dL_law_689 rfl rfl)))
 (kl_ok (ok_zret rfl z_boolean dL_law_690)))
 (kn_ok
 (kl_ok (ok_aP (ok_iload dL_law_691 rfl)))
 (kn_ok
 (kl_ok (ok_aP (ok_if_ne dL_law_693 rfl rfl)))
 (kl_ok (ok_aP (ok_aload_n dL_law_696 rfl rfl)))))))
 (kn_ok
 (kn_ok
 (kn_ok
 (kl_ok (ok_aP (ok_iconst dL_law_697 rfl rfl)))
 (kl_ok (ok_aP (ok_lald dL_law_698 rfl))))
 (kn_ok
 (kl_ok (ok_aP (ok_iload dL_law_699 rfl)))
 (kn_ok
 (kl_ok (ok_aP (ok_i2l dL_law_701 rfl)))
 (kl_ok (ok_aP (ok_lcmp dL_law_702 rfl))))))
 (kn_ok
 (kn_ok
 (kl_ok (ok_aP (ok_if_eq dL_law_703 rfl rfl)))
 (kl_ok (ok_aP (ok_iconst dL_law_706 rfl rfl))))
 (kn_ok
 (kl_ok (ok_zret rfl z_boolean dL_law_707))
 (kn_ok
 (kl_ok (ok_aP (ok_goto dL_law_708 rfl)))
 (kl_ok (ok_aP (ok_aload_n dL_law_711 rfl rfl)))))))))
 (kn_ok
 (kn_ok
 (kn_ok
 (kn_ok
 (kn_ok
 (kl_ok (ok_aP (ok_aload_n dL_law_712 rfl rfl)))
 (kl_ok (ok_aP (ok_iload dL_law_713 rfl))))
 (kn_ok
 (kl_ok (ok_aP (ok_iconst dL_law_715 rfl rfl)))
 (kn_ok
 (kl_ok (ok_aP (ok_iadd dL_law_716 rfl)))
 (kl_ok (ok_aP (ok_iald dL_law_717 rfl))))))
 (kn_ok
 (kn_ok
 (kl_ok (ok_aP (ok_aload_n dL_law_718 rfl rfl)))
 (kl_ok (ok_callS (run_SX (by rw [hm]; rfl) q1603 q1604 q82 q1605 ⟨nh_2, dl_9⟩ (by decide) dL_law_719) rfl)))
 (kn_ok
 (kl_ok (ok_aP (ok_istore dL_law_722 rfl)))
 (kn_ok
 (kl_ok (ok_aP (ok_aload_n dL_law_724 rfl rfl)))
 (kl_ok (ok_aP (ok_aload_n dL_law_725 rfl rfl)))))))
 (kn_ok
 (kn_ok
 (kn_ok
 (kl_ok (ok_aP (ok_iload dL_law_726 rfl)))
 (kl_ok (ok_aP (ok_iconst dL_law_728 rfl rfl))))
 (kn_ok
 (kl_ok (ok_aP (ok_iadd dL_law_729 rfl)))
 (kn_ok
 (kl_ok (ok_aP (ok_iald dL_law_730 rfl)))
 (kl_ok (ok_callV (List.forall_mem_cons.mpr ⟨run_V (C0 := "FavourTownModel") rfl rfl (by rw [hm]; rfl) q2135 q2136 q2137 q92 q2138 ⟨nh_1, dl_10⟩ (by decide) dL_law_731, (fun _ h => absurd h List.not_mem_nil)⟩) rfl)))))
 (kn_ok
 (kn_ok
 (kl_ok (ok_aP (ok_istore dL_law_734 rfl)))
 (kl_ok (ok_aP (ok_aload_n dL_law_736 rfl rfl))))
 (kn_ok
 (kl_ok (ok_callV (List.forall_mem_cons.mpr ⟨run_V (C0 := "FavourTownModel") rfl rfl (by rw [hm]; rfl) q1927 q1928 q1929 q92 q1930 ⟨nh_1, dl_4⟩ (by decide) dL_law_737, (fun _ h => absurd h List.not_mem_nil)⟩) rfl))
 (kn_ok
 (kl_ok (ok_aP (ok_iload dL_law_740 rfl)))
 (kl_ok (ok_aP (ok_icmp_eq dL_law_742 rfl rfl))))))))
 (kn_ok
 (kn_ok
 (kn_ok
 (kn_ok
 (kl_ok (ok_aP (ok_iconst dL_law_745 rfl rfl)))
 (kl_ok (ok_zret rfl z_boolean dL_law_746)))
 (kn_ok
 (kl_ok (ok_aP (ok_iload dL_law_747 rfl)))
 (kn_ok
 (kl_ok (ok_aP (ok_if_ne dL_law_749 rfl rfl)))
 (kl_ok (ok_aP (ok_aload_n dL_law_752 rfl rfl))))))
 (kn_ok
 (kn_ok
 (kl_ok (ok_aP (ok_iconst dL_law_753 rfl rfl)))
 (kl_ok (ok_aP (ok_lald dL_law_754 rfl))))
 (kn_ok
 (kl_ok (ok_aP (ok_iload dL_law_755 rfl)))
 (kn_ok
 (kl_ok (ok_aP (ok_i2l dL_law_757 rfl)))
 (kl_ok (ok_aP (ok_lcmp dL_law_758 rfl)))))))
 (kn_ok
 (kn_ok
 (kn_ok
 (kl_ok (ok_aP (ok_if_eq dL_law_759 rfl rfl)))
 (kl_ok (ok_aP (ok_iconst dL_law_762 rfl rfl))))
 (kn_ok
 (kl_ok (ok_zret rfl z_boolean dL_law_763))
 (kn_ok
 (kl_ok (ok_aP (ok_goto dL_law_764 rfl)))
 (kl_ok (ok_aP (ok_aload_n dL_law_767 rfl rfl))))))
 (kn_ok
 (kn_ok
 (kl_ok (ok_aP (ok_aload_n dL_law_768 rfl rfl)))
 (kn_ok
 (kl_ok (ok_aP (ok_iload dL_law_769 rfl)))
 (kl_ok (ok_aP (ok_iconst dL_law_771 rfl rfl)))))
 (kn_ok
 (kl_ok (ok_aP (ok_iadd dL_law_772 rfl)))
 (kn_ok
 (kl_ok (ok_aP (ok_iald dL_law_773 rfl)))
 (kl_ok (ok_aP (ok_aload_n dL_law_774 rfl rfl))))))))))
 (kn_ok
 (kn_ok
 (kn_ok
 (kn_ok
 (kn_ok
 (kn_ok
 (kl_ok (ok_aP (ok_iload dL_law_775 rfl)))
 (kl_ok (ok_aP (ok_iconst dL_law_777 rfl rfl))))
 (kn_ok
 (kl_ok (ok_aP (ok_iadd dL_law_778 rfl)))
 (kn_ok
 (kl_ok (ok_aP (ok_iald dL_law_779 rfl)))
 (kl_ok (ok_aP (ok_aload_n dL_law_780 rfl rfl))))))
 (kn_ok
 (kn_ok
 (kl_ok (ok_callS (run_SX (by rw [hm]; rfl) q1610 q1611 q82 q1612 ⟨nh_2, dl_5⟩ (by decide) dL_law_781) rfl))
 (kl_ok (ok_aP (ok_istore dL_law_784 rfl))))
 (kn_ok
 (kl_ok (ok_aP (ok_aload_n dL_law_786 rfl rfl)))
 (kn_ok
 (kl_ok (ok_aP (ok_aload_n dL_law_787 rfl rfl)))
 (kl_ok (ok_aP (ok_iload dL_law_788 rfl)))))))
 (kn_ok
 (kn_ok
 (kn_ok
 (kl_ok (ok_aP (ok_iconst dL_law_790 rfl rfl)))
 (kl_ok (ok_aP (ok_iadd dL_law_791 rfl))))
 (kn_ok
 (kl_ok (ok_aP (ok_iald dL_law_792 rfl)))
 (kn_ok
 (kl_ok (ok_aP (ok_aload_n dL_law_793 rfl rfl)))
 (kl_ok (ok_aP (ok_iload dL_law_794 rfl))))))
 (kn_ok
 (kn_ok
 (kl_ok (ok_aP (ok_iconst dL_law_796 rfl rfl)))
 (kl_ok (ok_aP (ok_iadd dL_law_797 rfl))))
 (kn_ok
 (kl_ok (ok_aP (ok_iald dL_law_798 rfl)))
 (kn_ok
 (kl_ok (ok_callV (List.forall_mem_cons.mpr ⟨run_V (C0 := "FavourTownModel") rfl rfl (by rw [hm]; rfl) q2139 q2140 q2141 q92 q2142 ⟨nh_1, dl_6⟩ (by decide) dL_law_799, (fun _ h => absurd h List.not_mem_nil)⟩) rfl))
 (kl_ok (ok_aP (ok_istore dL_law_802 rfl))))))))
 (kn_ok
 (kn_ok
 (kn_ok
 (kn_ok
 (kl_ok (ok_aP (ok_aload_n dL_law_804 rfl rfl)))
 (kl_ok (ok_callV (List.forall_mem_cons.mpr ⟨run_V (C0 := "FavourTownModel") rfl rfl (by rw [hm]; rfl) q1927 q1928 q1929 q92 q1930 ⟨nh_1, dl_4⟩ (by decide) dL_law_805, (fun _ h => absurd h List.not_mem_nil)⟩) rfl)))
 (kn_ok
 (kl_ok (ok_aP (ok_iload dL_law_808 rfl)))
 (kn_ok
 (kl_ok (ok_aP (ok_icmp_eq dL_law_810 rfl rfl)))
 (kl_ok (ok_aP (ok_iconst dL_law_813 rfl rfl))))))
 (kn_ok
 (kn_ok
 (kl_ok (ok_zret rfl z_boolean dL_law_814))
 (kl_ok (ok_aP (ok_iload dL_law_815 rfl))))
 (kn_ok
 (kl_ok (ok_aP (ok_if_ne dL_law_817 rfl rfl)))
 (kn_ok
 (kl_ok (ok_aP (ok_aload_n dL_law_820 rfl rfl)))
 (kl_ok (ok_aP (ok_iconst dL_law_821 rfl rfl)))))))
 (kn_ok
 (kn_ok
 (kn_ok
 (kl_ok (ok_aP (ok_lald dL_law_822 rfl)))
 (kl_ok (ok_aP (ok_iload dL_law_823 rfl))))
 (kn_ok
 (kl_ok (ok_aP (ok_i2l dL_law_825 rfl)))
 (kn_ok
 (kl_ok (ok_aP (ok_lcmp dL_law_826 rfl)))
 (kl_ok (ok_aP (ok_if_eq dL_law_827 rfl rfl))))))
 (kn_ok
 (kn_ok
 (kl_ok (ok_aP (ok_iconst dL_law_830 rfl rfl)))
 (kl_ok (ok_zret rfl z_boolean dL_law_831)))
 (kn_ok
 (kl_ok (ok_aP (ok_goto dL_law_832 rfl)))
 (kn_ok
 (kl_ok (ok_aP (ok_aload_n dL_law_835 rfl rfl)))
 (kl_ok (ok_aP (ok_aload_n dL_law_836 rfl rfl)))))))))
 (kn_ok
 (kn_ok
 (kn_ok
 (kn_ok
 (kn_ok
 (kl_ok (ok_aP (ok_iload dL_law_837 rfl)))
 (kl_ok (ok_aP (ok_iconst dL_law_839 rfl rfl))))
 (kn_ok
 (kl_ok (ok_aP (ok_iadd dL_law_840 rfl)))
 (kn_ok
 (kl_ok (ok_aP (ok_iald dL_law_841 rfl)))
 (kl_ok (ok_aP (ok_aload_n dL_law_842 rfl rfl))))))
 (kn_ok
 (kn_ok
 (kl_ok (ok_aP (ok_iload dL_law_843 rfl)))
 (kl_ok (ok_aP (ok_iconst dL_law_845 rfl rfl))))
 (kn_ok
 (kl_ok (ok_aP (ok_iadd dL_law_846 rfl)))
 (kn_ok
 (kl_ok (ok_aP (ok_iald dL_law_847 rfl)))
 (kl_ok (ok_aP (ok_aload_n dL_law_848 rfl rfl)))))))
 (kn_ok
 (kn_ok
 (kn_ok
 (kl_ok (ok_callS (run_SX (by rw [hm]; rfl) q1637 q1638 q82 q1639 ⟨nh_2, dl_5⟩ (by decide) dL_law_849) rfl))
 (kl_ok (ok_aP (ok_istore dL_law_852 rfl))))
 (kn_ok
 (kl_ok (ok_aP (ok_aload_n dL_law_854 rfl rfl)))
 (kn_ok
 (kl_ok (ok_aP (ok_aload_n dL_law_855 rfl rfl)))
 (kl_ok (ok_aP (ok_iload dL_law_856 rfl))))))
 (kn_ok
 (kn_ok
 (kl_ok (ok_aP (ok_iconst dL_law_858 rfl rfl)))
 (kl_ok (ok_aP (ok_iadd dL_law_859 rfl))))
 (kn_ok
 (kl_ok (ok_aP (ok_iald dL_law_860 rfl)))
 (kn_ok
 (kl_ok (ok_aP (ok_aload_n dL_law_861 rfl rfl)))
 (kl_ok (ok_aP (ok_iload dL_law_862 rfl))))))))
 (kn_ok
 (kn_ok
 (kn_ok
 (kn_ok
 (kl_ok (ok_aP (ok_iconst dL_law_864 rfl rfl)))
 (kl_ok (ok_aP (ok_iadd dL_law_865 rfl))))
 (kn_ok
 (kl_ok (ok_aP (ok_iald dL_law_866 rfl)))
 (kn_ok
 (kl_ok (ok_callV (List.forall_mem_cons.mpr ⟨run_V (C0 := "FavourTownModel") rfl rfl (by rw [hm]; rfl) q2143 q2144 q2145 q92 q2146 ⟨nh_1, dl_6⟩ (by decide) dL_law_867, (fun _ h => absurd h List.not_mem_nil)⟩) rfl))
 (kl_ok (ok_aP (ok_istore dL_law_870 rfl))))))
 (kn_ok
 (kn_ok
 (kl_ok (ok_aP (ok_aload_n dL_law_872 rfl rfl)))
 (kl_ok (ok_callV (List.forall_mem_cons.mpr ⟨run_V (C0 := "FavourTownModel") rfl rfl (by rw [hm]; rfl) q1927 q1928 q1929 q92 q1930 ⟨nh_1, dl_4⟩ (by decide) dL_law_873, (fun _ h => absurd h List.not_mem_nil)⟩) rfl)))
 (kn_ok
 (kl_ok (ok_aP (ok_iload dL_law_876 rfl)))
 (kn_ok
 (kl_ok (ok_aP (ok_icmp_eq dL_law_878 rfl rfl)))
 (kl_ok (ok_aP (ok_iconst dL_law_881 rfl rfl)))))))
 (kn_ok
 (kn_ok
 (kn_ok
 (kl_ok (ok_zret rfl z_boolean dL_law_882))
 (kl_ok (ok_aP (ok_iload dL_law_883 rfl))))
 (kn_ok
 (kl_ok (ok_aP (ok_if_ne dL_law_885 rfl rfl)))
 (kn_ok
 (kl_ok (ok_aP (ok_aload_n dL_law_888 rfl rfl)))
 (kl_ok (ok_aP (ok_iconst dL_law_889 rfl rfl))))))
 (kn_ok
 (kn_ok
 (kl_ok (ok_aP (ok_lald dL_law_890 rfl)))
 (kn_ok
 (kl_ok (ok_aP (ok_iload dL_law_891 rfl)))
 (kl_ok (ok_aP (ok_i2l dL_law_893 rfl)))))
 (kn_ok
 (kl_ok (ok_aP (ok_lcmp dL_law_894 rfl)))
 (kn_ok
 (kl_ok (ok_aP (ok_if_eq dL_law_895 rfl rfl)))
 (kl_ok (ok_aP (ok_iconst dL_law_898 rfl rfl)))))))))))
 (kn_ok
 (kn_ok
 (kn_ok
 (kn_ok
 (kn_ok
 (kn_ok
 (kn_ok
 (kl_ok (ok_zret rfl z_boolean dL_law_899))
 (kl_ok (ok_aP (ok_goto dL_law_900 rfl))))
 (kn_ok
 (kl_ok (ok_aP (ok_aload_n dL_law_903 rfl rfl)))
 (kn_ok
 (kl_ok (ok_aP (ok_aload_n dL_law_904 rfl rfl)))
 (kl_ok (ok_aP (ok_iload dL_law_905 rfl))))))
 (kn_ok
 (kn_ok
 (kl_ok (ok_aP (ok_iconst dL_law_907 rfl rfl)))
 (kl_ok (ok_aP (ok_iadd dL_law_908 rfl))))
 (kn_ok
 (kl_ok (ok_aP (ok_iald dL_law_909 rfl)))
 (kn_ok
 (kl_ok (ok_aP (ok_aload_n dL_law_910 rfl rfl)))
 (kl_ok (ok_aP (ok_iload dL_law_911 rfl)))))))
 (kn_ok
 (kn_ok
 (kn_ok
 (kl_ok (ok_aP (ok_iconst dL_law_913 rfl rfl)))
 (kl_ok (ok_aP (ok_iadd dL_law_914 rfl))))
 (kn_ok
 (kl_ok (ok_aP (ok_iald dL_law_915 rfl)))
 (kn_ok
 (kl_ok (ok_aP (ok_aload_n dL_law_916 rfl rfl)))
 (kl_ok (ok_callS (run_SX (by rw [hm]; rfl) q1644 q1645 q82 q1646 ⟨nh_2, dl_5⟩ (by decide) dL_law_917) rfl)))))
 (kn_ok
 (kn_ok
 (kl_ok (ok_aP (ok_istore dL_law_920 rfl)))
 (kl_ok (ok_aP (ok_aload_n dL_law_922 rfl rfl))))
 (kn_ok
 (kl_ok (ok_aP (ok_aload_n dL_law_923 rfl rfl)))
 (kn_ok
 (kl_ok (ok_aP (ok_iload dL_law_924 rfl)))
 (kl_ok (ok_aP (ok_iconst dL_law_926 rfl rfl))))))))
 (kn_ok
 (kn_ok
 (kn_ok
 (kn_ok
 (kl_ok (ok_aP (ok_iadd dL_law_927 rfl)))
 (kl_ok (ok_aP (ok_iald dL_law_928 rfl))))
 (kn_ok
 (kl_ok (ok_aP (ok_aload_n dL_law_929 rfl rfl)))
 (kn_ok
 (kl_ok (ok_aP (ok_iload dL_law_930 rfl)))
 (kl_ok (ok_aP (ok_iconst dL_law_932 rfl rfl))))))
 (kn_ok
 (kn_ok
 (kl_ok (ok_aP (ok_iadd dL_law_933 rfl)))
 (kl_ok (ok_aP (ok_iald dL_law_934 rfl))))
 (kn_ok
 (kl_ok (ok_callV (List.forall_mem_cons.mpr ⟨run_V (C0 := "FavourTownModel") rfl rfl (by rw [hm]; rfl) q2147 q2148 q2149 q92 q2150 ⟨nh_1, dl_11⟩ (by decide) dL_law_935, (fun _ h => absurd h List.not_mem_nil)⟩) rfl))
 (kn_ok
 (kl_ok (ok_aP (ok_istore dL_law_938 rfl)))
 (kl_ok (ok_aP (ok_aload_n dL_law_940 rfl rfl)))))))
 (kn_ok
 (kn_ok
 (kn_ok
 (kl_ok (ok_callV (List.forall_mem_cons.mpr ⟨run_V (C0 := "FavourTownModel") rfl rfl (by rw [hm]; rfl) q1927 q1928 q1929 q92 q1930 ⟨nh_1, dl_4⟩ (by decide) dL_law_941, (fun _ h => absurd h List.not_mem_nil)⟩) rfl))
 (kl_ok (ok_aP (ok_iload dL_law_944 rfl))))
 (kn_ok
 (kl_ok (ok_aP (ok_icmp_eq dL_law_946 rfl rfl)))
 (kn_ok
 (kl_ok (ok_aP (ok_iconst dL_law_949 rfl rfl)))
 (kl_ok (ok_zret rfl z_boolean dL_law_950)))))
 (kn_ok
 (kn_ok
 (kl_ok (ok_aP (ok_iload dL_law_951 rfl)))
 (kl_ok (ok_aP (ok_if_ne dL_law_953 rfl rfl))))
 (kn_ok
 (kl_ok (ok_aP (ok_aload_n dL_law_956 rfl rfl)))
 (kn_ok
 (kl_ok (ok_aP (ok_iconst dL_law_957 rfl rfl)))
 (kl_ok (ok_aP (ok_lald dL_law_958 rfl)))))))))
 (kn_ok
 (kn_ok
 (kn_ok
 (kn_ok
 (kn_ok
 (kl_ok (ok_aP (ok_iload dL_law_959 rfl)))
 (kl_ok (ok_aP (ok_if_eq dL_law_961 rfl rfl))))
 (kn_ok
 (kl_ok (ok_aP (ok_lconst dL_law_964 (by decide +kernel) rfl)))
 (kn_ok
 (kl_ok (ok_aP (ok_goto dL_law_965 rfl)))
 (kl_ok (ok_aP (ok_lconst dL_law_968 (by decide +kernel) rfl))))))
 (kn_ok
 (kn_ok
 (kl_ok (ok_aP (ok_lcmp dL_law_969 rfl)))
 (kl_ok (ok_aP (ok_if_eq dL_law_970 rfl rfl))))
 (kn_ok
 (kl_ok (ok_aP (ok_iconst dL_law_973 rfl rfl)))
 (kn_ok
 (kl_ok (ok_zret rfl z_boolean dL_law_974))
 (kl_ok (ok_aP (ok_goto dL_law_975 rfl)))))))
 (kn_ok
 (kn_ok
 (kn_ok
 (kl_ok (ok_aP (ok_aload_n dL_law_978 rfl rfl)))
 (kl_ok (ok_aP (ok_aload_n dL_law_979 rfl rfl))))
 (kn_ok
 (kl_ok (ok_aP (ok_iload dL_law_980 rfl)))
 (kn_ok
 (kl_ok (ok_aP (ok_iconst dL_law_982 rfl rfl)))
 (kl_ok (ok_aP (ok_iadd dL_law_983 rfl))))))
 (kn_ok
 (kn_ok
 (kl_ok (ok_aP (ok_iald dL_law_984 rfl)))
 (kl_ok (ok_aP (ok_aload_n dL_law_985 rfl rfl))))
 (kn_ok
 (kl_ok (ok_callS (run_SX (by rw [hm]; rfl) q1652 q1653 q82 q1654 ⟨nh_2, dl_9⟩ (by decide) dL_law_986) rfl))
 (kn_ok
 (kl_ok (ok_aP (ok_istore dL_law_989 rfl)))
 (kl_ok (ok_aP (ok_aload_n dL_law_991 rfl rfl))))))))
 (kn_ok
 (kn_ok
 (kn_ok
 (kn_ok
 (kl_ok (ok_aP (ok_aload_n dL_law_992 rfl rfl)))
 (kl_ok (ok_aP (ok_iload dL_law_993 rfl))))
 (kn_ok
 (kl_ok (ok_aP (ok_iconst dL_law_995 rfl rfl)))
 (kn_ok
 (kl_ok (ok_aP (ok_iadd dL_law_996 rfl)))
 (kl_ok (ok_aP (ok_iald dL_law_997 rfl))))))
 (kn_ok
 (kn_ok
 (kl_ok (ok_callV (List.forall_mem_cons.mpr ⟨run_V (C0 := "FavourTownModel") rfl rfl (by rw [hm]; rfl) q2151 q2152 q2153 q92 q2154 ⟨nh_1, dl_10⟩ (by decide) dL_law_998, (fun _ h => absurd h List.not_mem_nil)⟩) rfl))
 (kl_ok (ok_aP (ok_istore dL_law_1001 rfl))))
 (kn_ok
 (kl_ok (ok_aP (ok_aload_n dL_law_1003 rfl rfl)))
 (kn_ok
 (kl_ok (ok_callV (List.forall_mem_cons.mpr ⟨run_V (C0 := "FavourTownModel") rfl rfl (by rw [hm]; rfl) q1927 q1928 q1929 q92 q1930 ⟨nh_1, dl_4⟩ (by decide) dL_law_1004, (fun _ h => absurd h List.not_mem_nil)⟩) rfl))
 (kl_ok (ok_aP (ok_iload dL_law_1007 rfl)))))))
 (kn_ok
 (kn_ok
 (kn_ok
 (kl_ok (ok_aP (ok_icmp_eq dL_law_1009 rfl rfl)))
 (kl_ok (ok_aP (ok_iconst dL_law_1012 rfl rfl))))
 (kn_ok
 (kl_ok (ok_zret rfl z_boolean dL_law_1013))
 (kn_ok
 (kl_ok (ok_aP (ok_iload dL_law_1014 rfl)))
 (kl_ok (ok_aP (ok_if_ne dL_law_1016 rfl rfl))))))
 (kn_ok
 (kn_ok
 (kl_ok (ok_aP (ok_aload_n dL_law_1019 rfl rfl)))
 (kn_ok
 (kl_ok (ok_aP (ok_iconst dL_law_1020 rfl rfl)))
 (kl_ok (ok_aP (ok_lald dL_law_1021 rfl)))))
 (kn_ok
 (kl_ok (ok_aP (ok_iload dL_law_1022 rfl)))
 (kn_ok
 (kl_ok (ok_aP (ok_i2l dL_law_1024 rfl)))
 (kl_ok (ok_aP (ok_lcmp dL_law_1025 rfl))))))))))
 (kn_ok
 (kn_ok
 (kn_ok
 (kn_ok
 (kn_ok
 (kn_ok
 (kl_ok (ok_aP (ok_if_eq dL_law_1026 rfl rfl)))
 (kl_ok (ok_aP (ok_iconst dL_law_1029 rfl rfl))))
 (kn_ok
 (kl_ok (ok_zret rfl z_boolean dL_law_1030))
 (kn_ok
 (kl_ok (ok_aP (ok_goto dL_law_1031 rfl)))
 (kl_ok (ok_aP (ok_aload_n dL_law_1034 rfl rfl))))))
 (kn_ok
 (kn_ok
 (kl_ok (ok_aP (ok_aload_n dL_law_1035 rfl rfl)))
 (kl_ok (ok_aP (ok_iload dL_law_1036 rfl))))
 (kn_ok
 (kl_ok (ok_aP (ok_iconst dL_law_1038 rfl rfl)))
 (kn_ok
 (kl_ok (ok_aP (ok_iadd dL_law_1039 rfl)))
 (kl_ok (ok_aP (ok_iald dL_law_1040 rfl)))))))
 (kn_ok
 (kn_ok
 (kn_ok
 (kl_ok (ok_aP (ok_aload_n dL_law_1041 rfl rfl)))
 (kl_ok (ok_callS (run_SX (by rw [hm]; rfl) q1660 q1661 q82 q1662 ⟨nh_2, dl_9⟩ (by decide) dL_law_1042) rfl)))
 (kn_ok
 (kl_ok (ok_aP (ok_istore dL_law_1045 rfl)))
 (kn_ok
 (kl_ok (ok_aP (ok_aload_n dL_law_1047 rfl rfl)))
 (kl_ok (ok_aP (ok_aload_n dL_law_1048 rfl rfl))))))
 (kn_ok
 (kn_ok
 (kl_ok (ok_aP (ok_iload dL_law_1049 rfl)))
 (kl_ok (ok_aP (ok_iconst dL_law_1051 rfl rfl))))
 (kn_ok
 (kl_ok (ok_aP (ok_iadd dL_law_1052 rfl)))
 (kn_ok
 (kl_ok (ok_aP (ok_iald dL_law_1053 rfl)))
 (kl_ok (ok_callV (List.forall_mem_cons.mpr ⟨run_V (C0 := "FavourTownModel") rfl rfl (by rw [hm]; rfl) q2155 q2156 q2157 q92 q2158 ⟨nh_1, dl_10⟩ (by decide) dL_law_1054, (fun _ h => absurd h List.not_mem_nil)⟩) rfl)))))))
 (kn_ok
 (kn_ok
 (kn_ok
 (kn_ok
 (kl_ok (ok_aP (ok_istore dL_law_1057 rfl)))
 (kl_ok (ok_aP (ok_aload_n dL_law_1059 rfl rfl))))
 (kn_ok
 (kl_ok (ok_callV (List.forall_mem_cons.mpr ⟨run_V (C0 := "FavourTownModel") rfl rfl (by rw [hm]; rfl) q1927 q1928 q1929 q92 q1930 ⟨nh_1, dl_4⟩ (by decide) dL_law_1060, (fun _ h => absurd h List.not_mem_nil)⟩) rfl))
 (kn_ok
 (kl_ok (ok_aP (ok_iload dL_law_1063 rfl)))
 (kl_ok (ok_aP (ok_icmp_eq dL_law_1065 rfl rfl))))))
 (kn_ok
 (kn_ok
 (kl_ok (ok_aP (ok_iconst dL_law_1068 rfl rfl)))
 (kl_ok (ok_zret rfl z_boolean dL_law_1069)))
 (kn_ok
 (kl_ok (ok_aP (ok_iload dL_law_1070 rfl)))
 (kn_ok
 (kl_ok (ok_aP (ok_if_ne dL_law_1072 rfl rfl)))
 (kl_ok (ok_aP (ok_aload_n dL_law_1075 rfl rfl)))))))
 (kn_ok
 (kn_ok
 (kn_ok
 (kl_ok (ok_aP (ok_iconst dL_law_1076 rfl rfl)))
 (kl_ok (ok_aP (ok_lald dL_law_1077 rfl))))
 (kn_ok
 (kl_ok (ok_aP (ok_iload dL_law_1078 rfl)))
 (kn_ok
 (kl_ok (ok_aP (ok_i2l dL_law_1080 rfl)))
 (kl_ok (ok_aP (ok_lcmp dL_law_1081 rfl))))))
 (kn_ok
 (kn_ok
 (kl_ok (ok_aP (ok_if_eq dL_law_1082 rfl rfl)))
 (kn_ok
 (kl_ok (ok_aP (ok_iconst dL_law_1085 rfl rfl)))
 (kl_ok (ok_zret rfl z_boolean dL_law_1086))))
 (kn_ok
 (kl_ok (ok_aP (ok_goto dL_law_1087 rfl)))
 (kn_ok
 (kl_ok (ok_aP (ok_aload_n dL_law_1090 rfl rfl)))
 (kl_ok (ok_aP (ok_aload_n dL_law_1091 rfl rfl)))))))))
 (kn_ok
 (kn_ok
 (kn_ok
 (kn_ok
 (kn_ok
 (kl_ok (ok_aP (ok_iload dL_law_1092 rfl)))
 (kl_ok (ok_aP (ok_iconst dL_law_1094 rfl rfl))))
 (kn_ok
 (kl_ok (ok_aP (ok_iadd dL_law_1095 rfl)))
 (kn_ok
 (kl_ok (ok_aP (ok_iald dL_law_1096 rfl)))
 (kl_ok (ok_aP (ok_aload_n dL_law_1097 rfl rfl))))))
 (kn_ok
 (kn_ok
 (kl_ok (ok_aP (ok_iload dL_law_1098 rfl)))
 (kl_ok (ok_aP (ok_iconst dL_law_1100 rfl rfl))))
 (kn_ok
 (kl_ok (ok_aP (ok_iadd dL_law_1101 rfl)))
 (kn_ok
 (kl_ok (ok_aP (ok_iald dL_law_1102 rfl)))
 (kl_ok (ok_aP (ok_aload_n dL_law_1103 rfl rfl)))))))
 (kn_ok
 (kn_ok
 (kn_ok
 (kl_ok (ok_callS (run_SX (by rw [hm]; rfl) q1668 q1669 q82 q1670 ⟨nh_2, dl_5⟩ (by decide) dL_law_1104) rfl))
 (kl_ok (ok_aP (ok_istore dL_law_1107 rfl))))
 (kn_ok
 (kl_ok (ok_aP (ok_aload_n dL_law_1109 rfl rfl)))
 (kn_ok
 (kl_ok (ok_aP (ok_aload_n dL_law_1110 rfl rfl)))
 (kl_ok (ok_aP (ok_iload dL_law_1111 rfl))))))
 (kn_ok
 (kn_ok
 (kl_ok (ok_aP (ok_iconst dL_law_1113 rfl rfl)))
 (kl_ok (ok_aP (ok_iadd dL_law_1114 rfl))))
 (kn_ok
 (kl_ok (ok_aP (ok_iald dL_law_1115 rfl)))
 (kn_ok
 (kl_ok (ok_aP (ok_aload_n dL_law_1116 rfl rfl)))
 (kl_ok (ok_aP (ok_iload dL_law_1117 rfl))))))))
 (kn_ok
 (kn_ok
 (kn_ok
 (kn_ok
 (kl_ok (ok_aP (ok_iconst dL_law_1119 rfl rfl)))
 (kl_ok (ok_aP (ok_iadd dL_law_1120 rfl))))
 (kn_ok
 (kl_ok (ok_aP (ok_iald dL_law_1121 rfl)))
 (kn_ok
 (kl_ok (ok_callV (List.forall_mem_cons.mpr ⟨run_V (C0 := "FavourTownModel") rfl rfl (by rw [hm]; rfl) q2159 q2160 q2161 q92 q2162 ⟨nh_1, dl_6⟩ (by decide) dL_law_1122, (fun _ h => absurd h List.not_mem_nil)⟩) rfl))
 (kl_ok (ok_aP (ok_istore dL_law_1125 rfl))))))
 (kn_ok
 (kn_ok
 (kl_ok (ok_aP (ok_aload_n dL_law_1127 rfl rfl)))
 (kl_ok (ok_callV (List.forall_mem_cons.mpr ⟨run_V (C0 := "FavourTownModel") rfl rfl (by rw [hm]; rfl) q1927 q1928 q1929 q92 q1930 ⟨nh_1, dl_4⟩ (by decide) dL_law_1128, (fun _ h => absurd h List.not_mem_nil)⟩) rfl)))
 (kn_ok
 (kl_ok (ok_aP (ok_iload dL_law_1131 rfl)))
 (kn_ok
 (kl_ok (ok_aP (ok_icmp_eq dL_law_1133 rfl rfl)))
 (kl_ok (ok_aP (ok_iconst dL_law_1136 rfl rfl)))))))
 (kn_ok
 (kn_ok
 (kn_ok
 (kl_ok (ok_zret rfl z_boolean dL_law_1137))
 (kl_ok (ok_aP (ok_iload dL_law_1138 rfl))))
 (kn_ok
 (kl_ok (ok_aP (ok_if_ne dL_law_1140 rfl rfl)))
 (kn_ok
 (kl_ok (ok_aP (ok_aload_n dL_law_1143 rfl rfl)))
 (kl_ok (ok_aP (ok_iconst dL_law_1144 rfl rfl))))))
 (kn_ok
 (kn_ok
 (kl_ok (ok_aP (ok_lald dL_law_1145 rfl)))
 (kn_ok
 (kl_ok (ok_aP (ok_iload dL_law_1146 rfl)))
 (kl_ok (ok_aP (ok_i2l dL_law_1148 rfl)))))
 (kn_ok
 (kl_ok (ok_aP (ok_lcmp dL_law_1149 rfl)))
 (kn_ok
 (kl_ok (ok_aP (ok_if_eq dL_law_1150 rfl rfl)))
 (kl_ok (ok_aP (ok_iconst dL_law_1153 rfl rfl)))))))))))))
 (kn_ok
 (kn_ok
 (kn_ok
 (kn_ok
 (kn_ok
 (kn_ok
 (kn_ok
 (kn_ok
 (kn_ok
 (kl_ok (ok_zret rfl z_boolean dL_law_1154))
 (kl_ok (ok_aP (ok_goto dL_law_1155 rfl))))
 (kn_ok
 (kl_ok (ok_aP (ok_aload_n dL_law_1158 rfl rfl)))
 (kn_ok
 (kl_ok (ok_aP (ok_aload_n dL_law_1159 rfl rfl)))
 (kl_ok (ok_aP (ok_iload dL_law_1160 rfl))))))
 (kn_ok
 (kn_ok
 (kl_ok (ok_aP (ok_iconst dL_law_1162 rfl rfl)))
 (kl_ok (ok_aP (ok_iadd dL_law_1163 rfl))))
 (kn_ok
 (kl_ok (ok_aP (ok_iald dL_law_1164 rfl)))
 (kn_ok
 (kl_ok (ok_aP (ok_aload_n dL_law_1165 rfl rfl)))
 (kl_ok (ok_aP (ok_iload dL_law_1166 rfl)))))))
 (kn_ok
 (kn_ok
 (kn_ok
 (kl_ok (ok_aP (ok_iconst dL_law_1168 rfl rfl)))
 (kl_ok (ok_aP (ok_iadd dL_law_1169 rfl))))
 (kn_ok
 (kl_ok (ok_aP (ok_iald dL_law_1170 rfl)))
 (kn_ok
 (kl_ok (ok_aP (ok_aload_n dL_law_1171 rfl rfl)))
 (kl_ok (ok_aP (ok_iload dL_law_1172 rfl))))))
 (kn_ok
 (kn_ok
 (kl_ok (ok_aP (ok_iconst dL_law_1174 rfl rfl)))
 (kl_ok (ok_aP (ok_iadd dL_law_1175 rfl))))
 (kn_ok
 (kl_ok (ok_aP (ok_iald dL_law_1176 rfl)))
 (kn_ok
 (kl_ok (ok_aP (ok_aload_n dL_law_1177 rfl rfl)))
 (kl_ok (ok_callS (run_SX (by rw [hm]; rfl) q1679 q1680 q82 q1681 ⟨nh_2, dl_12⟩ (by decide) dL_law_1178) rfl)))))))
 (kn_ok
 (kn_ok
 (kn_ok
 (kn_ok
 (kl_ok (ok_aP (ok_istore dL_law_1181 rfl)))
 (kl_ok (ok_aP (ok_aload_n dL_law_1183 rfl rfl))))
 (kn_ok
 (kl_ok (ok_aP (ok_aload_n dL_law_1184 rfl rfl)))
 (kn_ok
 (kl_ok (ok_aP (ok_iload dL_law_1185 rfl)))
 (kl_ok (ok_aP (ok_iconst dL_law_1187 rfl rfl))))))
 (kn_ok
 (kn_ok
 (kl_ok (ok_aP (ok_iadd dL_law_1188 rfl)))
 (kl_ok (ok_aP (ok_iald dL_law_1189 rfl))))
 (kn_ok
 (kl_ok (ok_aP (ok_aload_n dL_law_1190 rfl rfl)))
 (kn_ok
 (kl_ok (ok_aP (ok_iload dL_law_1191 rfl)))
 (kl_ok (ok_aP (ok_iconst dL_law_1193 rfl rfl)))))))
 (kn_ok
 (kn_ok
 (kn_ok
 (kl_ok (ok_aP (ok_iadd dL_law_1194 rfl)))
 (kl_ok (ok_aP (ok_iald dL_law_1195 rfl))))
 (kn_ok
 (kl_ok (ok_aP (ok_aload_n dL_law_1196 rfl rfl)))
 (kn_ok
 (kl_ok (ok_aP (ok_iload dL_law_1197 rfl)))
 (kl_ok (ok_aP (ok_iconst dL_law_1199 rfl rfl))))))
 (kn_ok
 (kn_ok
 (kl_ok (ok_aP (ok_iadd dL_law_1200 rfl)))
 (kl_ok (ok_aP (ok_iald dL_law_1201 rfl))))
 (kn_ok
 (kl_ok (ok_callV (List.forall_mem_cons.mpr ⟨run_V (C0 := "FavourTownModel") rfl rfl (by rw [hm]; rfl) q2167 q2168 q2169 q92 q2170 ⟨nh_1, dl_13⟩ (by decide) dL_law_1202, (fun _ h => absurd h List.not_mem_nil)⟩) rfl))
 (kn_ok
 (kl_ok (ok_aP (ok_istore dL_law_1205 rfl)))
 (kl_ok (ok_aP (ok_aload_n dL_law_1207 rfl rfl)))))))))
 (kn_ok
 (kn_ok
 (kn_ok
 (kn_ok
 (kn_ok
 (kl_ok (ok_callV (List.forall_mem_cons.mpr ⟨run_V (C0 := "FavourTownModel") rfl rfl (by rw [hm]; rfl) q1927 q1928 q1929 q92 q1930 ⟨nh_1, dl_4⟩ (by decide) dL_law_1208, (fun _ h => absurd h List.not_mem_nil)⟩) rfl))
 (kl_ok (ok_aP (ok_iload dL_law_1211 rfl))))
 (kn_ok
 (kl_ok (ok_aP (ok_icmp_eq dL_law_1213 rfl rfl)))
 (kn_ok
 (kl_ok (ok_aP (ok_iconst dL_law_1216 rfl rfl)))
 (kl_ok (ok_zret rfl z_boolean dL_law_1217)))))
 (kn_ok
 (kn_ok
 (kl_ok (ok_aP (ok_iload dL_law_1218 rfl)))
 (kl_ok (ok_aP (ok_if_ne dL_law_1220 rfl rfl))))
 (kn_ok
 (kl_ok (ok_aP (ok_aload_n dL_law_1223 rfl rfl)))
 (kn_ok
 (kl_ok (ok_aP (ok_iconst dL_law_1224 rfl rfl)))
 (kl_ok (ok_aP (ok_lald dL_law_1225 rfl)))))))
 (kn_ok
 (kn_ok
 (kn_ok
 (kl_ok (ok_aP (ok_iload dL_law_1226 rfl)))
 (kl_ok (ok_aP (ok_i2l dL_law_1228 rfl))))
 (kn_ok
 (kl_ok (ok_aP (ok_lcmp dL_law_1229 rfl)))
 (kn_ok
 (kl_ok (ok_aP (ok_if_eq dL_law_1230 rfl rfl)))
 (kl_ok (ok_aP (ok_iconst dL_law_1233 rfl rfl))))))
 (kn_ok
 (kn_ok
 (kl_ok (ok_zret rfl z_boolean dL_law_1234))
 (kl_ok (ok_aP (ok_goto dL_law_1235 rfl))))
 (kn_ok
 (kl_ok (ok_aP (ok_aload_n dL_law_1238 rfl rfl)))
 (kn_ok
 (kl_ok (ok_aP (ok_aload_n dL_law_1239 rfl rfl)))
 (kl_ok (ok_aP (ok_iload dL_law_1240 rfl))))))))
 (kn_ok
 (kn_ok
 (kn_ok
 (kn_ok
 (kl_ok (ok_aP (ok_iconst dL_law_1242 rfl rfl)))
 (kl_ok (ok_aP (ok_iadd dL_law_1243 rfl))))
 (kn_ok
 (kl_ok (ok_aP (ok_iald dL_law_1244 rfl)))
 (kn_ok
 (kl_ok (ok_aP (ok_aload_n dL_law_1245 rfl rfl)))
 (kl_ok (ok_callS (run_SX (by rw [hm]; rfl) q1687 q1688 q82 q1689 ⟨nh_2, dl_9⟩ (by decide) dL_law_1246) rfl)))))
 (kn_ok
 (kn_ok
 (kl_ok (ok_aP (ok_istore dL_law_1249 rfl)))
 (kl_ok (ok_aP (ok_aload_n dL_law_1251 rfl rfl))))
 (kn_ok
 (kl_ok (ok_aP (ok_aload_n dL_law_1252 rfl rfl)))
 (kn_ok
 (kl_ok (ok_aP (ok_iload dL_law_1253 rfl)))
 (kl_ok (ok_aP (ok_iconst dL_law_1255 rfl rfl)))))))
 (kn_ok
 (kn_ok
 (kn_ok
 (kl_ok (ok_aP (ok_iadd dL_law_1256 rfl)))
 (kl_ok (ok_aP (ok_iald dL_law_1257 rfl))))
 (kn_ok
 (kl_ok (ok_callV (List.forall_mem_cons.mpr ⟨run_V (C0 := "FavourTownModel") rfl rfl (by rw [hm]; rfl) q2179 q2180 q2181 q92 q2182 ⟨nh_1, dl_2⟩ (by decide) dL_law_1258, (fun _ h => absurd h List.not_mem_nil)⟩) rfl))
 (kn_ok
 (kl_ok (ok_aP (ok_istore dL_law_1261 rfl)))
 (kl_ok (ok_aP (ok_aload_n dL_law_1263 rfl rfl))))))
 (kn_ok
 (kn_ok
 (kl_ok (ok_callV (List.forall_mem_cons.mpr ⟨run_V (C0 := "FavourTownModel") rfl rfl (by rw [hm]; rfl) q1927 q1928 q1929 q92 q1930 ⟨nh_1, dl_4⟩ (by decide) dL_law_1264, (fun _ h => absurd h List.not_mem_nil)⟩) rfl))
 (kn_ok
 (kl_ok (ok_aP (ok_iload dL_law_1267 rfl)))
 (kl_ok (ok_aP (ok_icmp_eq dL_law_1269 rfl rfl)))))
 (kn_ok
 (kl_ok (ok_aP (ok_iconst dL_law_1272 rfl rfl)))
 (kn_ok
 (kl_ok (ok_zret rfl z_boolean dL_law_1273))
 (kl_ok (ok_aP (ok_iload dL_law_1274 rfl))))))))))
 (kn_ok
 (kn_ok
 (kn_ok
 (kn_ok
 (kn_ok
 (kn_ok
 (kl_ok (ok_aP (ok_if_ne dL_law_1276 rfl rfl)))
 (kl_ok (ok_aP (ok_aload_n dL_law_1279 rfl rfl))))
 (kn_ok
 (kl_ok (ok_aP (ok_iconst dL_law_1280 rfl rfl)))
 (kn_ok
 (kl_ok (ok_aP (ok_lald dL_law_1281 rfl)))
 (kl_ok (ok_aP (ok_iload dL_law_1282 rfl))))))
 (kn_ok
 (kn_ok
 (kl_ok (ok_aP (ok_if_eq dL_law_1284 rfl rfl)))
 (kl_ok (ok_aP (ok_lconst dL_law_1287 (by decide +kernel) rfl))))
 (kn_ok
 (kl_ok (ok_aP (ok_goto dL_law_1288 rfl)))
 (kn_ok
 (kl_ok (ok_aP (ok_lconst dL_law_1291 (by decide +kernel) rfl)))
 (kl_ok (ok_aP (ok_lcmp dL_law_1292 rfl)))))))
 (kn_ok
 (kn_ok
 (kn_ok
 (kl_ok (ok_aP (ok_if_eq dL_law_1293 rfl rfl)))
 (kl_ok (ok_aP (ok_iconst dL_law_1296 rfl rfl))))
 (kn_ok
 (kl_ok (ok_zret rfl z_boolean dL_law_1297))
 (kn_ok
 (kl_ok (ok_aP (ok_goto dL_law_1298 rfl)))
 (kl_ok (ok_aP (ok_aload_n dL_law_1301 rfl rfl))))))
 (kn_ok
 (kn_ok
 (kl_ok (ok_aP (ok_aload_n dL_law_1302 rfl rfl)))
 (kl_ok (ok_aP (ok_iload dL_law_1303 rfl))))
 (kn_ok
 (kl_ok (ok_aP (ok_iconst dL_law_1305 rfl rfl)))
 (kn_ok
 (kl_ok (ok_aP (ok_iadd dL_law_1306 rfl)))
 (kl_ok (ok_aP (ok_iald dL_law_1307 rfl))))))))
 (kn_ok
 (kn_ok
 (kn_ok
 (kn_ok
 (kl_ok (ok_aP (ok_aload_n dL_law_1308 rfl rfl)))
 (kl_ok (ok_callS (run_SX (by rw [hm]; rfl) q1699 q1700 q82 q1701 ⟨nh_2, dl_9⟩ (by decide) dL_law_1309) rfl)))
 (kn_ok
 (kl_ok (ok_aP (ok_istore dL_law_1312 rfl)))
 (kn_ok
 (kl_ok (ok_aP (ok_aload_n dL_law_1314 rfl rfl)))
 (kl_ok (ok_aP (ok_aload_n dL_law_1315 rfl rfl))))))
 (kn_ok
 (kn_ok
 (kl_ok (ok_aP (ok_iload dL_law_1316 rfl)))
 (kl_ok (ok_aP (ok_iconst dL_law_1318 rfl rfl))))
 (kn_ok
 (kl_ok (ok_aP (ok_iadd dL_law_1319 rfl)))
 (kn_ok
 (kl_ok (ok_aP (ok_iald dL_law_1320 rfl)))
 (kl_ok (ok_callV (List.forall_mem_cons.mpr ⟨run_V (C0 := "FavourTownModel") rfl rfl (by rw [hm]; rfl) q2195 q2196 q2197 q92 q2198 ⟨nh_1, dl_10⟩ (by decide) dL_law_1321, (fun _ h => absurd h List.not_mem_nil)⟩) rfl))))))
 (kn_ok
 (kn_ok
 (kn_ok
 (kl_ok (ok_aP (ok_istore dL_law_1324 rfl)))
 (kl_ok (ok_aP (ok_aload_n dL_law_1326 rfl rfl))))
 (kn_ok
 (kl_ok (ok_callV (List.forall_mem_cons.mpr ⟨run_V (C0 := "FavourTownModel") rfl rfl (by rw [hm]; rfl) q1927 q1928 q1929 q92 q1930 ⟨nh_1, dl_4⟩ (by decide) dL_law_1327, (fun _ h => absurd h List.not_mem_nil)⟩) rfl))
 (kn_ok
 (kl_ok (ok_aP (ok_iload dL_law_1330 rfl)))
 (kl_ok (ok_aP (ok_icmp_eq dL_law_1332 rfl rfl))))))
 (kn_ok
 (kn_ok
 (kl_ok (ok_aP (ok_iconst dL_law_1335 rfl rfl)))
 (kl_ok (ok_zret rfl z_boolean dL_law_1336)))
 (kn_ok
 (kl_ok (ok_aP (ok_iload dL_law_1337 rfl)))
 (kn_ok
 (kl_ok (ok_aP (ok_if_ne dL_law_1339 rfl rfl)))
 (kl_ok (ok_aP (ok_aload_n dL_law_1342 rfl rfl)))))))))
 (kn_ok
 (kn_ok
 (kn_ok
 (kn_ok
 (kn_ok
 (kl_ok (ok_aP (ok_iconst dL_law_1343 rfl rfl)))
 (kl_ok (ok_aP (ok_lald dL_law_1344 rfl))))
 (kn_ok
 (kl_ok (ok_aP (ok_iload dL_law_1345 rfl)))
 (kn_ok
 (kl_ok (ok_aP (ok_i2l dL_law_1347 rfl)))
 (kl_ok (ok_aP (ok_lcmp dL_law_1348 rfl))))))
 (kn_ok
 (kn_ok
 (kl_ok (ok_aP (ok_if_eq dL_law_1349 rfl rfl)))
 (kl_ok (ok_aP (ok_iconst dL_law_1352 rfl rfl))))
 (kn_ok
 (kl_ok (ok_zret rfl z_boolean dL_law_1353))
 (kn_ok
 (kl_ok (ok_aP (ok_goto dL_law_1354 rfl)))
 (kl_ok (ok_aP (ok_aload_n dL_law_1357 rfl rfl)))))))
 (kn_ok
 (kn_ok
 (kn_ok
 (kl_ok (ok_aP (ok_aload_n dL_law_1358 rfl rfl)))
 (kl_ok (ok_aP (ok_iload dL_law_1359 rfl))))
 (kn_ok
 (kl_ok (ok_aP (ok_iconst dL_law_1361 rfl rfl)))
 (kn_ok
 (kl_ok (ok_aP (ok_iadd dL_law_1362 rfl)))
 (kl_ok (ok_aP (ok_iald dL_law_1363 rfl))))))
 (kn_ok
 (kn_ok
 (kl_ok (ok_callV (List.forall_mem_cons.mpr ⟨run_V (C0 := "FavourTown") rfl rfl (by rw [hm]; rfl) q392 q393 q394 q83 q395 ⟨nh_0, dl_2⟩ (by decide) dL_law_1364, (fun _ h => absurd h List.not_mem_nil)⟩) rfl))
 (kl_ok (ok_aP (ok_aload_n dL_law_1367 rfl rfl))))
 (kn_ok
 (kl_ok (ok_aP (ok_aload_n dL_law_1368 rfl rfl)))
 (kn_ok
 (kl_ok (ok_aP (ok_iload dL_law_1369 rfl)))
 (kl_ok (ok_aP (ok_iconst dL_law_1371 rfl rfl))))))))
 (kn_ok
 (kn_ok
 (kn_ok
 (kn_ok
 (kl_ok (ok_aP (ok_iadd dL_law_1372 rfl)))
 (kl_ok (ok_aP (ok_iald dL_law_1373 rfl))))
 (kn_ok
 (kl_ok (ok_callV (List.forall_mem_cons.mpr ⟨run_V (C0 := "FavourTownModel") rfl rfl (by rw [hm]; rfl) q2203 q2204 q2205 q92 q2206 ⟨nh_1, dl_2⟩ (by decide) dL_law_1374, (fun _ h => absurd h List.not_mem_nil)⟩) rfl))
 (kn_ok
 (kl_ok (ok_aP (ok_icmp_eq dL_law_1377 rfl rfl)))
 (kl_ok (ok_aP (ok_iconst dL_law_1380 rfl rfl))))))
 (kn_ok
 (kn_ok
 (kl_ok (ok_zret rfl z_boolean dL_law_1381))
 (kl_ok (ok_aP (ok_aload_n dL_law_1382 rfl rfl))))
 (kn_ok
 (kl_ok (ok_aP (ok_aload_n dL_law_1383 rfl rfl)))
 (kn_ok
 (kl_ok (ok_aP (ok_iload dL_law_1384 rfl)))
 (kl_ok (ok_aP (ok_iconst dL_law_1386 rfl rfl)))))))
 (kn_ok
 (kn_ok
 (kn_ok
 (kl_ok (ok_aP (ok_iadd dL_law_1387 rfl)))
 (kl_ok (ok_aP (ok_iald dL_law_1388 rfl))))
 (kn_ok
 (kl_ok (ok_callV (List.forall_mem_cons.mpr ⟨run_V (C0 := "FavourTown") rfl rfl (by rw [hm]; rfl) q552 q553 q554 q83 q555 ⟨nh_0, dl_10⟩ (by decide) dL_law_1389, (fun _ h => absurd h List.not_mem_nil)⟩) rfl))
 (kn_ok
 (kl_ok (ok_aP (ok_aload_n dL_law_1392 rfl rfl)))
 (kl_ok (ok_aP (ok_aload_n dL_law_1393 rfl rfl))))))
 (kn_ok
 (kn_ok
 (kl_ok (ok_aP (ok_iload dL_law_1394 rfl)))
 (kn_ok
 (kl_ok (ok_aP (ok_iconst dL_law_1396 rfl rfl)))
 (kl_ok (ok_aP (ok_iadd dL_law_1397 rfl)))))
 (kn_ok
 (kl_ok (ok_aP (ok_iald dL_law_1398 rfl)))
 (kn_ok
 (kl_ok (ok_callV (List.forall_mem_cons.mpr ⟨run_V (C0 := "FavourTownModel") rfl rfl (by rw [hm]; rfl) q2215 q2216 q2217 q92 q2218 ⟨nh_1, dl_10⟩ (by decide) dL_law_1399, (fun _ h => absurd h List.not_mem_nil)⟩) rfl))
 (kl_ok (ok_aP (ok_icmp_eq dL_law_1402 rfl rfl)))))))))))
 (kn_ok
 (kn_ok
 (kn_ok
 (kn_ok
 (kn_ok
 (kn_ok
 (kn_ok
 (kl_ok (ok_aP (ok_iconst dL_law_1405 rfl rfl)))
 (kl_ok (ok_zret rfl z_boolean dL_law_1406)))
 (kn_ok
 (kl_ok (ok_aP (ok_aload_n dL_law_1407 rfl rfl)))
 (kn_ok
 (kl_ok (ok_callV (List.forall_mem_cons.mpr ⟨run_V (C0 := "FavourTown") rfl rfl (by rw [hm]; rfl) q556 q557 q558 q83 q559 ⟨nh_0, dl_4⟩ (by decide) dL_law_1408, (fun _ h => absurd h List.not_mem_nil)⟩) rfl))
 (kl_ok (ok_aP (ok_aload_n dL_law_1411 rfl rfl))))))
 (kn_ok
 (kn_ok
 (kl_ok (ok_callV (List.forall_mem_cons.mpr ⟨run_V (C0 := "FavourTownModel") rfl rfl (by rw [hm]; rfl) q2219 q2220 q2221 q92 q2222 ⟨nh_1, dl_4⟩ (by decide) dL_law_1412, (fun _ h => absurd h List.not_mem_nil)⟩) rfl))
 (kl_ok (ok_aP (ok_icmp_eq dL_law_1415 rfl rfl))))
 (kn_ok
 (kl_ok (ok_aP (ok_iconst dL_law_1418 rfl rfl)))
 (kn_ok
 (kl_ok (ok_zret rfl z_boolean dL_law_1419))
 (kl_ok (ok_aP (ok_aload_n dL_law_1420 rfl rfl)))))))
 (kn_ok
 (kn_ok
 (kn_ok
 (kl_ok (ok_aP (ok_aload_n dL_law_1421 rfl rfl)))
 (kl_ok (ok_aP (ok_iload dL_law_1422 rfl))))
 (kn_ok
 (kl_ok (ok_aP (ok_iconst dL_law_1424 rfl rfl)))
 (kn_ok
 (kl_ok (ok_aP (ok_iadd dL_law_1425 rfl)))
 (kl_ok (ok_aP (ok_iald dL_law_1426 rfl))))))
 (kn_ok
 (kn_ok
 (kl_ok (ok_callV (List.forall_mem_cons.mpr ⟨run_V (C0 := "FavourTown") rfl rfl (by rw [hm]; rfl) q566 q567 q568 q83 q569 ⟨nh_0, dl_10⟩ (by decide) dL_law_1427, (fun _ h => absurd h List.not_mem_nil)⟩) rfl))
 (kl_ok (ok_aP (ok_aload_n dL_law_1430 rfl rfl))))
 (kn_ok
 (kl_ok (ok_aP (ok_aload_n dL_law_1431 rfl rfl)))
 (kn_ok
 (kl_ok (ok_aP (ok_iload dL_law_1432 rfl)))
 (kl_ok (ok_aP (ok_iconst dL_law_1434 rfl rfl))))))))
 (kn_ok
 (kn_ok
 (kn_ok
 (kn_ok
 (kl_ok (ok_aP (ok_iadd dL_law_1435 rfl)))
 (kl_ok (ok_aP (ok_iald dL_law_1436 rfl))))
 (kn_ok
 (kl_ok (ok_callV (List.forall_mem_cons.mpr ⟨run_V (C0 := "FavourTownModel") rfl rfl (by rw [hm]; rfl) q2226 q2227 q2228 q92 q2229 ⟨nh_1, dl_10⟩ (by decide) dL_law_1437, (fun _ h => absurd h List.not_mem_nil)⟩) rfl))
 (kn_ok
 (kl_ok (ok_aP (ok_icmp_eq dL_law_1440 rfl rfl)))
 (kl_ok (ok_aP (ok_iconst dL_law_1443 rfl rfl))))))
 (kn_ok
 (kn_ok
 (kl_ok (ok_zret rfl z_boolean dL_law_1444))
 (kl_ok (ok_aP (ok_aload_n dL_law_1445 rfl rfl))))
 (kn_ok
 (kl_ok (ok_aP (ok_aload_n dL_law_1446 rfl rfl)))
 (kn_ok
 (kl_ok (ok_aP (ok_iload dL_law_1447 rfl)))
 (kl_ok (ok_aP (ok_iconst dL_law_1449 rfl rfl)))))))
 (kn_ok
 (kn_ok
 (kn_ok
 (kl_ok (ok_aP (ok_iadd dL_law_1450 rfl)))
 (kl_ok (ok_aP (ok_iald dL_law_1451 rfl))))
 (kn_ok
 (kl_ok (ok_aP (ok_aload_n dL_law_1452 rfl rfl)))
 (kn_ok
 (kl_ok (ok_aP (ok_iload dL_law_1453 rfl)))
 (kl_ok (ok_aP (ok_iconst dL_law_1455 rfl rfl))))))
 (kn_ok
 (kn_ok
 (kl_ok (ok_aP (ok_iadd dL_law_1456 rfl)))
 (kl_ok (ok_aP (ok_iald dL_law_1457 rfl))))
 (kn_ok
 (kl_ok (ok_aP (ok_aload_n dL_law_1458 rfl rfl)))
 (kn_ok
 (kl_ok (ok_callS (run_SX (by rw [hm]; rfl) q1712 q1713 q82 q1714 ⟨nh_2, dl_5⟩ (by decide) dL_law_1459) rfl))
 (kl_ok (ok_aP (ok_istore dL_law_1462 rfl)))))))))
 (kn_ok
 (kn_ok
 (kn_ok
 (kn_ok
 (kn_ok
 (kl_ok (ok_aP (ok_aload_n dL_law_1464 rfl rfl)))
 (kl_ok (ok_aP (ok_aload_n dL_law_1465 rfl rfl))))
 (kn_ok
 (kl_ok (ok_aP (ok_iload dL_law_1466 rfl)))
 (kn_ok
 (kl_ok (ok_aP (ok_iconst dL_law_1468 rfl rfl)))
 (kl_ok (ok_aP (ok_iadd dL_law_1469 rfl))))))
 (kn_ok
 (kn_ok
 (kl_ok (ok_aP (ok_iald dL_law_1470 rfl)))
 (kl_ok (ok_aP (ok_aload_n dL_law_1471 rfl rfl))))
 (kn_ok
 (kl_ok (ok_aP (ok_iload dL_law_1472 rfl)))
 (kn_ok
 (kl_ok (ok_aP (ok_iconst dL_law_1474 rfl rfl)))
 (kl_ok (ok_aP (ok_iadd dL_law_1475 rfl)))))))
 (kn_ok
 (kn_ok
 (kn_ok
 (kl_ok (ok_aP (ok_iald dL_law_1476 rfl)))
 (kl_ok (ok_callV (List.forall_mem_cons.mpr ⟨run_V (C0 := "FavourTownModel") rfl rfl (by rw [hm]; rfl) q2230 q2231 q2232 q92 q2233 ⟨nh_1, dl_6⟩ (by decide) dL_law_1477, (fun _ h => absurd h List.not_mem_nil)⟩) rfl)))
 (kn_ok
 (kl_ok (ok_aP (ok_istore dL_law_1480 rfl)))
 (kn_ok
 (kl_ok (ok_aP (ok_aload_n dL_law_1482 rfl rfl)))
 (kl_ok (ok_callV (List.forall_mem_cons.mpr ⟨run_V (C0 := "FavourTownModel") rfl rfl (by rw [hm]; rfl) q1927 q1928 q1929 q92 q1930 ⟨nh_1, dl_4⟩ (by decide) dL_law_1483, (fun _ h => absurd h List.not_mem_nil)⟩) rfl)))))
 (kn_ok
 (kn_ok
 (kl_ok (ok_aP (ok_iload dL_law_1486 rfl)))
 (kl_ok (ok_aP (ok_icmp_eq dL_law_1488 rfl rfl))))
 (kn_ok
 (kl_ok (ok_aP (ok_iconst dL_law_1491 rfl rfl)))
 (kn_ok
 (kl_ok (ok_zret rfl z_boolean dL_law_1492))
 (kl_ok (ok_aP (ok_iload dL_law_1493 rfl))))))))
 (kn_ok
 (kn_ok
 (kn_ok
 (kn_ok
 (kl_ok (ok_aP (ok_if_ne dL_law_1495 rfl rfl)))
 (kl_ok (ok_aP (ok_aload_n dL_law_1498 rfl rfl))))
 (kn_ok
 (kl_ok (ok_aP (ok_iconst dL_law_1499 rfl rfl)))
 (kn_ok
 (kl_ok (ok_aP (ok_lald dL_law_1500 rfl)))
 (kl_ok (ok_aP (ok_iload dL_law_1501 rfl))))))
 (kn_ok
 (kn_ok
 (kl_ok (ok_aP (ok_i2l dL_law_1503 rfl)))
 (kl_ok (ok_aP (ok_lcmp dL_law_1504 rfl))))
 (kn_ok
 (kl_ok (ok_aP (ok_if_eq dL_law_1505 rfl rfl)))
 (kn_ok
 (kl_ok (ok_aP (ok_iconst dL_law_1508 rfl rfl)))
 (kl_ok (ok_zret rfl z_boolean dL_law_1509))))))
 (kn_ok
 (kn_ok
 (kn_ok
 (kl_ok (ok_aP (ok_goto dL_law_1510 rfl)))
 (kl_ok (ok_aP (ok_aload_n dL_law_1513 rfl rfl))))
 (kn_ok
 (kl_ok (ok_aP (ok_aload_n dL_law_1514 rfl rfl)))
 (kn_ok
 (kl_ok (ok_aP (ok_iload dL_law_1515 rfl)))
 (kl_ok (ok_aP (ok_iconst dL_law_1517 rfl rfl))))))
 (kn_ok
 (kn_ok
 (kl_ok (ok_aP (ok_iadd dL_law_1518 rfl)))
 (kn_ok
 (kl_ok (ok_aP (ok_iald dL_law_1519 rfl)))
 (kl_ok (ok_aP (ok_aload_n dL_law_1520 rfl rfl)))))
 (kn_ok
 (kl_ok (ok_aP (ok_iload dL_law_1521 rfl)))
 (kn_ok
 (kl_ok (ok_aP (ok_iconst dL_law_1523 rfl rfl)))
 (kl_ok (ok_aP (ok_iadd dL_law_1524 rfl))))))))))
 (kn_ok
 (kn_ok
 (kn_ok
 (kn_ok
 (kn_ok
 (kn_ok
 (kl_ok (ok_aP (ok_iald dL_law_1525 rfl)))
 (kl_ok (ok_aP (ok_aload_n dL_law_1526 rfl rfl))))
 (kn_ok
 (kl_ok (ok_callS (run_SX (by rw [hm]; rfl) q1723 q1724 q82 q1725 ⟨nh_2, dl_5⟩ (by decide) dL_law_1527) rfl))
 (kn_ok
 (kl_ok (ok_aP (ok_istore dL_law_1530 rfl)))
 (kl_ok (ok_aP (ok_aload_n dL_law_1532 rfl rfl))))))
 (kn_ok
 (kn_ok
 (kl_ok (ok_aP (ok_aload_n dL_law_1533 rfl rfl)))
 (kl_ok (ok_aP (ok_iload dL_law_1534 rfl))))
 (kn_ok
 (kl_ok (ok_aP (ok_iconst dL_law_1536 rfl rfl)))
 (kn_ok
 (kl_ok (ok_aP (ok_iadd dL_law_1537 rfl)))
 (kl_ok (ok_aP (ok_iald dL_law_1538 rfl)))))))
 (kn_ok
 (kn_ok
 (kn_ok
 (kl_ok (ok_aP (ok_aload_n dL_law_1539 rfl rfl)))
 (kl_ok (ok_aP (ok_iload dL_law_1540 rfl))))
 (kn_ok
 (kl_ok (ok_aP (ok_iconst dL_law_1542 rfl rfl)))
 (kn_ok
 (kl_ok (ok_aP (ok_iadd dL_law_1543 rfl)))
 (kl_ok (ok_aP (ok_iald dL_law_1544 rfl))))))
 (kn_ok
 (kn_ok
 (kl_ok (ok_callV (List.forall_mem_cons.mpr ⟨run_V (C0 := "FavourTownModel") rfl rfl (by rw [hm]; rfl) q2242 q2243 q2244 q92 q2245 ⟨nh_1, dl_6⟩ (by decide) dL_law_1545, (fun _ h => absurd h List.not_mem_nil)⟩) rfl))
 (kl_ok (ok_aP (ok_istore dL_law_1548 rfl))))
 (kn_ok
 (kl_ok (ok_aP (ok_aload_n dL_law_1550 rfl rfl)))
 (kn_ok
 (kl_ok (ok_callV (List.forall_mem_cons.mpr ⟨run_V (C0 := "FavourTownModel") rfl rfl (by rw [hm]; rfl) q1927 q1928 q1929 q92 q1930 ⟨nh_1, dl_4⟩ (by decide) dL_law_1551, (fun _ h => absurd h List.not_mem_nil)⟩) rfl))
 (kl_ok (ok_aP (ok_iload dL_law_1554 rfl))))))))
 (kn_ok
 (kn_ok
 (kn_ok
 (kn_ok
 (kl_ok (ok_aP (ok_icmp_eq dL_law_1556 rfl rfl)))
 (kl_ok (ok_aP (ok_iconst dL_law_1559 rfl rfl))))
 (kn_ok
 (kl_ok (ok_zret rfl z_boolean dL_law_1560))
 (kn_ok
 (kl_ok (ok_aP (ok_iload dL_law_1561 rfl)))
 (kl_ok (ok_aP (ok_if_ne dL_law_1563 rfl rfl))))))
 (kn_ok
 (kn_ok
 (kl_ok (ok_aP (ok_aload_n dL_law_1566 rfl rfl)))
 (kl_ok (ok_aP (ok_iconst dL_law_1567 rfl rfl))))
 (kn_ok
 (kl_ok (ok_aP (ok_lald dL_law_1568 rfl)))
 (kn_ok
 (kl_ok (ok_aP (ok_iload dL_law_1569 rfl)))
 (kl_ok (ok_aP (ok_i2l dL_law_1571 rfl)))))))
 (kn_ok
 (kn_ok
 (kn_ok
 (kl_ok (ok_aP (ok_lcmp dL_law_1572 rfl)))
 (kl_ok (ok_aP (ok_if_eq dL_law_1573 rfl rfl))))
 (kn_ok
 (kl_ok (ok_aP (ok_iconst dL_law_1576 rfl rfl)))
 (kn_ok
 (kl_ok (ok_zret rfl z_boolean dL_law_1577))
 (kl_ok (ok_aP (ok_goto dL_law_1578 rfl))))))
 (kn_ok
 (kn_ok
 (kl_ok (ok_aP (ok_aload_n dL_law_1581 rfl rfl)))
 (kn_ok
 (kl_ok (ok_aP (ok_aload_n dL_law_1582 rfl rfl)))
 (kl_ok (ok_aP (ok_iload dL_law_1583 rfl)))))
 (kn_ok
 (kl_ok (ok_aP (ok_iconst dL_law_1585 rfl rfl)))
 (kn_ok
 (kl_ok (ok_aP (ok_iadd dL_law_1586 rfl)))
 (kl_ok (ok_aP (ok_iald dL_law_1587 rfl)))))))))
 (kn_ok
 (kn_ok
 (kn_ok
 (kn_ok
 (kn_ok
 (kl_ok (ok_aP (ok_aload_n dL_law_1588 rfl rfl)))
 (kl_ok (ok_aP (ok_iload dL_law_1589 rfl))))
 (kn_ok
 (kl_ok (ok_aP (ok_iconst dL_law_1591 rfl rfl)))
 (kn_ok
 (kl_ok (ok_aP (ok_iadd dL_law_1592 rfl)))
 (kl_ok (ok_aP (ok_iald dL_law_1593 rfl))))))
 (kn_ok
 (kn_ok
 (kl_ok (ok_aP (ok_aload_n dL_law_1594 rfl rfl)))
 (kl_ok (ok_callS (run_SX (by rw [hm]; rfl) q1745 q1746 q82 q1747 ⟨nh_2, dl_5⟩ (by decide) dL_law_1595) rfl)))
 (kn_ok
 (kl_ok (ok_aP (ok_istore dL_law_1598 rfl)))
 (kn_ok
 (kl_ok (ok_aP (ok_aload_n dL_law_1600 rfl rfl)))
 (kl_ok (ok_aP (ok_aload_n dL_law_1601 rfl rfl)))))))
 (kn_ok
 (kn_ok
 (kn_ok
 (kl_ok (ok_aP (ok_iload dL_law_1602 rfl)))
 (kl_ok (ok_aP (ok_iconst dL_law_1604 rfl rfl))))
 (kn_ok
 (kl_ok (ok_aP (ok_iadd dL_law_1605 rfl)))
 (kn_ok
 (kl_ok (ok_aP (ok_iald dL_law_1606 rfl)))
 (kl_ok (ok_aP (ok_aload_n dL_law_1607 rfl rfl))))))
 (kn_ok
 (kn_ok
 (kl_ok (ok_aP (ok_iload dL_law_1608 rfl)))
 (kl_ok (ok_aP (ok_iconst dL_law_1610 rfl rfl))))
 (kn_ok
 (kl_ok (ok_aP (ok_iadd dL_law_1611 rfl)))
 (kn_ok
 (kl_ok (ok_aP (ok_iald dL_law_1612 rfl)))
 (kl_ok (ok_callV (List.forall_mem_cons.mpr ⟨run_V (C0 := "FavourTownModel") rfl rfl (by rw [hm]; rfl) q2258 q2259 q2260 q92 q2261 ⟨nh_1, dl_6⟩ (by decide) dL_law_1613, (fun _ h => absurd h List.not_mem_nil)⟩) rfl)))))))
 (kn_ok
 (kn_ok
 (kn_ok
 (kn_ok
 (kl_ok (ok_aP (ok_istore dL_law_1616 rfl)))
 (kl_ok (ok_aP (ok_aload_n dL_law_1618 rfl rfl))))
 (kn_ok
 (kl_ok (ok_callV (List.forall_mem_cons.mpr ⟨run_V (C0 := "FavourTownModel") rfl rfl (by rw [hm]; rfl) q1927 q1928 q1929 q92 q1930 ⟨nh_1, dl_4⟩ (by decide) dL_law_1619, (fun _ h => absurd h List.not_mem_nil)⟩) rfl))
 (kn_ok
 (kl_ok (ok_aP (ok_iload dL_law_1622 rfl)))
 (kl_ok (ok_aP (ok_icmp_eq dL_law_1624 rfl rfl))))))
 (kn_ok
 (kn_ok
 (kl_ok (ok_aP (ok_iconst dL_law_1627 rfl rfl)))
 (kl_ok (ok_zret rfl z_boolean dL_law_1628)))
 (kn_ok
 (kl_ok (ok_aP (ok_iload dL_law_1629 rfl)))
 (kn_ok
 (kl_ok (ok_aP (ok_if_ne dL_law_1631 rfl rfl)))
 (kl_ok (ok_aP (ok_aload_n dL_law_1634 rfl rfl)))))))
 (kn_ok
 (kn_ok
 (kn_ok
 (kl_ok (ok_aP (ok_iconst dL_law_1635 rfl rfl)))
 (kl_ok (ok_aP (ok_lald dL_law_1636 rfl))))
 (kn_ok
 (kl_ok (ok_aP (ok_iload dL_law_1637 rfl)))
 (kn_ok
 (kl_ok (ok_aP (ok_i2l dL_law_1639 rfl)))
 (kl_ok (ok_aP (ok_lcmp dL_law_1640 rfl))))))
 (kn_ok
 (kn_ok
 (kl_ok (ok_aP (ok_if_eq dL_law_1641 rfl rfl)))
 (kn_ok
 (kl_ok (ok_aP (ok_iconst dL_law_1644 rfl rfl)))
 (kl_ok (ok_zret rfl z_boolean dL_law_1645))))
 (kn_ok
 (kl_ok (ok_aP (ok_goto dL_law_1646 rfl)))
 (kn_ok
 (kl_ok (ok_aP (ok_aload_n dL_law_1649 rfl rfl)))
 (kl_ok (ok_aP (ok_aload_n dL_law_1650 rfl rfl))))))))))))
 (kn_ok
 (kn_ok
 (kn_ok
 (kn_ok
 (kn_ok
 (kn_ok
 (kn_ok
 (kn_ok
 (kl_ok (ok_aP (ok_iload dL_law_1651 rfl)))
 (kl_ok (ok_aP (ok_iconst dL_law_1653 rfl rfl))))
 (kn_ok
 (kl_ok (ok_aP (ok_iadd dL_law_1654 rfl)))
 (kn_ok
 (kl_ok (ok_aP (ok_iald dL_law_1655 rfl)))
 (kl_ok (ok_aP (ok_aload_n dL_law_1656 rfl rfl))))))
 (kn_ok
 (kn_ok
 (kl_ok (ok_aP (ok_iload dL_law_1657 rfl)))
 (kl_ok (ok_aP (ok_iconst dL_law_1659 rfl rfl))))
 (kn_ok
 (kl_ok (ok_aP (ok_iadd dL_law_1660 rfl)))
 (kn_ok
 (kl_ok (ok_aP (ok_iald dL_law_1661 rfl)))
 (kl_ok (ok_aP (ok_aload_n dL_law_1662 rfl rfl)))))))
 (kn_ok
 (kn_ok
 (kn_ok
 (kl_ok (ok_aP (ok_iload dL_law_1663 rfl)))
 (kl_ok (ok_aP (ok_iconst dL_law_1665 rfl rfl))))
 (kn_ok
 (kl_ok (ok_aP (ok_iadd dL_law_1666 rfl)))
 (kn_ok
 (kl_ok (ok_aP (ok_iald dL_law_1667 rfl)))
 (kl_ok (ok_aP (ok_aload_n dL_law_1668 rfl rfl))))))
 (kn_ok
 (kn_ok
 (kl_ok (ok_aP (ok_iload dL_law_1669 rfl)))
 (kl_ok (ok_aP (ok_iconst dL_law_1671 rfl rfl))))
 (kn_ok
 (kl_ok (ok_aP (ok_iadd dL_law_1672 rfl)))
 (kn_ok
 (kl_ok (ok_aP (ok_iald dL_law_1673 rfl)))
 (kl_ok (ok_aP (ok_aload_n dL_law_1674 rfl rfl))))))))
 (kn_ok
 (kn_ok
 (kn_ok
 (kn_ok
 (kl_ok (ok_callS (run_SX (by rw [hm]; rfl) q1753 q1754 q82 q1755 ⟨nh_2, dl_14⟩ (by decide) dL_law_1675) rfl))
 (kl_ok (ok_aP (ok_istore dL_law_1678 rfl))))
 (kn_ok
 (kl_ok (ok_aP (ok_aload_n dL_law_1680 rfl rfl)))
 (kn_ok
 (kl_ok (ok_aP (ok_aload_n dL_law_1681 rfl rfl)))
 (kl_ok (ok_aP (ok_iload dL_law_1682 rfl))))))
 (kn_ok
 (kn_ok
 (kl_ok (ok_aP (ok_iconst dL_law_1684 rfl rfl)))
 (kl_ok (ok_aP (ok_iadd dL_law_1685 rfl))))
 (kn_ok
 (kl_ok (ok_aP (ok_iald dL_law_1686 rfl)))
 (kn_ok
 (kl_ok (ok_aP (ok_aload_n dL_law_1687 rfl rfl)))
 (kl_ok (ok_aP (ok_iload dL_law_1688 rfl)))))))
 (kn_ok
 (kn_ok
 (kn_ok
 (kl_ok (ok_aP (ok_iconst dL_law_1690 rfl rfl)))
 (kl_ok (ok_aP (ok_iadd dL_law_1691 rfl))))
 (kn_ok
 (kl_ok (ok_aP (ok_iald dL_law_1692 rfl)))
 (kn_ok
 (kl_ok (ok_aP (ok_aload_n dL_law_1693 rfl rfl)))
 (kl_ok (ok_aP (ok_iload dL_law_1694 rfl))))))
 (kn_ok
 (kn_ok
 (kl_ok (ok_aP (ok_iconst dL_law_1696 rfl rfl)))
 (kl_ok (ok_aP (ok_iadd dL_law_1697 rfl))))
 (kn_ok
 (kl_ok (ok_aP (ok_iald dL_law_1698 rfl)))
 (kn_ok
 (kl_ok (ok_aP (ok_aload_n dL_law_1699 rfl rfl)))
 (kl_ok (ok_aP (ok_iload dL_law_1700 rfl)))))))))
 (kn_ok
 (kn_ok
 (kn_ok
 (kn_ok
 (kn_ok
 (kl_ok (ok_aP (ok_iconst dL_law_1702 rfl rfl)))
 (kl_ok (ok_aP (ok_iadd dL_law_1703 rfl))))
 (kn_ok
 (kl_ok (ok_aP (ok_iald dL_law_1704 rfl)))
 (kn_ok
 (kl_ok (ok_callV (List.forall_mem_cons.mpr ⟨run_V (C0 := "FavourTownModel") rfl rfl (by rw [hm]; rfl) q2262 q2263 q2264 q92 q2265 ⟨nh_1, dl_15⟩ (by decide) dL_law_1705, (fun _ h => absurd h List.not_mem_nil)⟩) rfl))
 (kl_ok (ok_aP (ok_istore dL_law_1708 rfl))))))
 (kn_ok
 (kn_ok
 (kl_ok (ok_aP (ok_aload_n dL_law_1710 rfl rfl)))
 (kl_ok (ok_callV (List.forall_mem_cons.mpr ⟨run_V (C0 := "FavourTownModel") rfl rfl (by rw [hm]; rfl) q1927 q1928 q1929 q92 q1930 ⟨nh_1, dl_4⟩ (by decide) dL_law_1711, (fun _ h => absurd h List.not_mem_nil)⟩) rfl)))
 (kn_ok
 (kl_ok (ok_aP (ok_iload dL_law_1714 rfl)))
 (kn_ok
 (kl_ok (ok_aP (ok_icmp_eq dL_law_1716 rfl rfl)))
 (kl_ok (ok_aP (ok_iconst dL_law_1719 rfl rfl)))))))
 (kn_ok
 (kn_ok
 (kn_ok
 (kl_ok (ok_zret rfl z_boolean dL_law_1720))
 (kl_ok (ok_aP (ok_iload dL_law_1721 rfl))))
 (kn_ok
 (kl_ok (ok_aP (ok_if_ne dL_law_1723 rfl rfl)))
 (kn_ok
 (kl_ok (ok_aP (ok_aload_n dL_law_1726 rfl rfl)))
 (kl_ok (ok_aP (ok_iconst dL_law_1727 rfl rfl))))))
 (kn_ok
 (kn_ok
 (kl_ok (ok_aP (ok_lald dL_law_1728 rfl)))
 (kl_ok (ok_aP (ok_iload dL_law_1729 rfl))))
 (kn_ok
 (kl_ok (ok_aP (ok_i2l dL_law_1731 rfl)))
 (kn_ok
 (kl_ok (ok_aP (ok_lcmp dL_law_1732 rfl)))
 (kl_ok (ok_aP (ok_if_eq dL_law_1733 rfl rfl))))))))
 (kn_ok
 (kn_ok
 (kn_ok
 (kn_ok
 (kl_ok (ok_aP (ok_iconst dL_law_1736 rfl rfl)))
 (kl_ok (ok_zret rfl z_boolean dL_law_1737)))
 (kn_ok
 (kl_ok (ok_aP (ok_goto dL_law_1738 rfl)))
 (kn_ok
 (kl_ok (ok_aP (ok_aload_n dL_law_1741 rfl rfl)))
 (kl_ok (ok_aP (ok_aload_n dL_law_1742 rfl rfl))))))
 (kn_ok
 (kn_ok
 (kl_ok (ok_callS (run_SX (by rw [hm]; rfl) q1767 q1768 q82 q1769 ⟨nh_2, dl_3⟩ (by decide) dL_law_1743) rfl))
 (kl_ok (ok_aP (ok_istore dL_law_1746 rfl))))
 (kn_ok
 (kl_ok (ok_aP (ok_aload_n dL_law_1748 rfl rfl)))
 (kn_ok
 (kl_ok (ok_callV (List.forall_mem_cons.mpr ⟨run_V (C0 := "FavourTownModel") rfl rfl (by rw [hm]; rfl) q2266 q2267 q2268 q92 q2269 ⟨nh_1, dl_4⟩ (by decide) dL_law_1749, (fun _ h => absurd h List.not_mem_nil)⟩) rfl))
 (kl_ok (ok_aP (ok_istore dL_law_1752 rfl)))))))
 (kn_ok
 (kn_ok
 (kn_ok
 (kl_ok (ok_aP (ok_aload_n dL_law_1754 rfl rfl)))
 (kl_ok (ok_callV (List.forall_mem_cons.mpr ⟨run_V (C0 := "FavourTownModel") rfl rfl (by rw [hm]; rfl) q1927 q1928 q1929 q92 q1930 ⟨nh_1, dl_4⟩ (by decide) dL_law_1755, (fun _ h => absurd h List.not_mem_nil)⟩) rfl)))
 (kn_ok
 (kl_ok (ok_aP (ok_iload dL_law_1758 rfl)))
 (kn_ok
 (kl_ok (ok_aP (ok_icmp_eq dL_law_1760 rfl rfl)))
 (kl_ok (ok_aP (ok_iconst dL_law_1763 rfl rfl))))))
 (kn_ok
 (kn_ok
 (kl_ok (ok_zret rfl z_boolean dL_law_1764))
 (kn_ok
 (kl_ok (ok_aP (ok_iload dL_law_1765 rfl)))
 (kl_ok (ok_aP (ok_if_ne dL_law_1767 rfl rfl)))))
 (kn_ok
 (kl_ok (ok_aP (ok_aload_n dL_law_1770 rfl rfl)))
 (kn_ok
 (kl_ok (ok_aP (ok_iconst dL_law_1771 rfl rfl)))
 (kl_ok (ok_aP (ok_lald dL_law_1772 rfl))))))))))
 (kn_ok
 (kn_ok
 (kn_ok
 (kn_ok
 (kn_ok
 (kn_ok
 (kl_ok (ok_aP (ok_iload dL_law_1773 rfl)))
 (kl_ok (ok_aP (ok_i2l dL_law_1775 rfl))))
 (kn_ok
 (kl_ok (ok_aP (ok_lcmp dL_law_1776 rfl)))
 (kn_ok
 (kl_ok (ok_aP (ok_if_eq dL_law_1777 rfl rfl)))
 (kl_ok (ok_aP (ok_iconst dL_law_1780 rfl rfl))))))
 (kn_ok
 (kn_ok
 (kl_ok (ok_zret rfl z_boolean dL_law_1781))
 (kl_ok (ok_aP (ok_goto dL_law_1782 rfl))))
 (kn_ok
 (kl_ok (ok_aP (ok_aload_n dL_law_1785 rfl rfl)))
 (kn_ok
 (kl_ok (ok_aP (ok_aload_n dL_law_1786 rfl rfl)))
 (kl_ok (ok_aP (ok_iload dL_law_1787 rfl)))))))
 (kn_ok
 (kn_ok
 (kn_ok
 (kl_ok (ok_aP (ok_iconst dL_law_1789 rfl rfl)))
 (kl_ok (ok_aP (ok_iadd dL_law_1790 rfl))))
 (kn_ok
 (kl_ok (ok_aP (ok_iald dL_law_1791 rfl)))
 (kn_ok
 (kl_ok (ok_aP (ok_aload_n dL_law_1792 rfl rfl)))
 (kl_ok (ok_callS (run_SX (by rw [hm]; rfl) q1774 q1775 q82 q1776 ⟨nh_2, dl_9⟩ (by decide) dL_law_1793) rfl)))))
 (kn_ok
 (kn_ok
 (kl_ok (ok_aP (ok_istore dL_law_1796 rfl)))
 (kl_ok (ok_aP (ok_aload_n dL_law_1798 rfl rfl))))
 (kn_ok
 (kl_ok (ok_aP (ok_aload_n dL_law_1799 rfl rfl)))
 (kn_ok
 (kl_ok (ok_aP (ok_iload dL_law_1800 rfl)))
 (kl_ok (ok_aP (ok_iconst dL_law_1802 rfl rfl))))))))
 (kn_ok
 (kn_ok
 (kn_ok
 (kn_ok
 (kl_ok (ok_aP (ok_iadd dL_law_1803 rfl)))
 (kl_ok (ok_aP (ok_iald dL_law_1804 rfl))))
 (kn_ok
 (kl_ok (ok_callV (List.forall_mem_cons.mpr ⟨run_V (C0 := "FavourTownModel") rfl rfl (by rw [hm]; rfl) q2270 q2271 q2272 q92 q2273 ⟨nh_1, dl_10⟩ (by decide) dL_law_1805, (fun _ h => absurd h List.not_mem_nil)⟩) rfl))
 (kn_ok
 (kl_ok (ok_aP (ok_istore dL_law_1808 rfl)))
 (kl_ok (ok_aP (ok_aload_n dL_law_1810 rfl rfl))))))
 (kn_ok
 (kn_ok
 (kl_ok (ok_callV (List.forall_mem_cons.mpr ⟨run_V (C0 := "FavourTownModel") rfl rfl (by rw [hm]; rfl) q1927 q1928 q1929 q92 q1930 ⟨nh_1, dl_4⟩ (by decide) dL_law_1811, (fun _ h => absurd h List.not_mem_nil)⟩) rfl))
 (kl_ok (ok_aP (ok_iload dL_law_1814 rfl))))
 (kn_ok
 (kl_ok (ok_aP (ok_icmp_eq dL_law_1816 rfl rfl)))
 (kn_ok
 (kl_ok (ok_aP (ok_iconst dL_law_1819 rfl rfl)))
 (kl_ok (ok_zret rfl z_boolean dL_law_1820))))))
 (kn_ok
 (kn_ok
 (kn_ok
 (kl_ok (ok_aP (ok_iload dL_law_1821 rfl)))
 (kl_ok (ok_aP (ok_if_ne dL_law_1823 rfl rfl))))
 (kn_ok
 (kl_ok (ok_aP (ok_aload_n dL_law_1826 rfl rfl)))
 (kn_ok
 (kl_ok (ok_aP (ok_iconst dL_law_1827 rfl rfl)))
 (kl_ok (ok_aP (ok_lald dL_law_1828 rfl))))))
 (kn_ok
 (kn_ok
 (kl_ok (ok_aP (ok_iload dL_law_1829 rfl)))
 (kn_ok
 (kl_ok (ok_aP (ok_i2l dL_law_1831 rfl)))
 (kl_ok (ok_aP (ok_lcmp dL_law_1832 rfl)))))
 (kn_ok
 (kl_ok (ok_aP (ok_if_eq dL_law_1833 rfl rfl)))
 (kn_ok
 (kl_ok (ok_aP (ok_iconst dL_law_1836 rfl rfl)))
 (kl_ok (ok_zret rfl z_boolean dL_law_1837))))))))
 (kn_ok
 (kn_ok
 (kn_ok
 (kn_ok
 (kn_ok
 (kl_ok (ok_aP (ok_goto dL_law_1838 rfl)))
 (kl_ok (ok_aP (ok_aload_n dL_law_1841 rfl rfl))))
 (kn_ok
 (kl_ok (ok_aP (ok_aload_n dL_law_1842 rfl rfl)))
 (kn_ok
 (kl_ok (ok_aP (ok_iload dL_law_1843 rfl)))
 (kl_ok (ok_aP (ok_iconst dL_law_1845 rfl rfl))))))
 (kn_ok
 (kn_ok
 (kl_ok (ok_aP (ok_iadd dL_law_1846 rfl)))
 (kl_ok (ok_aP (ok_iald dL_law_1847 rfl))))
 (kn_ok
 (kl_ok (ok_aP (ok_aload_n dL_law_1848 rfl rfl)))
 (kn_ok
 (kl_ok (ok_aP (ok_iload dL_law_1849 rfl)))
 (kl_ok (ok_aP (ok_iconst dL_law_1851 rfl rfl)))))))
 (kn_ok
 (kn_ok
 (kn_ok
 (kl_ok (ok_aP (ok_iadd dL_law_1852 rfl)))
 (kl_ok (ok_aP (ok_iald dL_law_1853 rfl))))
 (kn_ok
 (kl_ok (ok_aP (ok_aload_n dL_law_1854 rfl rfl)))
 (kn_ok
 (kl_ok (ok_callS (run_SX (by rw [hm]; rfl) q1804 q1805 q82 q1806 ⟨nh_2, dl_5⟩ (by decide) dL_law_1855) rfl))
 (kl_ok (ok_aP (ok_istore dL_law_1858 rfl))))))
 (kn_ok
 (kn_ok
 (kl_ok (ok_aP (ok_aload_n dL_law_1860 rfl rfl)))
 (kl_ok (ok_aP (ok_aload_n dL_law_1861 rfl rfl))))
 (kn_ok
 (kl_ok (ok_aP (ok_iload dL_law_1862 rfl)))
 (kn_ok
 (kl_ok (ok_aP (ok_iconst dL_law_1864 rfl rfl)))
 (kl_ok (ok_aP (ok_iadd dL_law_1865 rfl))))))))
 (kn_ok
 (kn_ok
 (kn_ok
 (kn_ok
 (kl_ok (ok_aP (ok_iald dL_law_1866 rfl)))
 (kl_ok (ok_aP (ok_aload_n dL_law_1867 rfl rfl))))
 (kn_ok
 (kl_ok (ok_aP (ok_iload dL_law_1868 rfl)))
 (kn_ok
 (kl_ok (ok_aP (ok_iconst dL_law_1870 rfl rfl)))
 (kl_ok (ok_aP (ok_iadd dL_law_1871 rfl))))))
 (kn_ok
 (kn_ok
 (kl_ok (ok_aP (ok_iald dL_law_1872 rfl)))
 (kl_ok (ok_callV (List.forall_mem_cons.mpr ⟨run_V (C0 := "FavourTownModel") rfl rfl (by rw [hm]; rfl) q2286 q2287 q2288 q92 q2289 ⟨nh_1, dl_6⟩ (by decide) dL_law_1873, (fun _ h => absurd h List.not_mem_nil)⟩) rfl)))
 (kn_ok
 (kl_ok (ok_aP (ok_istore dL_law_1876 rfl)))
 (kn_ok
 (kl_ok (ok_aP (ok_aload_n dL_law_1878 rfl rfl)))
 (kl_ok (ok_callV (List.forall_mem_cons.mpr ⟨run_V (C0 := "FavourTownModel") rfl rfl (by rw [hm]; rfl) q1927 q1928 q1929 q92 q1930 ⟨nh_1, dl_4⟩ (by decide) dL_law_1879, (fun _ h => absurd h List.not_mem_nil)⟩) rfl))))))
 (kn_ok
 (kn_ok
 (kn_ok
 (kl_ok (ok_aP (ok_iload dL_law_1882 rfl)))
 (kl_ok (ok_aP (ok_icmp_eq dL_law_1884 rfl rfl))))
 (kn_ok
 (kl_ok (ok_aP (ok_iconst dL_law_1887 rfl rfl)))
 (kn_ok
 (kl_ok (ok_zret rfl z_boolean dL_law_1888))
 (kl_ok (ok_aP (ok_iload dL_law_1889 rfl))))))
 (kn_ok
 (kn_ok
 (kl_ok (ok_aP (ok_if_ne dL_law_1891 rfl rfl)))
 (kn_ok
 (kl_ok (ok_aP (ok_aload_n dL_law_1894 rfl rfl)))
 (kl_ok (ok_aP (ok_iconst dL_law_1895 rfl rfl)))))
 (kn_ok
 (kl_ok (ok_aP (ok_lald dL_law_1896 rfl)))
 (kn_ok
 (kl_ok (ok_aP (ok_iload dL_law_1897 rfl)))
 (kl_ok (ok_aP (ok_i2l dL_law_1899 rfl)))))))))))
 (kn_ok
 (kn_ok
 (kn_ok
 (kn_ok
 (kn_ok
 (kn_ok
 (kn_ok
 (kl_ok (ok_aP (ok_lcmp dL_law_1900 rfl)))
 (kl_ok (ok_aP (ok_if_eq dL_law_1901 rfl rfl))))
 (kn_ok
 (kl_ok (ok_aP (ok_iconst dL_law_1904 rfl rfl)))
 (kn_ok
 (kl_ok (ok_zret rfl z_boolean dL_law_1905))
 (kl_ok (ok_aP (ok_goto dL_law_1906 rfl))))))
 (kn_ok
 (kn_ok
 (kl_ok (ok_aP (ok_aload_n dL_law_1909 rfl rfl)))
 (kl_ok (ok_aP (ok_aload_n dL_law_1910 rfl rfl))))
 (kn_ok
 (kl_ok (ok_aP (ok_iload dL_law_1911 rfl)))
 (kn_ok
 (kl_ok (ok_aP (ok_iconst dL_law_1913 rfl rfl)))
 (kl_ok (ok_aP (ok_iadd dL_law_1914 rfl)))))))
 (kn_ok
 (kn_ok
 (kn_ok
 (kl_ok (ok_aP (ok_iald dL_law_1915 rfl)))
 (kl_ok (ok_aP (ok_aload_n dL_law_1916 rfl rfl))))
 (kn_ok
 (kl_ok (ok_callS (run_SX (by rw [hm]; rfl) q1811 q1812 q82 q1813 ⟨nh_2, dl_9⟩ (by decide) dL_law_1917) rfl))
 (kn_ok
 (kl_ok (ok_aP (ok_istore dL_law_1920 rfl)))
 (kl_ok (ok_aP (ok_aload_n dL_law_1922 rfl rfl))))))
 (kn_ok
 (kn_ok
 (kl_ok (ok_aP (ok_aload_n dL_law_1923 rfl rfl)))
 (kl_ok (ok_aP (ok_iload dL_law_1924 rfl))))
 (kn_ok
 (kl_ok (ok_aP (ok_iconst dL_law_1926 rfl rfl)))
 (kn_ok
 (kl_ok (ok_aP (ok_iadd dL_law_1927 rfl)))
 (kl_ok (ok_aP (ok_iald dL_law_1928 rfl))))))))
 (kn_ok
 (kn_ok
 (kn_ok
 (kn_ok
 (kl_ok (ok_callV (List.forall_mem_cons.mpr ⟨run_V (C0 := "FavourTownModel") rfl rfl (by rw [hm]; rfl) q2294 q2295 q2296 q92 q2297 ⟨nh_1, dl_10⟩ (by decide) dL_law_1929, (fun _ h => absurd h List.not_mem_nil)⟩) rfl))
 (kl_ok (ok_aP (ok_istore dL_law_1932 rfl))))
 (kn_ok
 (kl_ok (ok_aP (ok_aload_n dL_law_1934 rfl rfl)))
 (kn_ok
 (kl_ok (ok_callV (List.forall_mem_cons.mpr ⟨run_V (C0 := "FavourTownModel") rfl rfl (by rw [hm]; rfl) q1927 q1928 q1929 q92 q1930 ⟨nh_1, dl_4⟩ (by decide) dL_law_1935, (fun _ h => absurd h List.not_mem_nil)⟩) rfl))
 (kl_ok (ok_aP (ok_iload dL_law_1938 rfl))))))
 (kn_ok
 (kn_ok
 (kl_ok (ok_aP (ok_icmp_eq dL_law_1940 rfl rfl)))
 (kl_ok (ok_aP (ok_iconst dL_law_1943 rfl rfl))))
 (kn_ok
 (kl_ok (ok_zret rfl z_boolean dL_law_1944))
 (kn_ok
 (kl_ok (ok_aP (ok_iload dL_law_1945 rfl)))
 (kl_ok (ok_aP (ok_if_ne dL_law_1947 rfl rfl)))))))
 (kn_ok
 (kn_ok
 (kn_ok
 (kl_ok (ok_aP (ok_aload_n dL_law_1950 rfl rfl)))
 (kl_ok (ok_aP (ok_iconst dL_law_1951 rfl rfl))))
 (kn_ok
 (kl_ok (ok_aP (ok_lald dL_law_1952 rfl)))
 (kn_ok
 (kl_ok (ok_aP (ok_iload dL_law_1953 rfl)))
 (kl_ok (ok_aP (ok_i2l dL_law_1955 rfl))))))
 (kn_ok
 (kn_ok
 (kl_ok (ok_aP (ok_lcmp dL_law_1956 rfl)))
 (kl_ok (ok_aP (ok_if_eq dL_law_1957 rfl rfl))))
 (kn_ok
 (kl_ok (ok_aP (ok_iconst dL_law_1960 rfl rfl)))
 (kn_ok
 (kl_ok (ok_zret rfl z_boolean dL_law_1961))
 (kl_ok (ok_aP (ok_goto dL_law_1962 rfl)))))))))
 (kn_ok
 (kn_ok
 (kn_ok
 (kn_ok
 (kn_ok
 (kl_ok (ok_aP (ok_aload_n dL_law_1965 rfl rfl)))
 (kl_ok (ok_aP (ok_aload_n dL_law_1966 rfl rfl))))
 (kn_ok
 (kl_ok (ok_aP (ok_iload dL_law_1967 rfl)))
 (kn_ok
 (kl_ok (ok_aP (ok_iconst dL_law_1969 rfl rfl)))
 (kl_ok (ok_aP (ok_iadd dL_law_1970 rfl))))))
 (kn_ok
 (kn_ok
 (kl_ok (ok_aP (ok_iald dL_law_1971 rfl)))
 (kl_ok (ok_aP (ok_aload_n dL_law_1972 rfl rfl))))
 (kn_ok
 (kl_ok (ok_callS (run_SX (by rw [hm]; rfl) q1818 q1819 q82 q1820 ⟨nh_2, dl_9⟩ (by decide) dL_law_1973) rfl))
 (kn_ok
 (kl_ok (ok_aP (ok_istore dL_law_1976 rfl)))
 (kl_ok (ok_aP (ok_aload_n dL_law_1978 rfl rfl)))))))
 (kn_ok
 (kn_ok
 (kn_ok
 (kl_ok (ok_aP (ok_aload_n dL_law_1979 rfl rfl)))
 (kl_ok (ok_aP (ok_iload dL_law_1980 rfl))))
 (kn_ok
 (kl_ok (ok_aP (ok_iconst dL_law_1982 rfl rfl)))
 (kn_ok
 (kl_ok (ok_aP (ok_iadd dL_law_1983 rfl)))
 (kl_ok (ok_aP (ok_iald dL_law_1984 rfl))))))
 (kn_ok
 (kn_ok
 (kl_ok (ok_callV (List.forall_mem_cons.mpr ⟨run_V (C0 := "FavourTownModel") rfl rfl (by rw [hm]; rfl) q2298 q2299 q2300 q92 q2301 ⟨nh_1, dl_10⟩ (by decide) dL_law_1985, (fun _ h => absurd h List.not_mem_nil)⟩) rfl))
 (kl_ok (ok_aP (ok_istore dL_law_1988 rfl))))
 (kn_ok
 (kl_ok (ok_aP (ok_aload_n dL_law_1990 rfl rfl)))
 (kn_ok
 (kl_ok (ok_callV (List.forall_mem_cons.mpr ⟨run_V (C0 := "FavourTownModel") rfl rfl (by rw [hm]; rfl) q1927 q1928 q1929 q92 q1930 ⟨nh_1, dl_4⟩ (by decide) dL_law_1991, (fun _ h => absurd h List.not_mem_nil)⟩) rfl))
 (kl_ok (ok_aP (ok_iload dL_law_1994 rfl))))))))
 (kn_ok
 (kn_ok
 (kn_ok
 (kn_ok
 (kl_ok (ok_aP (ok_icmp_eq dL_law_1996 rfl rfl)))
 (kl_ok (ok_aP (ok_iconst dL_law_1999 rfl rfl))))
 (kn_ok
 (kl_ok (ok_zret rfl z_boolean dL_law_2000))
 (kn_ok
 (kl_ok (ok_aP (ok_iload dL_law_2001 rfl)))
 (kl_ok (ok_aP (ok_if_ne dL_law_2003 rfl rfl))))))
 (kn_ok
 (kn_ok
 (kl_ok (ok_aP (ok_aload_n dL_law_2006 rfl rfl)))
 (kl_ok (ok_aP (ok_iconst dL_law_2007 rfl rfl))))
 (kn_ok
 (kl_ok (ok_aP (ok_lald dL_law_2008 rfl)))
 (kn_ok
 (kl_ok (ok_aP (ok_iload dL_law_2009 rfl)))
 (kl_ok (ok_aP (ok_i2l dL_law_2011 rfl)))))))
 (kn_ok
 (kn_ok
 (kn_ok
 (kl_ok (ok_aP (ok_lcmp dL_law_2012 rfl)))
 (kl_ok (ok_aP (ok_if_eq dL_law_2013 rfl rfl))))
 (kn_ok
 (kl_ok (ok_aP (ok_iconst dL_law_2016 rfl rfl)))
 (kn_ok
 (kl_ok (ok_zret rfl z_boolean dL_law_2017))
 (kl_ok (ok_aP (ok_goto dL_law_2018 rfl))))))
 (kn_ok
 (kn_ok
 (kl_ok (ok_aP (ok_aload_n dL_law_2021 rfl rfl)))
 (kn_ok
 (kl_ok (ok_aP (ok_aload_n dL_law_2022 rfl rfl)))
 (kl_ok (ok_aP (ok_iload dL_law_2023 rfl)))))
 (kn_ok
 (kl_ok (ok_aP (ok_iconst dL_law_2025 rfl rfl)))
 (kn_ok
 (kl_ok (ok_aP (ok_iadd dL_law_2026 rfl)))
 (kl_ok (ok_aP (ok_iald dL_law_2027 rfl))))))))))
 (kn_ok
 (kn_ok
 (kn_ok
 (kn_ok
 (kn_ok
 (kn_ok
 (kl_ok (ok_aP (ok_aload_n dL_law_2028 rfl rfl)))
 (kl_ok (ok_aP (ok_iload dL_law_2029 rfl))))
 (kn_ok
 (kl_ok (ok_aP (ok_iconst dL_law_2031 rfl rfl)))
 (kn_ok
 (kl_ok (ok_aP (ok_iadd dL_law_2032 rfl)))
 (kl_ok (ok_aP (ok_iald dL_law_2033 rfl))))))
 (kn_ok
 (kn_ok
 (kl_ok (ok_aP (ok_aload_n dL_law_2034 rfl rfl)))
 (kl_ok (ok_aP (ok_iload dL_law_2035 rfl))))
 (kn_ok
 (kl_ok (ok_aP (ok_iconst dL_law_2037 rfl rfl)))
 (kn_ok
 (kl_ok (ok_aP (ok_iadd dL_law_2038 rfl)))
 (kl_ok (ok_aP (ok_iald dL_law_2039 rfl)))))))
 (kn_ok
 (kn_ok
 (kn_ok
 (kl_ok (ok_aP (ok_aload_n dL_law_2040 rfl rfl)))
 (kl_ok (ok_callS (run_SX (by rw [hm]; rfl) q1825 q1826 q82 q1827 ⟨nh_2, dl_12⟩ (by decide) dL_law_2041) rfl)))
 (kn_ok
 (kl_ok (ok_aP (ok_istore dL_law_2044 rfl)))
 (kn_ok
 (kl_ok (ok_aP (ok_aload_n dL_law_2046 rfl rfl)))
 (kl_ok (ok_aP (ok_aload_n dL_law_2047 rfl rfl))))))
 (kn_ok
 (kn_ok
 (kl_ok (ok_aP (ok_iload dL_law_2048 rfl)))
 (kl_ok (ok_aP (ok_iconst dL_law_2050 rfl rfl))))
 (kn_ok
 (kl_ok (ok_aP (ok_iadd dL_law_2051 rfl)))
 (kn_ok
 (kl_ok (ok_aP (ok_iald dL_law_2052 rfl)))
 (kl_ok (ok_aP (ok_aload_n dL_law_2053 rfl rfl))))))))
 (kn_ok
 (kn_ok
 (kn_ok
 (kn_ok
 (kl_ok (ok_aP (ok_iload dL_law_2054 rfl)))
 (kl_ok (ok_aP (ok_iconst dL_law_2056 rfl rfl))))
 (kn_ok
 (kl_ok (ok_aP (ok_iadd dL_law_2057 rfl)))
 (kn_ok
 (kl_ok (ok_aP (ok_iald dL_law_2058 rfl)))
 (kl_ok (ok_aP (ok_aload_n dL_law_2059 rfl rfl))))))
 (kn_ok
 (kn_ok
 (kl_ok (ok_aP (ok_iload dL_law_2060 rfl)))
 (kl_ok (ok_aP (ok_iconst dL_law_2062 rfl rfl))))
 (kn_ok
 (kl_ok (ok_aP (ok_iadd dL_law_2063 rfl)))
 (kn_ok
 (kl_ok (ok_aP (ok_iald dL_law_2064 rfl)))
 (kl_ok (ok_callV (List.forall_mem_cons.mpr ⟨run_V (C0 := "FavourTownModel") rfl rfl (by rw [hm]; rfl) q2302 q2303 q2304 q92 q2305 ⟨nh_1, dl_13⟩ (by decide) dL_law_2065, (fun _ h => absurd h List.not_mem_nil)⟩) rfl))))))
 (kn_ok
 (kn_ok
 (kn_ok
 (kl_ok (ok_aP (ok_istore dL_law_2068 rfl)))
 (kl_ok (ok_aP (ok_aload_n dL_law_2070 rfl rfl))))
 (kn_ok
 (kl_ok (ok_callV (List.forall_mem_cons.mpr ⟨run_V (C0 := "FavourTownModel") rfl rfl (by rw [hm]; rfl) q1927 q1928 q1929 q92 q1930 ⟨nh_1, dl_4⟩ (by decide) dL_law_2071, (fun _ h => absurd h List.not_mem_nil)⟩) rfl))
 (kn_ok
 (kl_ok (ok_aP (ok_iload dL_law_2074 rfl)))
 (kl_ok (ok_aP (ok_icmp_eq dL_law_2076 rfl rfl))))))
 (kn_ok
 (kn_ok
 (kl_ok (ok_aP (ok_iconst dL_law_2079 rfl rfl)))
 (kn_ok
 (kl_ok (ok_zret rfl z_boolean dL_law_2080))
 (kl_ok (ok_aP (ok_iload dL_law_2081 rfl)))))
 (kn_ok
 (kl_ok (ok_aP (ok_if_ne dL_law_2083 rfl rfl)))
 (kn_ok
 (kl_ok (ok_aP (ok_aload_n dL_law_2086 rfl rfl)))
 (kl_ok (ok_aP (ok_iconst dL_law_2087 rfl rfl)))))))))
 (kn_ok
 (kn_ok
 (kn_ok
 (kn_ok
 (kn_ok
 (kl_ok (ok_aP (ok_lald dL_law_2088 rfl)))
 (kl_ok (ok_aP (ok_iload dL_law_2089 rfl))))
 (kn_ok
 (kl_ok (ok_aP (ok_i2l dL_law_2091 rfl)))
 (kn_ok
 (kl_ok (ok_aP (ok_lcmp dL_law_2092 rfl)))
 (kl_ok (ok_aP (ok_if_eq dL_law_2093 rfl rfl))))))
 (kn_ok
 (kn_ok
 (kl_ok (ok_aP (ok_iconst dL_law_2096 rfl rfl)))
 (kl_ok (ok_zret rfl z_boolean dL_law_2097)))
 (kn_ok
 (kl_ok (ok_aP (ok_goto dL_law_2098 rfl)))
 (kn_ok
 (kl_ok (ok_aP (ok_aload_n dL_law_2101 rfl rfl)))
 (kl_ok (ok_callV (List.forall_mem_cons.mpr ⟨run_V (C0 := "FavourTown") rfl rfl (by rw [hm]; rfl) q573 q574 q575 q83 q576 ⟨nh_0, dl_0⟩ (by decide) dL_law_2102, (fun _ h => absurd h List.not_mem_nil)⟩) rfl))))))
 (kn_ok
 (kn_ok
 (kn_ok
 (kl_ok (ok_aP (ok_aload_n dL_law_2105 rfl rfl)))
 (kl_ok (ok_callV (List.forall_mem_cons.mpr ⟨run_V (C0 := "FavourTownModel") rfl rfl (by rw [hm]; rfl) q2311 q2312 q2313 q92 q2314 ⟨nh_1, dl_0⟩ (by decide) dL_law_2106, (fun _ h => absurd h List.not_mem_nil)⟩) rfl)))
 (kn_ok
 (kl_ok (ok_aP (ok_goto dL_law_2109 rfl)))
 (kn_ok
 (kl_ok (ok_aP (ok_aload_n dL_law_2112 rfl rfl)))
 (kl_ok (ok_callV (List.forall_mem_cons.mpr ⟨run_V (C0 := "FavourTown") rfl rfl (by rw [hm]; rfl) q748 q749 q750 q83 q751 ⟨nh_0, dl_16⟩ (by decide) dL_law_2113, (fun _ h => absurd h List.not_mem_nil)⟩) rfl)))))
 (kn_ok
 (kn_ok
 (kl_ok (ok_aP (ok_aload_n dL_law_2116 rfl rfl)))
 (kl_ok (ok_callV (List.forall_mem_cons.mpr ⟨run_V (C0 := "FavourTownModel") rfl rfl (by rw [hm]; rfl) q2315 q2316 q2317 q92 q2318 ⟨nh_1, dl_16⟩ (by decide) dL_law_2117, (fun _ h => absurd h List.not_mem_nil)⟩) rfl)))
 (kn_ok
 (kl_ok (ok_aP (ok_icmp_eq dL_law_2120 rfl rfl)))
 (kn_ok
 (kl_ok (ok_aP (ok_iconst dL_law_2123 rfl rfl)))
 (kl_ok (ok_zret rfl z_boolean dL_law_2124)))))))
 (kn_ok
 (kn_ok
 (kn_ok
 (kn_ok
 (kl_ok (ok_aP (ok_aload_n dL_law_2125 rfl rfl)))
 (kl_ok (ok_aP (ok_aload_n dL_law_2126 rfl rfl))))
 (kn_ok
 (kl_ok (ok_aP (ok_iload dL_law_2127 rfl)))
 (kn_ok
 (kl_ok (ok_aP (ok_iconst dL_law_2129 rfl rfl)))
 (kl_ok (ok_aP (ok_iadd dL_law_2130 rfl))))))
 (kn_ok
 (kn_ok
 (kl_ok (ok_aP (ok_iald dL_law_2131 rfl)))
 (kl_ok (ok_callV (List.forall_mem_cons.mpr ⟨run_V (C0 := "FavourTown") rfl rfl (by rw [hm]; rfl) q752 q753 q754 q83 q755 ⟨nh_0, dl_10⟩ (by decide) dL_law_2132, (fun _ h => absurd h List.not_mem_nil)⟩) rfl)))
 (kn_ok
 (kl_ok (ok_aP (ok_aload_n dL_law_2135 rfl rfl)))
 (kn_ok
 (kl_ok (ok_aP (ok_aload_n dL_law_2136 rfl rfl)))
 (kl_ok (ok_aP (ok_iload dL_law_2137 rfl)))))))
 (kn_ok
 (kn_ok
 (kn_ok
 (kl_ok (ok_aP (ok_iconst dL_law_2139 rfl rfl)))
 (kl_ok (ok_aP (ok_iadd dL_law_2140 rfl))))
 (kn_ok
 (kl_ok (ok_aP (ok_iald dL_law_2141 rfl)))
 (kn_ok
 (kl_ok (ok_callV (List.forall_mem_cons.mpr ⟨run_V (C0 := "FavourTownModel") rfl rfl (by rw [hm]; rfl) q2319 q2320 q2321 q92 q2322 ⟨nh_1, dl_10⟩ (by decide) dL_law_2142, (fun _ h => absurd h List.not_mem_nil)⟩) rfl))
 (kl_ok (ok_aP (ok_icmp_eq dL_law_2145 rfl rfl))))))
 (kn_ok
 (kn_ok
 (kl_ok (ok_aP (ok_iconst dL_law_2148 rfl rfl)))
 (kn_ok
 (kl_ok (ok_zret rfl z_boolean dL_law_2149))
 (kl_ok (ok_aP (ok_iinc dL_law_2150 (by decide +kernel) rfl)))))
 (kn_ok
 (kl_ok (ok_aP (ok_goto dL_law_2153 rfl)))
 (kn_ok
 (kl_ok (ok_aP (ok_iconst dL_law_2156 rfl rfl)))
 (kl_ok (ok_zret rfl z_boolean dL_law_2157))))))))))))
